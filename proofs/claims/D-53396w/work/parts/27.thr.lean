/-! what is needed -/
set_option maxRecDepth 100000
/-- one of the JDK's, thrown at once: where P, nothing written -/
def n_px (H : Heap) (P : Prop) (cls : String) (E : String) (q : Nat) (H1 : Heap) : Prop := P ∧ E = cls ∧ b_Ext H H1
set_option maxHeartbeats 2000000 in
set_option maxRecDepth 100000 in
theorem m_X1_need (l : Launch) {G : b_G} {B0 : Nat} {H : Heap} {x : Int32} (hlt : l.stackTraces = false) : vx_Met l yX1_need (ws_ yX1_need cX1_need 1 (Option.none)) ({ frames := 6, cells := 1, slots := 6, locals := 89 } : Room) (b_Pc G B0 H [.int x]) (b_Qv B0 (fun H1 => (¬ x = 0) ∧ H1 = H)) (b_X B0 (fun E9 q9 H9 => n_px H (x = 0) "java/lang/IllegalArgumentException" E9 q9 H9)) 1 6 (b_A B0) := by
  refine b_ofX (by decide) (Nat.le_of_ble_eq_true rfl) ?_
  intro p e s m below meth c CX hr hlk htb hS ls hl
  have CX : b_Cx p s m _ c cX1_need 1 RX1 G B0 := CX
  have hx := CX.hx
  have hb := CX.hb
  have hl : lv_has ls 1 [(0, .int x)] := hl
  generalize hQ : vx_MQ below (b_Qv B0 (fun H1 => (¬ x = 0) ∧ H1 = H)) (b_X B0 (fun E9 q9 H9 => n_px H (x = 0) "java/lang/IllegalArgumentException" E9 q9 H9)) ([.int x] : List Value).toArray s 1 6 (b_A B0) = Q
  obtain ⟨τ, -⟩ : ∃ τ : b_T, True := ⟨fun _ => 0, trivial⟩
  refine lv_iload_n hx hb dX1_need_0 rfl (lv_at hl 0 rfl) ?_
  refine lv_if_ne (tgt := 12) hx hb dX1_need_1 (by decide) (fun c_1 => ?_) (fun c_1 => ?_)
  · rw [← hQ]
    exact vx_ret (b_vret CX hr hlk hS (Nat.le_of_ble_eq_true rfl) (Nat.le_of_ble_eq_true rfl) dX1_need_12 (⟨(by exact c_1), rfl⟩))
  · rw [← hQ]
    exact b_throw0 CX hlt (names := ["java/lang/RuntimeException", "java/lang/Exception"]) (by decide) (by decide) q933 q92 (vx_f (fun _ => CX.ts _ q89) (vx_f (fun _ => CX.ts _ q499) (vx_f (fun _ => CX.ts _ q508) (vx_f (fun _ => CX.ts _ q518) (vx_f (fun _ => CX.ts _ q521) (vx_f (fun _ => CX.ts _ q523) (vx_f (fun _ => CX.ts _ q500) (vx_f (fun _ => CX.ts _ q501) (vx_f (fun _ => CX.ts _ q132) (vx_f (fun _ => CX.ts _ q133) (vx_f (fun _ => CX.ts _ q502) (vx_f (fun _ => CX.ts _ q507) (vx_f (fun _ => CX.ts _ q519) (vx_f (fun _ => CX.ts _ q544) (vx_f (fun _ => CX.ts _ q489) (vx_f (fun _ => CX.ts _ q545) (vx_f (fun _ => CX.ts _ q491) (vx_f (fun _ => CX.ts _ q546) (vx_f (fun _ => CX.ts _ q493) (vx_f (fun _ => CX.ts _ q503) (vx_f (fun h9 => absurd h9 (by decide)) (vx_f (fun _ => CX.ts _ q505) (vx_f (fun h9 => absurd h9 (by decide)) (vx_f (fun _ => CX.ts _ q495) (vx_f (fun _ => CX.ts _ q935) (vx_f (fun _ => CX.ts _ q936) (vx_f (fun _ => CX.ts _ q937) (vx_f (fun _ => CX.ts _ q938) (vx_f (fun _ => CX.nw q480 rfl rfl) (vx_f (fun _ => CX.ts _ q938) (vx_f (fun _ => CX.ts _ q939) (vx_f (fun _ => CX.ts _ q940) (vx_f (fun _ => CX.ts _ q941) (vx_f (fun _ => CX.nw q482 rfl rfl) (vx_f (fun _ => CX.ts _ q941) (vx_f (fun _ => CX.ts _ q942) (vx_f (fun _ => CX.ts _ q943) (vx_f (fun _ => CX.ts _ q500) (vx_f (fun _ => CX.nw q484 rfl rfl) (vx_f (fun _ => CX.ts _ q934) (vx_f (fun _ => CX.ts _ q478) (vx_f (fun _ => CX.nw q479 rfl rfl) (vx_f (fun _ => CX.ts _ q486) (vx_f (fun _ => CX.ts _ q487) (vx_f (fun _ => CX.ts _ q488) (vx_f (fun _ => CX.ts _ q490) (vx_f (fun _ => CX.ts _ q492) (vx_f (fun _ => CX.ts _ q494) (vx_f (fun h9 => absurd h9 (by decide)) (vx_f (fun h9 => absurd h9 (by decide)) (vx_f (fun _ => CX.ts _ q498) (vx_f (fun _ => CX.ts _ q497) (vx_f (fun _ => CX.ts _ q496) vx_f0))))))))))))))))))))))))))))))))))))))))))))))))))))) (by decide +kernel) hS hl.1 dX1_need_4 dX1_need_7 dX1_need_8 dX1_need_11 htb (by decide) (by decide) (by decide) (by decide) hlk (by decide) (by decide) (fun _ h9 => ⟨c_1, rfl, h9⟩)
set_option maxHeartbeats 2000000 in
set_option maxRecDepth 100000 in
theorem m_X1_needIndex (l : Launch) {G : b_G} {B0 : Nat} {H : Heap} {x : Int32} (hlt : l.stackTraces = false) : vx_Met l yX1_needIndex (ws_ yX1_needIndex cX1_needIndex 1 (Option.none)) ({ frames := 6, cells := 1, slots := 6, locals := 89 } : Room) (b_Pc G B0 H [.int x]) (b_Qv B0 (fun H1 => (¬ x = 0) ∧ H1 = H)) (b_X B0 (fun E9 q9 H9 => n_px H (x = 0) "java/lang/IndexOutOfBoundsException" E9 q9 H9)) 1 6 (b_A B0) := by
  refine b_ofX (by decide) (Nat.le_of_ble_eq_true rfl) ?_
  intro p e s m below meth c CX hr hlk htb hS ls hl
  have CX : b_Cx p s m _ c cX1_needIndex 1 RX1 G B0 := CX
  have hx := CX.hx
  have hb := CX.hb
  have hl : lv_has ls 1 [(0, .int x)] := hl
  generalize hQ : vx_MQ below (b_Qv B0 (fun H1 => (¬ x = 0) ∧ H1 = H)) (b_X B0 (fun E9 q9 H9 => n_px H (x = 0) "java/lang/IndexOutOfBoundsException" E9 q9 H9)) ([.int x] : List Value).toArray s 1 6 (b_A B0) = Q
  obtain ⟨τ, -⟩ : ∃ τ : b_T, True := ⟨fun _ => 0, trivial⟩
  refine lv_iload_n hx hb dX1_needIndex_0 rfl (lv_at hl 0 rfl) ?_
  refine lv_if_ne (tgt := 12) hx hb dX1_needIndex_1 (by decide) (fun c_1 => ?_) (fun c_1 => ?_)
  · rw [← hQ]
    exact vx_ret (b_vret CX hr hlk hS (Nat.le_of_ble_eq_true rfl) (Nat.le_of_ble_eq_true rfl) dX1_needIndex_12 (⟨(by exact c_1), rfl⟩))
  · rw [← hQ]
    exact b_throw0 CX hlt (names := ["java/lang/RuntimeException", "java/lang/Exception"]) (by decide) (by decide) q1123 q102 (vx_f (fun _ => CX.ts _ q89) (vx_f (fun _ => CX.ts _ q499) (vx_f (fun _ => CX.ts _ q508) (vx_f (fun _ => CX.ts _ q518) (vx_f (fun _ => CX.ts _ q521) (vx_f (fun _ => CX.ts _ q523) (vx_f (fun _ => CX.ts _ q500) (vx_f (fun _ => CX.ts _ q501) (vx_f (fun _ => CX.ts _ q132) (vx_f (fun _ => CX.ts _ q133) (vx_f (fun _ => CX.ts _ q502) (vx_f (fun _ => CX.ts _ q507) (vx_f (fun _ => CX.ts _ q519) (vx_f (fun _ => CX.ts _ q544) (vx_f (fun _ => CX.ts _ q489) (vx_f (fun _ => CX.ts _ q545) (vx_f (fun _ => CX.ts _ q491) (vx_f (fun _ => CX.ts _ q546) (vx_f (fun _ => CX.ts _ q493) (vx_f (fun _ => CX.ts _ q503) (vx_f (fun h9 => absurd h9 (by decide)) (vx_f (fun _ => CX.ts _ q505) (vx_f (fun h9 => absurd h9 (by decide)) (vx_f (fun _ => CX.ts _ q495) (vx_f (fun _ => CX.ts _ q1133) (vx_f (fun _ => CX.ts _ q1134) (vx_f (fun _ => CX.ts _ q1135) (vx_f (fun _ => CX.ts _ q938) (vx_f (fun _ => CX.nw q480 rfl rfl) (vx_f (fun _ => CX.ts _ q938) (vx_f (fun _ => CX.ts _ q939) (vx_f (fun _ => CX.ts _ q940) (vx_f (fun _ => CX.ts _ q941) (vx_f (fun _ => CX.nw q482 rfl rfl) (vx_f (fun _ => CX.ts _ q941) (vx_f (fun _ => CX.ts _ q942) (vx_f (fun _ => CX.ts _ q943) (vx_f (fun _ => CX.ts _ q500) (vx_f (fun _ => CX.nw q484 rfl rfl) (vx_f (fun _ => CX.ts _ q1132) (vx_f (fun _ => CX.ts _ q1124) (vx_f (fun _ => CX.nw q1125 rfl rfl) (vx_f (fun _ => CX.ts _ q1126) (vx_f (fun _ => CX.ts _ q516) (vx_f (fun _ => CX.ts _ q1127) (vx_f (fun _ => CX.ts _ q1128) (vx_f (fun _ => CX.ts _ q1129) (vx_f (fun _ => CX.ts _ q1130) (vx_f (fun h9 => absurd h9 (by decide)) (vx_f (fun h9 => absurd h9 (by decide)) (vx_f (fun _ => CX.ts _ q498) (vx_f (fun _ => CX.ts _ q497) (vx_f (fun _ => CX.ts _ q1131) vx_f0))))))))))))))))))))))))))))))))))))))))))))))))))))) (by decide +kernel) hS hl.1 dX1_needIndex_4 dX1_needIndex_7 dX1_needIndex_8 dX1_needIndex_11 htb (by decide) (by decide) (by decide) (by decide) hlk (by decide) (by decide) (fun _ h9 => ⟨c_1, rfl, h9⟩)
set_option maxHeartbeats 2000000 in
set_option maxRecDepth 100000 in
theorem m_X1_needState (l : Launch) {G : b_G} {B0 : Nat} {H : Heap} {x : Int32} (hlt : l.stackTraces = false) : vx_Met l yX1_needState (ws_ yX1_needState cX1_needState 1 (Option.none)) ({ frames := 6, cells := 1, slots := 6, locals := 89 } : Room) (b_Pc G B0 H [.int x]) (b_Qv B0 (fun H1 => (¬ x = 0) ∧ H1 = H)) (b_X B0 (fun E9 q9 H9 => n_px H (x = 0) "java/lang/IllegalStateException" E9 q9 H9)) 1 6 (b_A B0) := by
  refine b_ofX (by decide) (Nat.le_of_ble_eq_true rfl) ?_
  intro p e s m below meth c CX hr hlk htb hS ls hl
  have CX : b_Cx p s m _ c cX1_needState 1 RX1 G B0 := CX
  have hx := CX.hx
  have hb := CX.hb
  have hl : lv_has ls 1 [(0, .int x)] := hl
  generalize hQ : vx_MQ below (b_Qv B0 (fun H1 => (¬ x = 0) ∧ H1 = H)) (b_X B0 (fun E9 q9 H9 => n_px H (x = 0) "java/lang/IllegalStateException" E9 q9 H9)) ([.int x] : List Value).toArray s 1 6 (b_A B0) = Q
  obtain ⟨τ, -⟩ : ∃ τ : b_T, True := ⟨fun _ => 0, trivial⟩
  refine lv_iload_n hx hb dX1_needState_0 rfl (lv_at hl 0 rfl) ?_
  refine lv_if_ne (tgt := 12) hx hb dX1_needState_1 (by decide) (fun c_1 => ?_) (fun c_1 => ?_)
  · rw [← hQ]
    exact vx_ret (b_vret CX hr hlk hS (Nat.le_of_ble_eq_true rfl) (Nat.le_of_ble_eq_true rfl) dX1_needState_12 (⟨(by exact c_1), rfl⟩))
  · rw [← hQ]
    exact b_throw0 CX hlt (names := ["java/lang/RuntimeException", "java/lang/Exception"]) (by decide) (by decide) q947 q93 (vx_f (fun _ => CX.ts _ q89) (vx_f (fun _ => CX.ts _ q499) (vx_f (fun _ => CX.ts _ q508) (vx_f (fun _ => CX.ts _ q518) (vx_f (fun _ => CX.ts _ q521) (vx_f (fun _ => CX.ts _ q523) (vx_f (fun _ => CX.ts _ q500) (vx_f (fun _ => CX.ts _ q501) (vx_f (fun _ => CX.ts _ q132) (vx_f (fun _ => CX.ts _ q133) (vx_f (fun _ => CX.ts _ q502) (vx_f (fun _ => CX.ts _ q507) (vx_f (fun _ => CX.ts _ q519) (vx_f (fun _ => CX.ts _ q544) (vx_f (fun _ => CX.ts _ q489) (vx_f (fun _ => CX.ts _ q545) (vx_f (fun _ => CX.ts _ q491) (vx_f (fun _ => CX.ts _ q546) (vx_f (fun _ => CX.ts _ q493) (vx_f (fun _ => CX.ts _ q503) (vx_f (fun h9 => absurd h9 (by decide)) (vx_f (fun _ => CX.ts _ q505) (vx_f (fun h9 => absurd h9 (by decide)) (vx_f (fun _ => CX.ts _ q495) (vx_f (fun _ => CX.ts _ q957) (vx_f (fun _ => CX.ts _ q958) (vx_f (fun _ => CX.ts _ q959) (vx_f (fun _ => CX.ts _ q938) (vx_f (fun _ => CX.nw q480 rfl rfl) (vx_f (fun _ => CX.ts _ q938) (vx_f (fun _ => CX.ts _ q939) (vx_f (fun _ => CX.ts _ q940) (vx_f (fun _ => CX.ts _ q941) (vx_f (fun _ => CX.nw q482 rfl rfl) (vx_f (fun _ => CX.ts _ q941) (vx_f (fun _ => CX.ts _ q942) (vx_f (fun _ => CX.ts _ q943) (vx_f (fun _ => CX.ts _ q500) (vx_f (fun _ => CX.nw q484 rfl rfl) (vx_f (fun _ => CX.ts _ q956) (vx_f (fun _ => CX.ts _ q948) (vx_f (fun _ => CX.nw q949 rfl rfl) (vx_f (fun _ => CX.ts _ q950) (vx_f (fun _ => CX.ts _ q515) (vx_f (fun _ => CX.ts _ q951) (vx_f (fun _ => CX.ts _ q952) (vx_f (fun _ => CX.ts _ q953) (vx_f (fun _ => CX.ts _ q954) (vx_f (fun h9 => absurd h9 (by decide)) (vx_f (fun h9 => absurd h9 (by decide)) (vx_f (fun _ => CX.ts _ q498) (vx_f (fun _ => CX.ts _ q497) (vx_f (fun _ => CX.ts _ q955) vx_f0))))))))))))))))))))))))))))))))))))))))))))))))))))) (by decide +kernel) hS hl.1 dX1_needState_4 dX1_needState_7 dX1_needState_8 dX1_needState_11 htb (by decide) (by decide) (by decide) (by decide) hlk (by decide) (by decide) (fun _ h9 => ⟨c_1, rfl, h9⟩)
theorem pf_J7_7_18 {p : Program} {l : Launch} {e : Env} {R : Room} {s : State} {m : MethodId} {args : Array Value} {below : List Frame} {meth : Method} {c : Code} {H : Heap} {locs : List Loc} {cells slots : Nat} {Q : State → Prop} {cc : ByteArray} {pc nL a : Nat} {ls : Array Slot} {rest : List Value} {G : b_G} {B0 : Nat} (CX : b_Cx p s m args c cc nL RJ7 G B0) {fs : List Value} (hP : b_at G a (.inr (18, fs)) H) (hS : va_S (b_A B0) s.heap H locs) (ha : B0 ≤ a) {v : Value} (hn : narrow (tyX9 0) v = v) (hfit : fits (tyX9 0) v = true) (hl : 0 < fs.length) (hdg : decode cc pc = .ok (.putfield 7, 3)) (kk : ∀ (H1 : Heap) (locs1 : List Loc), b_at G a (.inr (18, fs.set 0 v)) H1 → b_Up a H H1 → va_S (b_A B0) s.heap H1 locs1 → W p l e R s m args below meth c H1 locs1 cells slots Q (F0 m (pc + 3) ls rest)) : W p l e R s m args below meth c H locs cells slots Q (F0 m pc ls (v :: .ref a :: rest)) := b_put CX in_X9 tyX9 tyX9_ok rfl 0 (by decide) (by decide +kernel) q544 (Or.inl rfl) rfl hP hS ha hn hfit hl hdg kk
theorem pf_J7_17_18 {p : Program} {l : Launch} {e : Env} {R : Room} {s : State} {m : MethodId} {args : Array Value} {below : List Frame} {meth : Method} {c : Code} {H : Heap} {locs : List Loc} {cells slots : Nat} {Q : State → Prop} {cc : ByteArray} {pc nL a : Nat} {ls : Array Slot} {rest : List Value} {G : b_G} {B0 : Nat} (CX : b_Cx p s m args c cc nL RJ7 G B0) {fs : List Value} (hP : b_at G a (.inr (18, fs)) H) (hS : va_S (b_A B0) s.heap H locs) (ha : B0 ≤ a) {v : Value} (hn : narrow (tyX9 1) v = v) (hfit : fits (tyX9 1) v = true) (hl : 1 < fs.length) (hdg : decode cc pc = .ok (.putfield 17, 3)) (kk : ∀ (H1 : Heap) (locs1 : List Loc), b_at G a (.inr (18, fs.set 1 v)) H1 → b_Up a H H1 → va_S (b_A B0) s.heap H1 locs1 → W p l e R s m args below meth c H1 locs1 cells slots Q (F0 m (pc + 3) ls rest)) : W p l e R s m args below meth c H locs cells slots Q (F0 m pc ls (v :: .ref a :: rest)) := b_put CX in_X9 tyX9 tyX9_ok rfl 1 (by decide) (by decide +kernel) q545 (Or.inl rfl) rfl hP hS ha hn hfit hl hdg kk
theorem pf_J7_24_18 {p : Program} {l : Launch} {e : Env} {R : Room} {s : State} {m : MethodId} {args : Array Value} {below : List Frame} {meth : Method} {c : Code} {H : Heap} {locs : List Loc} {cells slots : Nat} {Q : State → Prop} {cc : ByteArray} {pc nL a : Nat} {ls : Array Slot} {rest : List Value} {G : b_G} {B0 : Nat} (CX : b_Cx p s m args c cc nL RJ7 G B0) {fs : List Value} (hP : b_at G a (.inr (18, fs)) H) (hS : va_S (b_A B0) s.heap H locs) (ha : B0 ≤ a) {v : Value} (hn : narrow (tyX9 2) v = v) (hfit : fits (tyX9 2) v = true) (hl : 2 < fs.length) (hdg : decode cc pc = .ok (.putfield 24, 3)) (kk : ∀ (H1 : Heap) (locs1 : List Loc), b_at G a (.inr (18, fs.set 2 v)) H1 → b_Up a H H1 → va_S (b_A B0) s.heap H1 locs1 → W p l e R s m args below meth c H1 locs1 cells slots Q (F0 m (pc + 3) ls rest)) : W p l e R s m args below meth c H locs cells slots Q (F0 m pc ls (v :: .ref a :: rest)) := b_put CX in_X9 tyX9 tyX9_ok rfl 2 (by decide) (by decide +kernel) q546 (Or.inl rfl) rfl hP hS ha hn hfit hl hdg kk
theorem pf_J7_31_18 {p : Program} {l : Launch} {e : Env} {R : Room} {s : State} {m : MethodId} {args : Array Value} {below : List Frame} {meth : Method} {c : Code} {H : Heap} {locs : List Loc} {cells slots : Nat} {Q : State → Prop} {cc : ByteArray} {pc nL a : Nat} {ls : Array Slot} {rest : List Value} {G : b_G} {B0 : Nat} (CX : b_Cx p s m args c cc nL RJ7 G B0) {fs : List Value} (hP : b_at G a (.inr (18, fs)) H) (hS : va_S (b_A B0) s.heap H locs) (ha : B0 ≤ a) {v : Value} (hn : narrow (tyX9 3) v = v) (hfit : fits (tyX9 3) v = true) (hl : 3 < fs.length) (hdg : decode cc pc = .ok (.putfield 31, 3)) (kk : ∀ (H1 : Heap) (locs1 : List Loc), b_at G a (.inr (18, fs.set 3 v)) H1 → b_Up a H H1 → va_S (b_A B0) s.heap H1 locs1 → W p l e R s m args below meth c H1 locs1 cells slots Q (F0 m (pc + 3) ls rest)) : W p l e R s m args below meth c H locs cells slots Q (F0 m pc ls (v :: .ref a :: rest)) := b_put CX in_X9 tyX9 tyX9_ok rfl 3 (by decide) (by decide +kernel) q543 (Or.inl rfl) rfl hP hS ha hn hfit hl hdg kk
set_option maxHeartbeats 2000000 in
set_option maxRecDepth 100000 in
theorem m_J7_init_3_18 (l : Launch) {G : b_G} {B0 : Nat} {H : Heap} {τ : b_T} {a : Nat} {ta : Nat} (hc_th : b_tt G B0 τ H a (ta) (.inr (18, [.null, .null, .null, .null, .null, .int (nI 0)]))) : Met l yJ7_init_3 (ws_ yJ7_init_3 cJ7_init_3 5 (Option.none)) ({ frames := 1, cells := 0, slots := 0, locals := 20 } : Room) (b_Pc G B0 H [.ref a, .null, .null, .int (nI 0), .int (nI 0)]) (b_Qv B0 (fun H1 => b_Up a H H1 ∧ b_tt G B0 τ H1 a (ta) (.inr (18, [.null, .null, .null, .null, .null, .int (nI 0)])))) 0 0 (b_A B0) := by
  refine b_of (by decide) (Nat.le_of_ble_eq_true rfl) ?_
  intro p e s m below meth c CX hr hlk hnm hS ls hl
  have CX : b_Cx p s m _ c cJ7_init_3 5 RJ7 G B0 := CX
  have hx := CX.hx
  have hb := CX.hb
  have hl : lv_has ls 5 [(0, .ref a), (1, .null), (2, .null), (3, .int (nI 0)), (4, .int (nI 0))] := hl
  generalize hQ : MQ below (b_Qv B0 (fun H1 => b_Up a H H1 ∧ b_tt G B0 τ H1 a (ta) (.inr (18, [.null, .null, .null, .null, .null, .int (nI 0)])))) ([.ref a, .null, .null, .int (nI 0), .int (nI 0)] : List Value).toArray s 0 0 (b_A B0) = Q
  have hU : b_Up a H H := b_Up.rf
  refine lv_aload_n hx hb dJ7_init_3_0 rfl (lv_at hl 0 rfl) ?_
  refine W.objInit hx hb CX.ow (CX.ts _ q502) (CX.ts _ q132) (CX.ts _ q133) rfl (by rw [CX.ml]; exact hl.1) rfl dJ7_init_3_1 (Nat.le_of_ble_eq_true rfl) (Nat.le_of_ble_eq_true rfl) ?_
  refine W.eq (g2 := F0 m 4 ls []) rfl ?_
  refine lv_aload_n hx hb dJ7_init_3_4 rfl (lv_at hl 0 rfl) ?_
  refine lv_aload_n hx hb dJ7_init_3_5 rfl (lv_at hl 0 rfl) ?_
  refine pf_J7_7_18 CX hc_th.at hS hc_th.B rfl rfl (Nat.le_of_ble_eq_true rfl) dJ7_init_3_6 (fun H1 locs hat hu hS => ?_)
  have hU := hU.tr hu
  have hc_th : b_tt G B0 τ H1 a (ta) (.inr (18, [.ref a, .null, .null, .null, .null, .int (nI 0)])) := hc_th.set hat
  refine lv_aload_n hx hb dJ7_init_3_9 rfl (lv_at hl 0 rfl) ?_
  rcases CX.K.2.2.2.2.1.2.2.2.2.2.2.2.1.1 with hz | ⟨b9_10, hz⟩
  · refine b_gets (v := .null) CX hz hS q503 dJ7_init_3_10 ?_
    refine pf_J7_17_18 CX hc_th.at hS hc_th.B rfl rfl (Nat.le_of_ble_eq_true rfl) dJ7_init_3_13 (fun H2 locs hat hu hS => ?_)
    have hU := hU.tr hu
    have hc_th : b_tt G B0 τ H2 a (ta) (.inr (18, [.ref a, .null, .null, .null, .null, .int (nI 0)])) := hc_th.set hat
    refine lv_aload_n hx hb dJ7_init_3_16 rfl (lv_at hl 0 rfl) ?_
    rcases CX.K.2.2.2.2.1.2.2.2.2.2.2.2.2.1.1 with hz | ⟨b9_17, hz⟩
    · refine b_gets (v := .null) CX hz hS q505 dJ7_init_3_17 ?_
      refine pf_J7_24_18 CX hc_th.at hS hc_th.B rfl rfl (Nat.le_of_ble_eq_true rfl) dJ7_init_3_20 (fun H3 locs hat hu hS => ?_)
      have hU := hU.tr hu
      have hc_th : b_tt G B0 τ H3 a (ta) (.inr (18, [.ref a, .null, .null, .null, .null, .int (nI 0)])) := hc_th.set hat
      refine lv_iload hx hb dJ7_init_3_23 (lv_at hl 4 rfl) ?_
      refine lv_if_eq (tgt := 36) hx hb dJ7_init_3_25 (by decide) (fun c_25 => ?_) (fun c_25 => ?_)
      · refine lv_aload_n hx hb dJ7_init_3_36 rfl (lv_at hl 0 rfl) ?_
        refine lv_null hx hb dJ7_init_3_37 ?_
        refine pf_J7_17_18 CX hc_th.at hS hc_th.B rfl rfl (Nat.le_of_ble_eq_true rfl) dJ7_init_3_38 (fun H4 locs hat hu hS => ?_)
        have hU := hU.tr hu
        have hc_th : b_tt G B0 τ H4 a (ta) (.inr (18, [.ref a, .null, .null, .null, .null, .int (nI 0)])) := hc_th.set hat
        refine lv_aload_n hx hb dJ7_init_3_41 rfl (lv_at hl 0 rfl) ?_
        refine lv_aload_nN hx hb dJ7_init_3_42 rfl (lv_at hl 1 rfl) ?_
        refine pf_J7_31_18 CX hc_th.at hS hc_th.B rfl rfl (Nat.le_of_ble_eq_true rfl) dJ7_init_3_43 (fun H5 locs hat hu hS => ?_)
        have hU := hU.tr hu
        have hc_th : b_tt G B0 τ H5 a (ta) (.inr (18, [.ref a, .null, .null, .null, .null, .int (nI 0)])) := hc_th.set hat
        refine lv_aload_n hx hb dJ7_init_3_46 rfl (lv_at hl 0 rfl) ?_
        refine lv_aload_nN hx hb dJ7_init_3_47 rfl (lv_at hl 2 rfl) ?_
        refine pf_J7_7_18 CX hc_th.at hS hc_th.B rfl rfl (Nat.le_of_ble_eq_true rfl) dJ7_init_3_48 (fun H6 locs hat hu hS => ?_)
        have hU := hU.tr hu
        have hc_th : b_tt G B0 τ H6 a (ta) (.inr (18, [.null, .null, .null, .null, .null, .int (nI 0)])) := hc_th.set hat
        refine lv_iload_n hx hb dJ7_init_3_51 rfl (lv_at hl 3 rfl) ?_
        refine lv_if_ne (tgt := 60) hx hb dJ7_init_3_52 (by decide) (fun c_52 => ?_) (fun c_52 => ?_)
        · exact absurd c_52 (by decide)
        · refine lv_aload_n hx hb dJ7_init_3_55 rfl (lv_at hl 0 rfl) ?_
          refine lv_null hx hb dJ7_init_3_56 ?_
          refine pf_J7_24_18 CX hc_th.at hS hc_th.B rfl rfl (Nat.le_of_ble_eq_true rfl) dJ7_init_3_57 (fun H7 locs hat hu hS => ?_)
          have hU := hU.tr hu
          have hc_th : b_tt G B0 τ H7 a (ta) (.inr (18, [.null, .null, .null, .null, .null, .int (nI 0)])) := hc_th.set hat
          rw [← hQ]
          exact b_vret CX hr hlk hS (Nat.le_of_ble_eq_true rfl) (Nat.le_of_ble_eq_true rfl) dJ7_init_3_60 (⟨hU, hc_th⟩)
      · exact absurd c_25 (by decide)
    · refine b_gets (v := .ref b9_17) CX hz hS q505 dJ7_init_3_17 ?_
      refine pf_J7_24_18 CX hc_th.at hS hc_th.B rfl rfl (Nat.le_of_ble_eq_true rfl) dJ7_init_3_20 (fun H8 locs hat hu hS => ?_)
      have hU := hU.tr hu
      have hc_th : b_tt G B0 τ H8 a (ta) (.inr (18, [.ref a, .null, .ref b9_17, .null, .null, .int (nI 0)])) := hc_th.set hat
      refine lv_iload hx hb dJ7_init_3_23 (lv_at hl 4 rfl) ?_
      refine lv_if_eq (tgt := 36) hx hb dJ7_init_3_25 (by decide) (fun c_25 => ?_) (fun c_25 => ?_)
      · refine lv_aload_n hx hb dJ7_init_3_36 rfl (lv_at hl 0 rfl) ?_
        refine lv_null hx hb dJ7_init_3_37 ?_
        refine pf_J7_17_18 CX hc_th.at hS hc_th.B rfl rfl (Nat.le_of_ble_eq_true rfl) dJ7_init_3_38 (fun H9 locs hat hu hS => ?_)
        have hU := hU.tr hu
        have hc_th : b_tt G B0 τ H9 a (ta) (.inr (18, [.ref a, .null, .ref b9_17, .null, .null, .int (nI 0)])) := hc_th.set hat
        refine lv_aload_n hx hb dJ7_init_3_41 rfl (lv_at hl 0 rfl) ?_
        refine lv_aload_nN hx hb dJ7_init_3_42 rfl (lv_at hl 1 rfl) ?_
        refine pf_J7_31_18 CX hc_th.at hS hc_th.B rfl rfl (Nat.le_of_ble_eq_true rfl) dJ7_init_3_43 (fun H10 locs hat hu hS => ?_)
        have hU := hU.tr hu
        have hc_th : b_tt G B0 τ H10 a (ta) (.inr (18, [.ref a, .null, .ref b9_17, .null, .null, .int (nI 0)])) := hc_th.set hat
        refine lv_aload_n hx hb dJ7_init_3_46 rfl (lv_at hl 0 rfl) ?_
        refine lv_aload_nN hx hb dJ7_init_3_47 rfl (lv_at hl 2 rfl) ?_
        refine pf_J7_7_18 CX hc_th.at hS hc_th.B rfl rfl (Nat.le_of_ble_eq_true rfl) dJ7_init_3_48 (fun H11 locs hat hu hS => ?_)
        have hU := hU.tr hu
        have hc_th : b_tt G B0 τ H11 a (ta) (.inr (18, [.null, .null, .ref b9_17, .null, .null, .int (nI 0)])) := hc_th.set hat
        refine lv_iload_n hx hb dJ7_init_3_51 rfl (lv_at hl 3 rfl) ?_
        refine lv_if_ne (tgt := 60) hx hb dJ7_init_3_52 (by decide) (fun c_52 => ?_) (fun c_52 => ?_)
        · exact absurd c_52 (by decide)
        · refine lv_aload_n hx hb dJ7_init_3_55 rfl (lv_at hl 0 rfl) ?_
          refine lv_null hx hb dJ7_init_3_56 ?_
          refine pf_J7_24_18 CX hc_th.at hS hc_th.B rfl rfl (Nat.le_of_ble_eq_true rfl) dJ7_init_3_57 (fun H12 locs hat hu hS => ?_)
          have hU := hU.tr hu
          have hc_th : b_tt G B0 τ H12 a (ta) (.inr (18, [.null, .null, .null, .null, .null, .int (nI 0)])) := hc_th.set hat
          rw [← hQ]
          exact b_vret CX hr hlk hS (Nat.le_of_ble_eq_true rfl) (Nat.le_of_ble_eq_true rfl) dJ7_init_3_60 (⟨hU, hc_th⟩)
      · exact absurd c_25 (by decide)
  · refine b_gets (v := .ref b9_10) CX hz hS q503 dJ7_init_3_10 ?_
    refine pf_J7_17_18 CX hc_th.at hS hc_th.B rfl rfl (Nat.le_of_ble_eq_true rfl) dJ7_init_3_13 (fun H13 locs hat hu hS => ?_)
    have hU := hU.tr hu
    have hc_th : b_tt G B0 τ H13 a (ta) (.inr (18, [.ref a, .ref b9_10, .null, .null, .null, .int (nI 0)])) := hc_th.set hat
    refine lv_aload_n hx hb dJ7_init_3_16 rfl (lv_at hl 0 rfl) ?_
    rcases CX.K.2.2.2.2.1.2.2.2.2.2.2.2.2.1.1 with hz | ⟨b9_17, hz⟩
    · refine b_gets (v := .null) CX hz hS q505 dJ7_init_3_17 ?_
      refine pf_J7_24_18 CX hc_th.at hS hc_th.B rfl rfl (Nat.le_of_ble_eq_true rfl) dJ7_init_3_20 (fun H14 locs hat hu hS => ?_)
      have hU := hU.tr hu
      have hc_th : b_tt G B0 τ H14 a (ta) (.inr (18, [.ref a, .ref b9_10, .null, .null, .null, .int (nI 0)])) := hc_th.set hat
      refine lv_iload hx hb dJ7_init_3_23 (lv_at hl 4 rfl) ?_
      refine lv_if_eq (tgt := 36) hx hb dJ7_init_3_25 (by decide) (fun c_25 => ?_) (fun c_25 => ?_)
      · refine lv_aload_n hx hb dJ7_init_3_36 rfl (lv_at hl 0 rfl) ?_
        refine lv_null hx hb dJ7_init_3_37 ?_
        refine pf_J7_17_18 CX hc_th.at hS hc_th.B rfl rfl (Nat.le_of_ble_eq_true rfl) dJ7_init_3_38 (fun H15 locs hat hu hS => ?_)
        have hU := hU.tr hu
        have hc_th : b_tt G B0 τ H15 a (ta) (.inr (18, [.ref a, .null, .null, .null, .null, .int (nI 0)])) := hc_th.set hat
        refine lv_aload_n hx hb dJ7_init_3_41 rfl (lv_at hl 0 rfl) ?_
        refine lv_aload_nN hx hb dJ7_init_3_42 rfl (lv_at hl 1 rfl) ?_
        refine pf_J7_31_18 CX hc_th.at hS hc_th.B rfl rfl (Nat.le_of_ble_eq_true rfl) dJ7_init_3_43 (fun H16 locs hat hu hS => ?_)
        have hU := hU.tr hu
        have hc_th : b_tt G B0 τ H16 a (ta) (.inr (18, [.ref a, .null, .null, .null, .null, .int (nI 0)])) := hc_th.set hat
        refine lv_aload_n hx hb dJ7_init_3_46 rfl (lv_at hl 0 rfl) ?_
        refine lv_aload_nN hx hb dJ7_init_3_47 rfl (lv_at hl 2 rfl) ?_
        refine pf_J7_7_18 CX hc_th.at hS hc_th.B rfl rfl (Nat.le_of_ble_eq_true rfl) dJ7_init_3_48 (fun H17 locs hat hu hS => ?_)
        have hU := hU.tr hu
        have hc_th : b_tt G B0 τ H17 a (ta) (.inr (18, [.null, .null, .null, .null, .null, .int (nI 0)])) := hc_th.set hat
        refine lv_iload_n hx hb dJ7_init_3_51 rfl (lv_at hl 3 rfl) ?_
        refine lv_if_ne (tgt := 60) hx hb dJ7_init_3_52 (by decide) (fun c_52 => ?_) (fun c_52 => ?_)
        · exact absurd c_52 (by decide)
        · refine lv_aload_n hx hb dJ7_init_3_55 rfl (lv_at hl 0 rfl) ?_
          refine lv_null hx hb dJ7_init_3_56 ?_
          refine pf_J7_24_18 CX hc_th.at hS hc_th.B rfl rfl (Nat.le_of_ble_eq_true rfl) dJ7_init_3_57 (fun H18 locs hat hu hS => ?_)
          have hU := hU.tr hu
          have hc_th : b_tt G B0 τ H18 a (ta) (.inr (18, [.null, .null, .null, .null, .null, .int (nI 0)])) := hc_th.set hat
          rw [← hQ]
          exact b_vret CX hr hlk hS (Nat.le_of_ble_eq_true rfl) (Nat.le_of_ble_eq_true rfl) dJ7_init_3_60 (⟨hU, hc_th⟩)
      · exact absurd c_25 (by decide)
    · refine b_gets (v := .ref b9_17) CX hz hS q505 dJ7_init_3_17 ?_
      refine pf_J7_24_18 CX hc_th.at hS hc_th.B rfl rfl (Nat.le_of_ble_eq_true rfl) dJ7_init_3_20 (fun H19 locs hat hu hS => ?_)
      have hU := hU.tr hu
      have hc_th : b_tt G B0 τ H19 a (ta) (.inr (18, [.ref a, .ref b9_10, .ref b9_17, .null, .null, .int (nI 0)])) := hc_th.set hat
      refine lv_iload hx hb dJ7_init_3_23 (lv_at hl 4 rfl) ?_
      refine lv_if_eq (tgt := 36) hx hb dJ7_init_3_25 (by decide) (fun c_25 => ?_) (fun c_25 => ?_)
      · refine lv_aload_n hx hb dJ7_init_3_36 rfl (lv_at hl 0 rfl) ?_
        refine lv_null hx hb dJ7_init_3_37 ?_
        refine pf_J7_17_18 CX hc_th.at hS hc_th.B rfl rfl (Nat.le_of_ble_eq_true rfl) dJ7_init_3_38 (fun H20 locs hat hu hS => ?_)
        have hU := hU.tr hu
        have hc_th : b_tt G B0 τ H20 a (ta) (.inr (18, [.ref a, .null, .ref b9_17, .null, .null, .int (nI 0)])) := hc_th.set hat
        refine lv_aload_n hx hb dJ7_init_3_41 rfl (lv_at hl 0 rfl) ?_
        refine lv_aload_nN hx hb dJ7_init_3_42 rfl (lv_at hl 1 rfl) ?_
        refine pf_J7_31_18 CX hc_th.at hS hc_th.B rfl rfl (Nat.le_of_ble_eq_true rfl) dJ7_init_3_43 (fun H21 locs hat hu hS => ?_)
        have hU := hU.tr hu
        have hc_th : b_tt G B0 τ H21 a (ta) (.inr (18, [.ref a, .null, .ref b9_17, .null, .null, .int (nI 0)])) := hc_th.set hat
        refine lv_aload_n hx hb dJ7_init_3_46 rfl (lv_at hl 0 rfl) ?_
        refine lv_aload_nN hx hb dJ7_init_3_47 rfl (lv_at hl 2 rfl) ?_
        refine pf_J7_7_18 CX hc_th.at hS hc_th.B rfl rfl (Nat.le_of_ble_eq_true rfl) dJ7_init_3_48 (fun H22 locs hat hu hS => ?_)
        have hU := hU.tr hu
        have hc_th : b_tt G B0 τ H22 a (ta) (.inr (18, [.null, .null, .ref b9_17, .null, .null, .int (nI 0)])) := hc_th.set hat
        refine lv_iload_n hx hb dJ7_init_3_51 rfl (lv_at hl 3 rfl) ?_
        refine lv_if_ne (tgt := 60) hx hb dJ7_init_3_52 (by decide) (fun c_52 => ?_) (fun c_52 => ?_)
        · exact absurd c_52 (by decide)
        · refine lv_aload_n hx hb dJ7_init_3_55 rfl (lv_at hl 0 rfl) ?_
          refine lv_null hx hb dJ7_init_3_56 ?_
          refine pf_J7_24_18 CX hc_th.at hS hc_th.B rfl rfl (Nat.le_of_ble_eq_true rfl) dJ7_init_3_57 (fun H23 locs hat hu hS => ?_)
          have hU := hU.tr hu
          have hc_th : b_tt G B0 τ H23 a (ta) (.inr (18, [.null, .null, .null, .null, .null, .int (nI 0)])) := hc_th.set hat
          rw [← hQ]
          exact b_vret CX hr hlk hS (Nat.le_of_ble_eq_true rfl) (Nat.le_of_ble_eq_true rfl) dJ7_init_3_60 (⟨hU, hc_th⟩)
      · exact absurd c_25 (by decide)
theorem cs_J8_16 {p : Program} {l : Launch} {e : Env} {R : Room} {s : State} {m : MethodId} {args : Array Value} {below : List Frame} {meth : Method} {c : Code} {H : Heap} {locs : List Loc} {cells slots : Nat} {cc : ByteArray} {pc nL a : Nat} {ls : Array Slot} {rest : List Value} {G : b_G} {B0 : Nat} (CX : b_Cx p s m args c cc nL RJ8 G B0) (hls : ls.size = nL) {rm : Room} {mc ms : Nat} {As st0 : List Value} {Qc : Array Value → State → Outcome → State → Prop} (hM : Met l yJ7_init_3 (ws_ yJ7_init_3 cJ7_init_3 5 (Option.none)) rm (b_Pc G B0 H (.ref a :: As)) Qc mc ms (b_A B0)) (hn : As.length = 4) (hS : va_S (b_A B0) s.heap H locs) (hst : st0 = As.reverse ++ .ref a :: rest) (hr : rm.cells = mc ∧ rm.slots = ms ∧ rm.frames + 1 ≤ R.frames ∧ 8 + (5 + 11) + rm.locals ≤ R.locals) (hw : (rest.map fun v => v.category).sum ≤ 8) (hdg : decode cc pc = .ok (.invokespecial 16, 3)) (hf : cells + mc ≤ R.cells ∧ slots + ms ≤ R.slots) : va_Run p l e R s m args below meth c H locs cells slots mc ms (F0 m pc ls st0) rest (Qc (Value.ref a :: As).toArray) (b_A B0) := va_runI CX.fix hM (cwI 4 CX.ts (lw_meth q1234) rfl hr.1 hr.2.1 (CX.ts _ q89) (CX.ts _ q1232) (CX.ts _ q1233) rfl (by decide +kernel) ⟨hr.2.2.1, hr.2.2.2⟩) ⟨b_blind G B0 H _, b_pre _ CX.K hS⟩ rfl hn hls hst (lv_room hw) hdg hf
set_option maxHeartbeats 2000000 in
set_option maxRecDepth 100000 in
theorem m_J8_init_3_18 (l : Launch) {G : b_G} {B0 : Nat} {H : Heap} {τ : b_T} {a : Nat} {ta : Nat} (hc_th : b_tt G B0 τ H a (ta) (.inr (18, [.null, .null, .null, .null, .null, .int (nI 0)]))) : Met l yJ8_init_3 (ws_ yJ8_init_3 cJ8_init_3 5 (Option.none)) ({ frames := 2, cells := 0, slots := 0, locals := 44 } : Room) (b_Pc G B0 H [.ref a, .null, .null, .int (nI 0), .int (nI 0)]) (b_Qv B0 (fun H1 => b_Up a H H1 ∧ b_tt G B0 τ H1 a (ta) (.inr (18, [.null, .null, .null, .null, .null, .int (nI 0)])))) 0 0 (b_A B0) := by
  refine b_of (by decide) (Nat.le_of_ble_eq_true rfl) ?_
  intro p e s m below meth c CX hr hlk hnm hS ls hl
  have CX : b_Cx p s m _ c cJ8_init_3 5 RJ8 G B0 := CX
  have hx := CX.hx
  have hb := CX.hb
  have hl : lv_has ls 5 [(0, .ref a), (1, .null), (2, .null), (3, .int (nI 0)), (4, .int (nI 0))] := hl
  generalize hQ : MQ below (b_Qv B0 (fun H1 => b_Up a H H1 ∧ b_tt G B0 τ H1 a (ta) (.inr (18, [.null, .null, .null, .null, .null, .int (nI 0)])))) ([.ref a, .null, .null, .int (nI 0), .int (nI 0)] : List Value).toArray s 0 0 (b_A B0) = Q
  have hU : b_Up a H H := b_Up.rf
  refine lv_aload_n hx hb dJ8_init_3_0 rfl (lv_at hl 0 rfl) ?_
  refine lv_aload_nN hx hb dJ8_init_3_1 rfl (lv_at hl 1 rfl) ?_
  refine lv_aload_nN hx hb dJ8_init_3_2 rfl (lv_at hl 2 rfl) ?_
  refine lv_iload_n hx hb dJ8_init_3_3 rfl (lv_at hl 3 rfl) ?_
  refine lv_iload hx hb dJ8_init_3_4 (lv_at hl 4 rfl) ?_
  refine b_cv (cs_J8_16 (rest := []) CX hl.1 (m_J7_init_3_18 l (a := a) (ta := ta) hc_th) rfl hS rfl ⟨rfl, rfl, Nat.le_of_ble_eq_true rfl, Nat.le_of_ble_eq_true rfl⟩ (Nat.le_of_ble_eq_true rfl) dJ8_init_3_6 ⟨Nat.le_of_ble_eq_true rfl, Nat.le_of_ble_eq_true rfl⟩) hS (fun H1 locs hp hS => ?_)
  obtain ⟨hu, hx0⟩ := hp
  have hU := hU.tr hu
  have hc_th : b_tt G B0 τ H1 a (ta) (.inr (18, [.null, .null, .null, .null, .null, .int (nI 0)])) := hx0
  rw [← hQ]
  exact b_vret CX hr hlk hS (Nat.le_of_ble_eq_true rfl) (Nat.le_of_ble_eq_true rfl) dJ8_init_3_9 (⟨hU, hc_th⟩)
theorem cs_X8_1 {p : Program} {l : Launch} {e : Env} {R : Room} {s : State} {m : MethodId} {args : Array Value} {below : List Frame} {meth : Method} {c : Code} {H : Heap} {locs : List Loc} {cells slots : Nat} {cc : ByteArray} {pc nL a : Nat} {ls : Array Slot} {rest : List Value} {G : b_G} {B0 : Nat} (CX : b_Cx p s m args c cc nL RX8 G B0) (hls : ls.size = nL) {rm : Room} {mc ms : Nat} {As st0 : List Value} {Qc : Array Value → State → Outcome → State → Prop} (hM : Met l yJ8_init_3 (ws_ yJ8_init_3 cJ8_init_3 5 (Option.none)) rm (b_Pc G B0 H (.ref a :: As)) Qc mc ms (b_A B0)) (hn : As.length = 4) (hS : va_S (b_A B0) s.heap H locs) (hst : st0 = As.reverse ++ .ref a :: rest) (hr : rm.cells = mc ∧ rm.slots = ms ∧ rm.frames + 1 ≤ R.frames ∧ 8 + (5 + 11) + rm.locals ≤ R.locals) (hw : (rest.map fun v => v.category).sum ≤ 8) (hdg : decode cc pc = .ok (.invokespecial 1, 3)) (hf : cells + mc ≤ R.cells ∧ slots + ms ≤ R.slots) : va_Run p l e R s m args below meth c H locs cells slots mc ms (F0 m pc ls st0) rest (Qc (Value.ref a :: As).toArray) (b_A B0) := va_runI CX.fix hM (cwI 4 CX.ts (lw_meth q1231) rfl hr.1 hr.2.1 (CX.ts _ q90) (CX.ts _ q1229) (CX.ts _ q1230) rfl (by decide +kernel) ⟨hr.2.2.1, hr.2.2.2⟩) ⟨b_blind G B0 H _, b_pre _ CX.K hS⟩ rfl hn hls hst (lv_room hw) hdg hf
set_option maxHeartbeats 2000000 in
set_option maxRecDepth 100000 in
theorem m_X8_init_18 (l : Launch) {G : b_G} {B0 : Nat} {H : Heap} {τ : b_T} {a : Nat} {ta : Nat} (hc_th : b_tt G B0 τ H a (ta) (.inr (18, [.null, .null, .null, .null, .null, .int (nI 0)]))) : Met l yX8_init (ws_ yX8_init cX8_init 1 (Option.none)) ({ frames := 3, cells := 0, slots := 0, locals := 68 } : Room) (b_Pc G B0 H [.ref a]) (b_Qv B0 (fun H1 => b_Up a H H1 ∧ b_tt G B0 τ H1 a (ta) (.inr (18, [.null, .null, .null, .null, .null, .int (nI 0)])))) 0 0 (b_A B0) := by
  refine b_of (by decide) (Nat.le_of_ble_eq_true rfl) ?_
  intro p e s m below meth c CX hr hlk hnm hS ls hl
  have CX : b_Cx p s m _ c cX8_init 1 RX8 G B0 := CX
  have hx := CX.hx
  have hb := CX.hb
  have hl : lv_has ls 1 [(0, .ref a)] := hl
  generalize hQ : MQ below (b_Qv B0 (fun H1 => b_Up a H H1 ∧ b_tt G B0 τ H1 a (ta) (.inr (18, [.null, .null, .null, .null, .null, .int (nI 0)])))) ([.ref a] : List Value).toArray s 0 0 (b_A B0) = Q
  have hU : b_Up a H H := b_Up.rf
  refine lv_aload_n hx hb dX8_init_0 rfl (lv_at hl 0 rfl) ?_
  refine lv_null hx hb dX8_init_1 ?_
  refine lv_null hx hb dX8_init_2 ?_
  refine lv_iconst (v := nI 0) hx hb dX8_init_3 rfl ?_
  refine lv_iconst (v := nI 0) hx hb dX8_init_4 rfl ?_
  refine b_cv (cs_X8_1 (rest := []) CX hl.1 (m_J8_init_3_18 l (a := a) (ta := ta) hc_th) rfl hS rfl ⟨rfl, rfl, Nat.le_of_ble_eq_true rfl, Nat.le_of_ble_eq_true rfl⟩ (Nat.le_of_ble_eq_true rfl) dX8_init_5 ⟨Nat.le_of_ble_eq_true rfl, Nat.le_of_ble_eq_true rfl⟩) hS (fun H1 locs hp hS => ?_)
  obtain ⟨hu, hx0⟩ := hp
  have hU := hU.tr hu
  have hc_th : b_tt G B0 τ H1 a (ta) (.inr (18, [.null, .null, .null, .null, .null, .int (nI 0)])) := hx0
  rw [← hQ]
  exact b_vret CX hr hlk hS (Nat.le_of_ble_eq_true rfl) (Nat.le_of_ble_eq_true rfl) dX8_init_8 (⟨hU, hc_th⟩)
theorem cs_X9_1 {p : Program} {l : Launch} {e : Env} {R : Room} {s : State} {m : MethodId} {args : Array Value} {below : List Frame} {meth : Method} {c : Code} {H : Heap} {locs : List Loc} {cells slots : Nat} {cc : ByteArray} {pc nL a : Nat} {ls : Array Slot} {rest : List Value} {G : b_G} {B0 : Nat} (CX : b_Cx p s m args c cc nL RX9 G B0) (hls : ls.size = nL) {rm : Room} {mc ms : Nat} {As st0 : List Value} {Qc : Array Value → State → Outcome → State → Prop} (hM : Met l yX8_init (ws_ yX8_init cX8_init 1 (Option.none)) rm (b_Pc G B0 H (.ref a :: As)) Qc mc ms (b_A B0)) (hn : As.length = 0) (hS : va_S (b_A B0) s.heap H locs) (hst : st0 = As.reverse ++ .ref a :: rest) (hr : rm.cells = mc ∧ rm.slots = ms ∧ rm.frames + 1 ≤ R.frames ∧ 8 + (1 + 11) + rm.locals ≤ R.locals) (hw : (rest.map fun v => v.category).sum ≤ 8) (hdg : decode cc pc = .ok (.invokespecial 1, 3)) (hf : cells + mc ≤ R.cells ∧ slots + ms ≤ R.slots) : va_Run p l e R s m args below meth c H locs cells slots mc ms (F0 m pc ls st0) rest (Qc (Value.ref a :: As).toArray) (b_A B0) := va_runI CX.fix hM (cwI 0 CX.ts (lw_meth q1228) rfl hr.1 hr.2.1 (CX.ts _ q106) (CX.ts _ q1226) (CX.ts _ q1227) rfl (by decide +kernel) ⟨hr.2.2.1, hr.2.2.2⟩) ⟨b_blind G B0 H _, b_pre _ CX.K hS⟩ rfl hn hls hst (lv_room hw) hdg hf
set_option maxHeartbeats 2000000 in
set_option maxRecDepth 100000 in
theorem m_X9_init (l : Launch) {G : b_G} {B0 : Nat} {H : Heap} {τ : b_T} {a : Nat} {ta : Nat} (hc_th : b_tt G B0 τ H a (ta) (.inr (18, [.null, .null, .null, .null, .null, .int (nI 0)]))) : Met l yX9_init (ws_ yX9_init cX9_init 1 (Option.none)) ({ frames := 4, cells := 0, slots := 0, locals := 88 } : Room) (b_Pc G B0 H [.ref a]) (b_Qv B0 (fun H1 => b_Up a H H1 ∧ b_tt G B0 τ H1 a (ta) (.inr (18, [.null, .null, .null, .null, .null, .int (nI 0)])))) 0 0 (b_A B0) := by
  refine b_of (by decide) (Nat.le_of_ble_eq_true rfl) ?_
  intro p e s m below meth c CX hr hlk hnm hS ls hl
  have CX : b_Cx p s m _ c cX9_init 1 RX9 G B0 := CX
  have hx := CX.hx
  have hb := CX.hb
  have hl : lv_has ls 1 [(0, .ref a)] := hl
  generalize hQ : MQ below (b_Qv B0 (fun H1 => b_Up a H H1 ∧ b_tt G B0 τ H1 a (ta) (.inr (18, [.null, .null, .null, .null, .null, .int (nI 0)])))) ([.ref a] : List Value).toArray s 0 0 (b_A B0) = Q
  have hU : b_Up a H H := b_Up.rf
  refine lv_aload_n hx hb dX9_init_0 rfl (lv_at hl 0 rfl) ?_
  refine b_cv (cs_X9_1 (rest := []) CX hl.1 (m_X8_init_18 l (a := a) (ta := ta) hc_th) rfl hS rfl ⟨rfl, rfl, Nat.le_of_ble_eq_true rfl, Nat.le_of_ble_eq_true rfl⟩ (Nat.le_of_ble_eq_true rfl) dX9_init_1 ⟨Nat.le_of_ble_eq_true rfl, Nat.le_of_ble_eq_true rfl⟩) hS (fun H1 locs hp hS => ?_)
  obtain ⟨hu, hx0⟩ := hp
  have hU := hU.tr hu
  have hc_th : b_tt G B0 τ H1 a (ta) (.inr (18, [.null, .null, .null, .null, .null, .int (nI 0)])) := hx0
  rw [← hQ]
  exact b_vret CX hr hlk hS (Nat.le_of_ble_eq_true rfl) (Nat.le_of_ble_eq_true rfl) dX9_init_4 (⟨hU, hc_th⟩)
theorem pf_J7_7_19 {p : Program} {l : Launch} {e : Env} {R : Room} {s : State} {m : MethodId} {args : Array Value} {below : List Frame} {meth : Method} {c : Code} {H : Heap} {locs : List Loc} {cells slots : Nat} {Q : State → Prop} {cc : ByteArray} {pc nL a : Nat} {ls : Array Slot} {rest : List Value} {G : b_G} {B0 : Nat} (CX : b_Cx p s m args c cc nL RJ7 G B0) {fs : List Value} (hP : b_at G a (.inr (19, fs)) H) (hS : va_S (b_A B0) s.heap H locs) (ha : B0 ≤ a) {v : Value} (hn : narrow (tyX10 0) v = v) (hfit : fits (tyX10 0) v = true) (hl : 0 < fs.length) (hdg : decode cc pc = .ok (.putfield 7, 3)) (kk : ∀ (H1 : Heap) (locs1 : List Loc), b_at G a (.inr (19, fs.set 0 v)) H1 → b_Up a H H1 → va_S (b_A B0) s.heap H1 locs1 → W p l e R s m args below meth c H1 locs1 cells slots Q (F0 m (pc + 3) ls rest)) : W p l e R s m args below meth c H locs cells slots Q (F0 m pc ls (v :: .ref a :: rest)) := b_put CX in_X10 tyX10 tyX10_ok rfl 0 (by decide) (by decide +kernel) q544 (Or.inl rfl) rfl hP hS ha hn hfit hl hdg kk
theorem pf_J7_17_19 {p : Program} {l : Launch} {e : Env} {R : Room} {s : State} {m : MethodId} {args : Array Value} {below : List Frame} {meth : Method} {c : Code} {H : Heap} {locs : List Loc} {cells slots : Nat} {Q : State → Prop} {cc : ByteArray} {pc nL a : Nat} {ls : Array Slot} {rest : List Value} {G : b_G} {B0 : Nat} (CX : b_Cx p s m args c cc nL RJ7 G B0) {fs : List Value} (hP : b_at G a (.inr (19, fs)) H) (hS : va_S (b_A B0) s.heap H locs) (ha : B0 ≤ a) {v : Value} (hn : narrow (tyX10 1) v = v) (hfit : fits (tyX10 1) v = true) (hl : 1 < fs.length) (hdg : decode cc pc = .ok (.putfield 17, 3)) (kk : ∀ (H1 : Heap) (locs1 : List Loc), b_at G a (.inr (19, fs.set 1 v)) H1 → b_Up a H H1 → va_S (b_A B0) s.heap H1 locs1 → W p l e R s m args below meth c H1 locs1 cells slots Q (F0 m (pc + 3) ls rest)) : W p l e R s m args below meth c H locs cells slots Q (F0 m pc ls (v :: .ref a :: rest)) := b_put CX in_X10 tyX10 tyX10_ok rfl 1 (by decide) (by decide +kernel) q545 (Or.inl rfl) rfl hP hS ha hn hfit hl hdg kk
theorem pf_J7_24_19 {p : Program} {l : Launch} {e : Env} {R : Room} {s : State} {m : MethodId} {args : Array Value} {below : List Frame} {meth : Method} {c : Code} {H : Heap} {locs : List Loc} {cells slots : Nat} {Q : State → Prop} {cc : ByteArray} {pc nL a : Nat} {ls : Array Slot} {rest : List Value} {G : b_G} {B0 : Nat} (CX : b_Cx p s m args c cc nL RJ7 G B0) {fs : List Value} (hP : b_at G a (.inr (19, fs)) H) (hS : va_S (b_A B0) s.heap H locs) (ha : B0 ≤ a) {v : Value} (hn : narrow (tyX10 2) v = v) (hfit : fits (tyX10 2) v = true) (hl : 2 < fs.length) (hdg : decode cc pc = .ok (.putfield 24, 3)) (kk : ∀ (H1 : Heap) (locs1 : List Loc), b_at G a (.inr (19, fs.set 2 v)) H1 → b_Up a H H1 → va_S (b_A B0) s.heap H1 locs1 → W p l e R s m args below meth c H1 locs1 cells slots Q (F0 m (pc + 3) ls rest)) : W p l e R s m args below meth c H locs cells slots Q (F0 m pc ls (v :: .ref a :: rest)) := b_put CX in_X10 tyX10 tyX10_ok rfl 2 (by decide) (by decide +kernel) q546 (Or.inl rfl) rfl hP hS ha hn hfit hl hdg kk
theorem pf_J7_31_19 {p : Program} {l : Launch} {e : Env} {R : Room} {s : State} {m : MethodId} {args : Array Value} {below : List Frame} {meth : Method} {c : Code} {H : Heap} {locs : List Loc} {cells slots : Nat} {Q : State → Prop} {cc : ByteArray} {pc nL a : Nat} {ls : Array Slot} {rest : List Value} {G : b_G} {B0 : Nat} (CX : b_Cx p s m args c cc nL RJ7 G B0) {fs : List Value} (hP : b_at G a (.inr (19, fs)) H) (hS : va_S (b_A B0) s.heap H locs) (ha : B0 ≤ a) {v : Value} (hn : narrow (tyX10 3) v = v) (hfit : fits (tyX10 3) v = true) (hl : 3 < fs.length) (hdg : decode cc pc = .ok (.putfield 31, 3)) (kk : ∀ (H1 : Heap) (locs1 : List Loc), b_at G a (.inr (19, fs.set 3 v)) H1 → b_Up a H H1 → va_S (b_A B0) s.heap H1 locs1 → W p l e R s m args below meth c H1 locs1 cells slots Q (F0 m (pc + 3) ls rest)) : W p l e R s m args below meth c H locs cells slots Q (F0 m pc ls (v :: .ref a :: rest)) := b_put CX in_X10 tyX10 tyX10_ok rfl 3 (by decide) (by decide +kernel) q543 (Or.inl rfl) rfl hP hS ha hn hfit hl hdg kk
set_option maxHeartbeats 2000000 in
set_option maxRecDepth 100000 in
theorem m_J7_init_3_19 (l : Launch) {G : b_G} {B0 : Nat} {H : Heap} {τ : b_T} {a : Nat} {ta : Nat} (hc_th : b_tt G B0 τ H a (ta) (.inr (19, [.null, .null, .null, .null, .null, .int (nI 0)]))) : Met l yJ7_init_3 (ws_ yJ7_init_3 cJ7_init_3 5 (Option.none)) ({ frames := 1, cells := 0, slots := 0, locals := 20 } : Room) (b_Pc G B0 H [.ref a, .null, .null, .int (nI 0), .int (nI 0)]) (b_Qv B0 (fun H1 => b_Up a H H1 ∧ b_tt G B0 τ H1 a (ta) (.inr (19, [.null, .null, .null, .null, .null, .int (nI 0)])))) 0 0 (b_A B0) := by
  refine b_of (by decide) (Nat.le_of_ble_eq_true rfl) ?_
  intro p e s m below meth c CX hr hlk hnm hS ls hl
  have CX : b_Cx p s m _ c cJ7_init_3 5 RJ7 G B0 := CX
  have hx := CX.hx
  have hb := CX.hb
  have hl : lv_has ls 5 [(0, .ref a), (1, .null), (2, .null), (3, .int (nI 0)), (4, .int (nI 0))] := hl
  generalize hQ : MQ below (b_Qv B0 (fun H1 => b_Up a H H1 ∧ b_tt G B0 τ H1 a (ta) (.inr (19, [.null, .null, .null, .null, .null, .int (nI 0)])))) ([.ref a, .null, .null, .int (nI 0), .int (nI 0)] : List Value).toArray s 0 0 (b_A B0) = Q
  have hU : b_Up a H H := b_Up.rf
  refine lv_aload_n hx hb dJ7_init_3_0 rfl (lv_at hl 0 rfl) ?_
  refine W.objInit hx hb CX.ow (CX.ts _ q502) (CX.ts _ q132) (CX.ts _ q133) rfl (by rw [CX.ml]; exact hl.1) rfl dJ7_init_3_1 (Nat.le_of_ble_eq_true rfl) (Nat.le_of_ble_eq_true rfl) ?_
  refine W.eq (g2 := F0 m 4 ls []) rfl ?_
  refine lv_aload_n hx hb dJ7_init_3_4 rfl (lv_at hl 0 rfl) ?_
  refine lv_aload_n hx hb dJ7_init_3_5 rfl (lv_at hl 0 rfl) ?_
  refine pf_J7_7_19 CX hc_th.at hS hc_th.B rfl rfl (Nat.le_of_ble_eq_true rfl) dJ7_init_3_6 (fun H1 locs hat hu hS => ?_)
  have hU := hU.tr hu
  have hc_th : b_tt G B0 τ H1 a (ta) (.inr (19, [.ref a, .null, .null, .null, .null, .int (nI 0)])) := hc_th.set hat
  refine lv_aload_n hx hb dJ7_init_3_9 rfl (lv_at hl 0 rfl) ?_
  rcases CX.K.2.2.2.2.1.2.2.2.2.2.2.2.1.1 with hz | ⟨b9_10, hz⟩
  · refine b_gets (v := .null) CX hz hS q503 dJ7_init_3_10 ?_
    refine pf_J7_17_19 CX hc_th.at hS hc_th.B rfl rfl (Nat.le_of_ble_eq_true rfl) dJ7_init_3_13 (fun H2 locs hat hu hS => ?_)
    have hU := hU.tr hu
    have hc_th : b_tt G B0 τ H2 a (ta) (.inr (19, [.ref a, .null, .null, .null, .null, .int (nI 0)])) := hc_th.set hat
    refine lv_aload_n hx hb dJ7_init_3_16 rfl (lv_at hl 0 rfl) ?_
    rcases CX.K.2.2.2.2.1.2.2.2.2.2.2.2.2.1.1 with hz | ⟨b9_17, hz⟩
    · refine b_gets (v := .null) CX hz hS q505 dJ7_init_3_17 ?_
      refine pf_J7_24_19 CX hc_th.at hS hc_th.B rfl rfl (Nat.le_of_ble_eq_true rfl) dJ7_init_3_20 (fun H3 locs hat hu hS => ?_)
      have hU := hU.tr hu
      have hc_th : b_tt G B0 τ H3 a (ta) (.inr (19, [.ref a, .null, .null, .null, .null, .int (nI 0)])) := hc_th.set hat
      refine lv_iload hx hb dJ7_init_3_23 (lv_at hl 4 rfl) ?_
      refine lv_if_eq (tgt := 36) hx hb dJ7_init_3_25 (by decide) (fun c_25 => ?_) (fun c_25 => ?_)
      · refine lv_aload_n hx hb dJ7_init_3_36 rfl (lv_at hl 0 rfl) ?_
        refine lv_null hx hb dJ7_init_3_37 ?_
        refine pf_J7_17_19 CX hc_th.at hS hc_th.B rfl rfl (Nat.le_of_ble_eq_true rfl) dJ7_init_3_38 (fun H4 locs hat hu hS => ?_)
        have hU := hU.tr hu
        have hc_th : b_tt G B0 τ H4 a (ta) (.inr (19, [.ref a, .null, .null, .null, .null, .int (nI 0)])) := hc_th.set hat
        refine lv_aload_n hx hb dJ7_init_3_41 rfl (lv_at hl 0 rfl) ?_
        refine lv_aload_nN hx hb dJ7_init_3_42 rfl (lv_at hl 1 rfl) ?_
        refine pf_J7_31_19 CX hc_th.at hS hc_th.B rfl rfl (Nat.le_of_ble_eq_true rfl) dJ7_init_3_43 (fun H5 locs hat hu hS => ?_)
        have hU := hU.tr hu
        have hc_th : b_tt G B0 τ H5 a (ta) (.inr (19, [.ref a, .null, .null, .null, .null, .int (nI 0)])) := hc_th.set hat
        refine lv_aload_n hx hb dJ7_init_3_46 rfl (lv_at hl 0 rfl) ?_
        refine lv_aload_nN hx hb dJ7_init_3_47 rfl (lv_at hl 2 rfl) ?_
        refine pf_J7_7_19 CX hc_th.at hS hc_th.B rfl rfl (Nat.le_of_ble_eq_true rfl) dJ7_init_3_48 (fun H6 locs hat hu hS => ?_)
        have hU := hU.tr hu
        have hc_th : b_tt G B0 τ H6 a (ta) (.inr (19, [.null, .null, .null, .null, .null, .int (nI 0)])) := hc_th.set hat
        refine lv_iload_n hx hb dJ7_init_3_51 rfl (lv_at hl 3 rfl) ?_
        refine lv_if_ne (tgt := 60) hx hb dJ7_init_3_52 (by decide) (fun c_52 => ?_) (fun c_52 => ?_)
        · exact absurd c_52 (by decide)
        · refine lv_aload_n hx hb dJ7_init_3_55 rfl (lv_at hl 0 rfl) ?_
          refine lv_null hx hb dJ7_init_3_56 ?_
          refine pf_J7_24_19 CX hc_th.at hS hc_th.B rfl rfl (Nat.le_of_ble_eq_true rfl) dJ7_init_3_57 (fun H7 locs hat hu hS => ?_)
          have hU := hU.tr hu
          have hc_th : b_tt G B0 τ H7 a (ta) (.inr (19, [.null, .null, .null, .null, .null, .int (nI 0)])) := hc_th.set hat
          rw [← hQ]
          exact b_vret CX hr hlk hS (Nat.le_of_ble_eq_true rfl) (Nat.le_of_ble_eq_true rfl) dJ7_init_3_60 (⟨hU, hc_th⟩)
      · exact absurd c_25 (by decide)
    · refine b_gets (v := .ref b9_17) CX hz hS q505 dJ7_init_3_17 ?_
      refine pf_J7_24_19 CX hc_th.at hS hc_th.B rfl rfl (Nat.le_of_ble_eq_true rfl) dJ7_init_3_20 (fun H8 locs hat hu hS => ?_)
      have hU := hU.tr hu
      have hc_th : b_tt G B0 τ H8 a (ta) (.inr (19, [.ref a, .null, .ref b9_17, .null, .null, .int (nI 0)])) := hc_th.set hat
      refine lv_iload hx hb dJ7_init_3_23 (lv_at hl 4 rfl) ?_
      refine lv_if_eq (tgt := 36) hx hb dJ7_init_3_25 (by decide) (fun c_25 => ?_) (fun c_25 => ?_)
      · refine lv_aload_n hx hb dJ7_init_3_36 rfl (lv_at hl 0 rfl) ?_
        refine lv_null hx hb dJ7_init_3_37 ?_
        refine pf_J7_17_19 CX hc_th.at hS hc_th.B rfl rfl (Nat.le_of_ble_eq_true rfl) dJ7_init_3_38 (fun H9 locs hat hu hS => ?_)
        have hU := hU.tr hu
        have hc_th : b_tt G B0 τ H9 a (ta) (.inr (19, [.ref a, .null, .ref b9_17, .null, .null, .int (nI 0)])) := hc_th.set hat
        refine lv_aload_n hx hb dJ7_init_3_41 rfl (lv_at hl 0 rfl) ?_
        refine lv_aload_nN hx hb dJ7_init_3_42 rfl (lv_at hl 1 rfl) ?_
        refine pf_J7_31_19 CX hc_th.at hS hc_th.B rfl rfl (Nat.le_of_ble_eq_true rfl) dJ7_init_3_43 (fun H10 locs hat hu hS => ?_)
        have hU := hU.tr hu
        have hc_th : b_tt G B0 τ H10 a (ta) (.inr (19, [.ref a, .null, .ref b9_17, .null, .null, .int (nI 0)])) := hc_th.set hat
        refine lv_aload_n hx hb dJ7_init_3_46 rfl (lv_at hl 0 rfl) ?_
        refine lv_aload_nN hx hb dJ7_init_3_47 rfl (lv_at hl 2 rfl) ?_
        refine pf_J7_7_19 CX hc_th.at hS hc_th.B rfl rfl (Nat.le_of_ble_eq_true rfl) dJ7_init_3_48 (fun H11 locs hat hu hS => ?_)
        have hU := hU.tr hu
        have hc_th : b_tt G B0 τ H11 a (ta) (.inr (19, [.null, .null, .ref b9_17, .null, .null, .int (nI 0)])) := hc_th.set hat
        refine lv_iload_n hx hb dJ7_init_3_51 rfl (lv_at hl 3 rfl) ?_
        refine lv_if_ne (tgt := 60) hx hb dJ7_init_3_52 (by decide) (fun c_52 => ?_) (fun c_52 => ?_)
        · exact absurd c_52 (by decide)
        · refine lv_aload_n hx hb dJ7_init_3_55 rfl (lv_at hl 0 rfl) ?_
          refine lv_null hx hb dJ7_init_3_56 ?_
          refine pf_J7_24_19 CX hc_th.at hS hc_th.B rfl rfl (Nat.le_of_ble_eq_true rfl) dJ7_init_3_57 (fun H12 locs hat hu hS => ?_)
          have hU := hU.tr hu
          have hc_th : b_tt G B0 τ H12 a (ta) (.inr (19, [.null, .null, .null, .null, .null, .int (nI 0)])) := hc_th.set hat
          rw [← hQ]
          exact b_vret CX hr hlk hS (Nat.le_of_ble_eq_true rfl) (Nat.le_of_ble_eq_true rfl) dJ7_init_3_60 (⟨hU, hc_th⟩)
      · exact absurd c_25 (by decide)
  · refine b_gets (v := .ref b9_10) CX hz hS q503 dJ7_init_3_10 ?_
    refine pf_J7_17_19 CX hc_th.at hS hc_th.B rfl rfl (Nat.le_of_ble_eq_true rfl) dJ7_init_3_13 (fun H13 locs hat hu hS => ?_)
    have hU := hU.tr hu
    have hc_th : b_tt G B0 τ H13 a (ta) (.inr (19, [.ref a, .ref b9_10, .null, .null, .null, .int (nI 0)])) := hc_th.set hat
    refine lv_aload_n hx hb dJ7_init_3_16 rfl (lv_at hl 0 rfl) ?_
    rcases CX.K.2.2.2.2.1.2.2.2.2.2.2.2.2.1.1 with hz | ⟨b9_17, hz⟩
    · refine b_gets (v := .null) CX hz hS q505 dJ7_init_3_17 ?_
      refine pf_J7_24_19 CX hc_th.at hS hc_th.B rfl rfl (Nat.le_of_ble_eq_true rfl) dJ7_init_3_20 (fun H14 locs hat hu hS => ?_)
      have hU := hU.tr hu
      have hc_th : b_tt G B0 τ H14 a (ta) (.inr (19, [.ref a, .ref b9_10, .null, .null, .null, .int (nI 0)])) := hc_th.set hat
      refine lv_iload hx hb dJ7_init_3_23 (lv_at hl 4 rfl) ?_
      refine lv_if_eq (tgt := 36) hx hb dJ7_init_3_25 (by decide) (fun c_25 => ?_) (fun c_25 => ?_)
      · refine lv_aload_n hx hb dJ7_init_3_36 rfl (lv_at hl 0 rfl) ?_
        refine lv_null hx hb dJ7_init_3_37 ?_
        refine pf_J7_17_19 CX hc_th.at hS hc_th.B rfl rfl (Nat.le_of_ble_eq_true rfl) dJ7_init_3_38 (fun H15 locs hat hu hS => ?_)
        have hU := hU.tr hu
        have hc_th : b_tt G B0 τ H15 a (ta) (.inr (19, [.ref a, .null, .null, .null, .null, .int (nI 0)])) := hc_th.set hat
        refine lv_aload_n hx hb dJ7_init_3_41 rfl (lv_at hl 0 rfl) ?_
        refine lv_aload_nN hx hb dJ7_init_3_42 rfl (lv_at hl 1 rfl) ?_
        refine pf_J7_31_19 CX hc_th.at hS hc_th.B rfl rfl (Nat.le_of_ble_eq_true rfl) dJ7_init_3_43 (fun H16 locs hat hu hS => ?_)
        have hU := hU.tr hu
        have hc_th : b_tt G B0 τ H16 a (ta) (.inr (19, [.ref a, .null, .null, .null, .null, .int (nI 0)])) := hc_th.set hat
        refine lv_aload_n hx hb dJ7_init_3_46 rfl (lv_at hl 0 rfl) ?_
        refine lv_aload_nN hx hb dJ7_init_3_47 rfl (lv_at hl 2 rfl) ?_
        refine pf_J7_7_19 CX hc_th.at hS hc_th.B rfl rfl (Nat.le_of_ble_eq_true rfl) dJ7_init_3_48 (fun H17 locs hat hu hS => ?_)
        have hU := hU.tr hu
        have hc_th : b_tt G B0 τ H17 a (ta) (.inr (19, [.null, .null, .null, .null, .null, .int (nI 0)])) := hc_th.set hat
        refine lv_iload_n hx hb dJ7_init_3_51 rfl (lv_at hl 3 rfl) ?_
        refine lv_if_ne (tgt := 60) hx hb dJ7_init_3_52 (by decide) (fun c_52 => ?_) (fun c_52 => ?_)
        · exact absurd c_52 (by decide)
        · refine lv_aload_n hx hb dJ7_init_3_55 rfl (lv_at hl 0 rfl) ?_
          refine lv_null hx hb dJ7_init_3_56 ?_
          refine pf_J7_24_19 CX hc_th.at hS hc_th.B rfl rfl (Nat.le_of_ble_eq_true rfl) dJ7_init_3_57 (fun H18 locs hat hu hS => ?_)
          have hU := hU.tr hu
          have hc_th : b_tt G B0 τ H18 a (ta) (.inr (19, [.null, .null, .null, .null, .null, .int (nI 0)])) := hc_th.set hat
          rw [← hQ]
          exact b_vret CX hr hlk hS (Nat.le_of_ble_eq_true rfl) (Nat.le_of_ble_eq_true rfl) dJ7_init_3_60 (⟨hU, hc_th⟩)
      · exact absurd c_25 (by decide)
    · refine b_gets (v := .ref b9_17) CX hz hS q505 dJ7_init_3_17 ?_
      refine pf_J7_24_19 CX hc_th.at hS hc_th.B rfl rfl (Nat.le_of_ble_eq_true rfl) dJ7_init_3_20 (fun H19 locs hat hu hS => ?_)
      have hU := hU.tr hu
      have hc_th : b_tt G B0 τ H19 a (ta) (.inr (19, [.ref a, .ref b9_10, .ref b9_17, .null, .null, .int (nI 0)])) := hc_th.set hat
      refine lv_iload hx hb dJ7_init_3_23 (lv_at hl 4 rfl) ?_
      refine lv_if_eq (tgt := 36) hx hb dJ7_init_3_25 (by decide) (fun c_25 => ?_) (fun c_25 => ?_)
      · refine lv_aload_n hx hb dJ7_init_3_36 rfl (lv_at hl 0 rfl) ?_
        refine lv_null hx hb dJ7_init_3_37 ?_
        refine pf_J7_17_19 CX hc_th.at hS hc_th.B rfl rfl (Nat.le_of_ble_eq_true rfl) dJ7_init_3_38 (fun H20 locs hat hu hS => ?_)
        have hU := hU.tr hu
        have hc_th : b_tt G B0 τ H20 a (ta) (.inr (19, [.ref a, .null, .ref b9_17, .null, .null, .int (nI 0)])) := hc_th.set hat
        refine lv_aload_n hx hb dJ7_init_3_41 rfl (lv_at hl 0 rfl) ?_
        refine lv_aload_nN hx hb dJ7_init_3_42 rfl (lv_at hl 1 rfl) ?_
        refine pf_J7_31_19 CX hc_th.at hS hc_th.B rfl rfl (Nat.le_of_ble_eq_true rfl) dJ7_init_3_43 (fun H21 locs hat hu hS => ?_)
        have hU := hU.tr hu
        have hc_th : b_tt G B0 τ H21 a (ta) (.inr (19, [.ref a, .null, .ref b9_17, .null, .null, .int (nI 0)])) := hc_th.set hat
        refine lv_aload_n hx hb dJ7_init_3_46 rfl (lv_at hl 0 rfl) ?_
        refine lv_aload_nN hx hb dJ7_init_3_47 rfl (lv_at hl 2 rfl) ?_
        refine pf_J7_7_19 CX hc_th.at hS hc_th.B rfl rfl (Nat.le_of_ble_eq_true rfl) dJ7_init_3_48 (fun H22 locs hat hu hS => ?_)
        have hU := hU.tr hu
        have hc_th : b_tt G B0 τ H22 a (ta) (.inr (19, [.null, .null, .ref b9_17, .null, .null, .int (nI 0)])) := hc_th.set hat
        refine lv_iload_n hx hb dJ7_init_3_51 rfl (lv_at hl 3 rfl) ?_
        refine lv_if_ne (tgt := 60) hx hb dJ7_init_3_52 (by decide) (fun c_52 => ?_) (fun c_52 => ?_)
        · exact absurd c_52 (by decide)
        · refine lv_aload_n hx hb dJ7_init_3_55 rfl (lv_at hl 0 rfl) ?_
          refine lv_null hx hb dJ7_init_3_56 ?_
          refine pf_J7_24_19 CX hc_th.at hS hc_th.B rfl rfl (Nat.le_of_ble_eq_true rfl) dJ7_init_3_57 (fun H23 locs hat hu hS => ?_)
          have hU := hU.tr hu
          have hc_th : b_tt G B0 τ H23 a (ta) (.inr (19, [.null, .null, .null, .null, .null, .int (nI 0)])) := hc_th.set hat
          rw [← hQ]
          exact b_vret CX hr hlk hS (Nat.le_of_ble_eq_true rfl) (Nat.le_of_ble_eq_true rfl) dJ7_init_3_60 (⟨hU, hc_th⟩)
      · exact absurd c_25 (by decide)
set_option maxHeartbeats 2000000 in
set_option maxRecDepth 100000 in
theorem m_J8_init_3_19 (l : Launch) {G : b_G} {B0 : Nat} {H : Heap} {τ : b_T} {a : Nat} {ta : Nat} (hc_th : b_tt G B0 τ H a (ta) (.inr (19, [.null, .null, .null, .null, .null, .int (nI 0)]))) : Met l yJ8_init_3 (ws_ yJ8_init_3 cJ8_init_3 5 (Option.none)) ({ frames := 2, cells := 0, slots := 0, locals := 44 } : Room) (b_Pc G B0 H [.ref a, .null, .null, .int (nI 0), .int (nI 0)]) (b_Qv B0 (fun H1 => b_Up a H H1 ∧ b_tt G B0 τ H1 a (ta) (.inr (19, [.null, .null, .null, .null, .null, .int (nI 0)])))) 0 0 (b_A B0) := by
  refine b_of (by decide) (Nat.le_of_ble_eq_true rfl) ?_
  intro p e s m below meth c CX hr hlk hnm hS ls hl
  have CX : b_Cx p s m _ c cJ8_init_3 5 RJ8 G B0 := CX
  have hx := CX.hx
  have hb := CX.hb
  have hl : lv_has ls 5 [(0, .ref a), (1, .null), (2, .null), (3, .int (nI 0)), (4, .int (nI 0))] := hl
  generalize hQ : MQ below (b_Qv B0 (fun H1 => b_Up a H H1 ∧ b_tt G B0 τ H1 a (ta) (.inr (19, [.null, .null, .null, .null, .null, .int (nI 0)])))) ([.ref a, .null, .null, .int (nI 0), .int (nI 0)] : List Value).toArray s 0 0 (b_A B0) = Q
  have hU : b_Up a H H := b_Up.rf
  refine lv_aload_n hx hb dJ8_init_3_0 rfl (lv_at hl 0 rfl) ?_
  refine lv_aload_nN hx hb dJ8_init_3_1 rfl (lv_at hl 1 rfl) ?_
  refine lv_aload_nN hx hb dJ8_init_3_2 rfl (lv_at hl 2 rfl) ?_
  refine lv_iload_n hx hb dJ8_init_3_3 rfl (lv_at hl 3 rfl) ?_
  refine lv_iload hx hb dJ8_init_3_4 (lv_at hl 4 rfl) ?_
  refine b_cv (cs_J8_16 (rest := []) CX hl.1 (m_J7_init_3_19 l (a := a) (ta := ta) hc_th) rfl hS rfl ⟨rfl, rfl, Nat.le_of_ble_eq_true rfl, Nat.le_of_ble_eq_true rfl⟩ (Nat.le_of_ble_eq_true rfl) dJ8_init_3_6 ⟨Nat.le_of_ble_eq_true rfl, Nat.le_of_ble_eq_true rfl⟩) hS (fun H1 locs hp hS => ?_)
  obtain ⟨hu, hx0⟩ := hp
  have hU := hU.tr hu
  have hc_th : b_tt G B0 τ H1 a (ta) (.inr (19, [.null, .null, .null, .null, .null, .int (nI 0)])) := hx0
  rw [← hQ]
  exact b_vret CX hr hlk hS (Nat.le_of_ble_eq_true rfl) (Nat.le_of_ble_eq_true rfl) dJ8_init_3_9 (⟨hU, hc_th⟩)
set_option maxHeartbeats 2000000 in
set_option maxRecDepth 100000 in
theorem m_X8_init_19 (l : Launch) {G : b_G} {B0 : Nat} {H : Heap} {τ : b_T} {a : Nat} {ta : Nat} (hc_th : b_tt G B0 τ H a (ta) (.inr (19, [.null, .null, .null, .null, .null, .int (nI 0)]))) : Met l yX8_init (ws_ yX8_init cX8_init 1 (Option.none)) ({ frames := 3, cells := 0, slots := 0, locals := 68 } : Room) (b_Pc G B0 H [.ref a]) (b_Qv B0 (fun H1 => b_Up a H H1 ∧ b_tt G B0 τ H1 a (ta) (.inr (19, [.null, .null, .null, .null, .null, .int (nI 0)])))) 0 0 (b_A B0) := by
  refine b_of (by decide) (Nat.le_of_ble_eq_true rfl) ?_
  intro p e s m below meth c CX hr hlk hnm hS ls hl
  have CX : b_Cx p s m _ c cX8_init 1 RX8 G B0 := CX
  have hx := CX.hx
  have hb := CX.hb
  have hl : lv_has ls 1 [(0, .ref a)] := hl
  generalize hQ : MQ below (b_Qv B0 (fun H1 => b_Up a H H1 ∧ b_tt G B0 τ H1 a (ta) (.inr (19, [.null, .null, .null, .null, .null, .int (nI 0)])))) ([.ref a] : List Value).toArray s 0 0 (b_A B0) = Q
  have hU : b_Up a H H := b_Up.rf
  refine lv_aload_n hx hb dX8_init_0 rfl (lv_at hl 0 rfl) ?_
  refine lv_null hx hb dX8_init_1 ?_
  refine lv_null hx hb dX8_init_2 ?_
  refine lv_iconst (v := nI 0) hx hb dX8_init_3 rfl ?_
  refine lv_iconst (v := nI 0) hx hb dX8_init_4 rfl ?_
  refine b_cv (cs_X8_1 (rest := []) CX hl.1 (m_J8_init_3_19 l (a := a) (ta := ta) hc_th) rfl hS rfl ⟨rfl, rfl, Nat.le_of_ble_eq_true rfl, Nat.le_of_ble_eq_true rfl⟩ (Nat.le_of_ble_eq_true rfl) dX8_init_5 ⟨Nat.le_of_ble_eq_true rfl, Nat.le_of_ble_eq_true rfl⟩) hS (fun H1 locs hp hS => ?_)
  obtain ⟨hu, hx0⟩ := hp
  have hU := hU.tr hu
  have hc_th : b_tt G B0 τ H1 a (ta) (.inr (19, [.null, .null, .null, .null, .null, .int (nI 0)])) := hx0
  rw [← hQ]
  exact b_vret CX hr hlk hS (Nat.le_of_ble_eq_true rfl) (Nat.le_of_ble_eq_true rfl) dX8_init_8 (⟨hU, hc_th⟩)
theorem cs_X10_1 {p : Program} {l : Launch} {e : Env} {R : Room} {s : State} {m : MethodId} {args : Array Value} {below : List Frame} {meth : Method} {c : Code} {H : Heap} {locs : List Loc} {cells slots : Nat} {cc : ByteArray} {pc nL a : Nat} {ls : Array Slot} {rest : List Value} {G : b_G} {B0 : Nat} (CX : b_Cx p s m args c cc nL RX10 G B0) (hls : ls.size = nL) {rm : Room} {mc ms : Nat} {As st0 : List Value} {Qc : Array Value → State → Outcome → State → Prop} (hM : Met l yX8_init (ws_ yX8_init cX8_init 1 (Option.none)) rm (b_Pc G B0 H (.ref a :: As)) Qc mc ms (b_A B0)) (hn : As.length = 0) (hS : va_S (b_A B0) s.heap H locs) (hst : st0 = As.reverse ++ .ref a :: rest) (hr : rm.cells = mc ∧ rm.slots = ms ∧ rm.frames + 1 ≤ R.frames ∧ 8 + (1 + 11) + rm.locals ≤ R.locals) (hw : (rest.map fun v => v.category).sum ≤ 8) (hdg : decode cc pc = .ok (.invokespecial 1, 3)) (hf : cells + mc ≤ R.cells ∧ slots + ms ≤ R.slots) : va_Run p l e R s m args below meth c H locs cells slots mc ms (F0 m pc ls st0) rest (Qc (Value.ref a :: As).toArray) (b_A B0) := va_runI CX.fix hM (cwI 0 CX.ts (lw_meth q1228) rfl hr.1 hr.2.1 (CX.ts _ q106) (CX.ts _ q1252) (CX.ts _ q1227) rfl (by decide +kernel) ⟨hr.2.2.1, hr.2.2.2⟩) ⟨b_blind G B0 H _, b_pre _ CX.K hS⟩ rfl hn hls hst (lv_room hw) hdg hf
set_option maxHeartbeats 2000000 in
set_option maxRecDepth 100000 in
theorem m_X10_init (l : Launch) {G : b_G} {B0 : Nat} {H : Heap} {τ : b_T} {a : Nat} {ta : Nat} (hc_th : b_tt G B0 τ H a (ta) (.inr (19, [.null, .null, .null, .null, .null, .int (nI 0)]))) : Met l yX10_init (ws_ yX10_init cX10_init 1 (Option.none)) ({ frames := 4, cells := 0, slots := 0, locals := 88 } : Room) (b_Pc G B0 H [.ref a]) (b_Qv B0 (fun H1 => b_Up a H H1 ∧ b_tt G B0 τ H1 a (ta) (.inr (19, [.null, .null, .null, .null, .null, .int (nI 0)])))) 0 0 (b_A B0) := by
  refine b_of (by decide) (Nat.le_of_ble_eq_true rfl) ?_
  intro p e s m below meth c CX hr hlk hnm hS ls hl
  have CX : b_Cx p s m _ c cX10_init 1 RX10 G B0 := CX
  have hx := CX.hx
  have hb := CX.hb
  have hl : lv_has ls 1 [(0, .ref a)] := hl
  generalize hQ : MQ below (b_Qv B0 (fun H1 => b_Up a H H1 ∧ b_tt G B0 τ H1 a (ta) (.inr (19, [.null, .null, .null, .null, .null, .int (nI 0)])))) ([.ref a] : List Value).toArray s 0 0 (b_A B0) = Q
  have hU : b_Up a H H := b_Up.rf
  refine lv_aload_n hx hb dX10_init_0 rfl (lv_at hl 0 rfl) ?_
  refine b_cv (cs_X10_1 (rest := []) CX hl.1 (m_X8_init_19 l (a := a) (ta := ta) hc_th) rfl hS rfl ⟨rfl, rfl, Nat.le_of_ble_eq_true rfl, Nat.le_of_ble_eq_true rfl⟩ (Nat.le_of_ble_eq_true rfl) dX10_init_1 ⟨Nat.le_of_ble_eq_true rfl, Nat.le_of_ble_eq_true rfl⟩) hS (fun H1 locs hp hS => ?_)
  obtain ⟨hu, hx0⟩ := hp
  have hU := hU.tr hu
  have hc_th : b_tt G B0 τ H1 a (ta) (.inr (19, [.null, .null, .null, .null, .null, .int (nI 0)])) := hx0
  rw [← hQ]
  exact b_vret CX hr hlk hS (Nat.le_of_ble_eq_true rfl) (Nat.le_of_ble_eq_true rfl) dX10_init_4 (⟨hU, hc_th⟩)
theorem pf_J7_7_20 {p : Program} {l : Launch} {e : Env} {R : Room} {s : State} {m : MethodId} {args : Array Value} {below : List Frame} {meth : Method} {c : Code} {H : Heap} {locs : List Loc} {cells slots : Nat} {Q : State → Prop} {cc : ByteArray} {pc nL a : Nat} {ls : Array Slot} {rest : List Value} {G : b_G} {B0 : Nat} (CX : b_Cx p s m args c cc nL RJ7 G B0) {fs : List Value} (hP : b_at G a (.inr (20, fs)) H) (hS : va_S (b_A B0) s.heap H locs) (ha : B0 ≤ a) {v : Value} (hn : narrow (tyX11 0) v = v) (hfit : fits (tyX11 0) v = true) (hl : 0 < fs.length) (hdg : decode cc pc = .ok (.putfield 7, 3)) (kk : ∀ (H1 : Heap) (locs1 : List Loc), b_at G a (.inr (20, fs.set 0 v)) H1 → b_Up a H H1 → va_S (b_A B0) s.heap H1 locs1 → W p l e R s m args below meth c H1 locs1 cells slots Q (F0 m (pc + 3) ls rest)) : W p l e R s m args below meth c H locs cells slots Q (F0 m pc ls (v :: .ref a :: rest)) := b_put CX in_X11 tyX11 tyX11_ok rfl 0 (by decide) (by decide +kernel) q544 (Or.inl rfl) rfl hP hS ha hn hfit hl hdg kk
theorem pf_J7_17_20 {p : Program} {l : Launch} {e : Env} {R : Room} {s : State} {m : MethodId} {args : Array Value} {below : List Frame} {meth : Method} {c : Code} {H : Heap} {locs : List Loc} {cells slots : Nat} {Q : State → Prop} {cc : ByteArray} {pc nL a : Nat} {ls : Array Slot} {rest : List Value} {G : b_G} {B0 : Nat} (CX : b_Cx p s m args c cc nL RJ7 G B0) {fs : List Value} (hP : b_at G a (.inr (20, fs)) H) (hS : va_S (b_A B0) s.heap H locs) (ha : B0 ≤ a) {v : Value} (hn : narrow (tyX11 1) v = v) (hfit : fits (tyX11 1) v = true) (hl : 1 < fs.length) (hdg : decode cc pc = .ok (.putfield 17, 3)) (kk : ∀ (H1 : Heap) (locs1 : List Loc), b_at G a (.inr (20, fs.set 1 v)) H1 → b_Up a H H1 → va_S (b_A B0) s.heap H1 locs1 → W p l e R s m args below meth c H1 locs1 cells slots Q (F0 m (pc + 3) ls rest)) : W p l e R s m args below meth c H locs cells slots Q (F0 m pc ls (v :: .ref a :: rest)) := b_put CX in_X11 tyX11 tyX11_ok rfl 1 (by decide) (by decide +kernel) q545 (Or.inl rfl) rfl hP hS ha hn hfit hl hdg kk
theorem pf_J7_24_20 {p : Program} {l : Launch} {e : Env} {R : Room} {s : State} {m : MethodId} {args : Array Value} {below : List Frame} {meth : Method} {c : Code} {H : Heap} {locs : List Loc} {cells slots : Nat} {Q : State → Prop} {cc : ByteArray} {pc nL a : Nat} {ls : Array Slot} {rest : List Value} {G : b_G} {B0 : Nat} (CX : b_Cx p s m args c cc nL RJ7 G B0) {fs : List Value} (hP : b_at G a (.inr (20, fs)) H) (hS : va_S (b_A B0) s.heap H locs) (ha : B0 ≤ a) {v : Value} (hn : narrow (tyX11 2) v = v) (hfit : fits (tyX11 2) v = true) (hl : 2 < fs.length) (hdg : decode cc pc = .ok (.putfield 24, 3)) (kk : ∀ (H1 : Heap) (locs1 : List Loc), b_at G a (.inr (20, fs.set 2 v)) H1 → b_Up a H H1 → va_S (b_A B0) s.heap H1 locs1 → W p l e R s m args below meth c H1 locs1 cells slots Q (F0 m (pc + 3) ls rest)) : W p l e R s m args below meth c H locs cells slots Q (F0 m pc ls (v :: .ref a :: rest)) := b_put CX in_X11 tyX11 tyX11_ok rfl 2 (by decide) (by decide +kernel) q546 (Or.inl rfl) rfl hP hS ha hn hfit hl hdg kk
theorem pf_J7_31_20 {p : Program} {l : Launch} {e : Env} {R : Room} {s : State} {m : MethodId} {args : Array Value} {below : List Frame} {meth : Method} {c : Code} {H : Heap} {locs : List Loc} {cells slots : Nat} {Q : State → Prop} {cc : ByteArray} {pc nL a : Nat} {ls : Array Slot} {rest : List Value} {G : b_G} {B0 : Nat} (CX : b_Cx p s m args c cc nL RJ7 G B0) {fs : List Value} (hP : b_at G a (.inr (20, fs)) H) (hS : va_S (b_A B0) s.heap H locs) (ha : B0 ≤ a) {v : Value} (hn : narrow (tyX11 3) v = v) (hfit : fits (tyX11 3) v = true) (hl : 3 < fs.length) (hdg : decode cc pc = .ok (.putfield 31, 3)) (kk : ∀ (H1 : Heap) (locs1 : List Loc), b_at G a (.inr (20, fs.set 3 v)) H1 → b_Up a H H1 → va_S (b_A B0) s.heap H1 locs1 → W p l e R s m args below meth c H1 locs1 cells slots Q (F0 m (pc + 3) ls rest)) : W p l e R s m args below meth c H locs cells slots Q (F0 m pc ls (v :: .ref a :: rest)) := b_put CX in_X11 tyX11 tyX11_ok rfl 3 (by decide) (by decide +kernel) q543 (Or.inl rfl) rfl hP hS ha hn hfit hl hdg kk
set_option maxHeartbeats 2000000 in
set_option maxRecDepth 100000 in
theorem m_J7_init_3_20 (l : Launch) {G : b_G} {B0 : Nat} {H : Heap} {τ : b_T} {a : Nat} {ta : Nat} (hc_th : b_tt G B0 τ H a (ta) (.inr (20, [.null, .null, .null, .null, .null, .int (nI 0)]))) : Met l yJ7_init_3 (ws_ yJ7_init_3 cJ7_init_3 5 (Option.none)) ({ frames := 1, cells := 0, slots := 0, locals := 20 } : Room) (b_Pc G B0 H [.ref a, .null, .null, .int (nI 0), .int (nI 0)]) (b_Qv B0 (fun H1 => b_Up a H H1 ∧ b_tt G B0 τ H1 a (ta) (.inr (20, [.null, .null, .null, .null, .null, .int (nI 0)])))) 0 0 (b_A B0) := by
  refine b_of (by decide) (Nat.le_of_ble_eq_true rfl) ?_
  intro p e s m below meth c CX hr hlk hnm hS ls hl
  have CX : b_Cx p s m _ c cJ7_init_3 5 RJ7 G B0 := CX
  have hx := CX.hx
  have hb := CX.hb
  have hl : lv_has ls 5 [(0, .ref a), (1, .null), (2, .null), (3, .int (nI 0)), (4, .int (nI 0))] := hl
  generalize hQ : MQ below (b_Qv B0 (fun H1 => b_Up a H H1 ∧ b_tt G B0 τ H1 a (ta) (.inr (20, [.null, .null, .null, .null, .null, .int (nI 0)])))) ([.ref a, .null, .null, .int (nI 0), .int (nI 0)] : List Value).toArray s 0 0 (b_A B0) = Q
  have hU : b_Up a H H := b_Up.rf
  refine lv_aload_n hx hb dJ7_init_3_0 rfl (lv_at hl 0 rfl) ?_
  refine W.objInit hx hb CX.ow (CX.ts _ q502) (CX.ts _ q132) (CX.ts _ q133) rfl (by rw [CX.ml]; exact hl.1) rfl dJ7_init_3_1 (Nat.le_of_ble_eq_true rfl) (Nat.le_of_ble_eq_true rfl) ?_
  refine W.eq (g2 := F0 m 4 ls []) rfl ?_
  refine lv_aload_n hx hb dJ7_init_3_4 rfl (lv_at hl 0 rfl) ?_
  refine lv_aload_n hx hb dJ7_init_3_5 rfl (lv_at hl 0 rfl) ?_
  refine pf_J7_7_20 CX hc_th.at hS hc_th.B rfl rfl (Nat.le_of_ble_eq_true rfl) dJ7_init_3_6 (fun H1 locs hat hu hS => ?_)
  have hU := hU.tr hu
  have hc_th : b_tt G B0 τ H1 a (ta) (.inr (20, [.ref a, .null, .null, .null, .null, .int (nI 0)])) := hc_th.set hat
  refine lv_aload_n hx hb dJ7_init_3_9 rfl (lv_at hl 0 rfl) ?_
  rcases CX.K.2.2.2.2.1.2.2.2.2.2.2.2.1.1 with hz | ⟨b9_10, hz⟩
  · refine b_gets (v := .null) CX hz hS q503 dJ7_init_3_10 ?_
    refine pf_J7_17_20 CX hc_th.at hS hc_th.B rfl rfl (Nat.le_of_ble_eq_true rfl) dJ7_init_3_13 (fun H2 locs hat hu hS => ?_)
    have hU := hU.tr hu
    have hc_th : b_tt G B0 τ H2 a (ta) (.inr (20, [.ref a, .null, .null, .null, .null, .int (nI 0)])) := hc_th.set hat
    refine lv_aload_n hx hb dJ7_init_3_16 rfl (lv_at hl 0 rfl) ?_
    rcases CX.K.2.2.2.2.1.2.2.2.2.2.2.2.2.1.1 with hz | ⟨b9_17, hz⟩
    · refine b_gets (v := .null) CX hz hS q505 dJ7_init_3_17 ?_
      refine pf_J7_24_20 CX hc_th.at hS hc_th.B rfl rfl (Nat.le_of_ble_eq_true rfl) dJ7_init_3_20 (fun H3 locs hat hu hS => ?_)
      have hU := hU.tr hu
      have hc_th : b_tt G B0 τ H3 a (ta) (.inr (20, [.ref a, .null, .null, .null, .null, .int (nI 0)])) := hc_th.set hat
      refine lv_iload hx hb dJ7_init_3_23 (lv_at hl 4 rfl) ?_
      refine lv_if_eq (tgt := 36) hx hb dJ7_init_3_25 (by decide) (fun c_25 => ?_) (fun c_25 => ?_)
      · refine lv_aload_n hx hb dJ7_init_3_36 rfl (lv_at hl 0 rfl) ?_
        refine lv_null hx hb dJ7_init_3_37 ?_
        refine pf_J7_17_20 CX hc_th.at hS hc_th.B rfl rfl (Nat.le_of_ble_eq_true rfl) dJ7_init_3_38 (fun H4 locs hat hu hS => ?_)
        have hU := hU.tr hu
        have hc_th : b_tt G B0 τ H4 a (ta) (.inr (20, [.ref a, .null, .null, .null, .null, .int (nI 0)])) := hc_th.set hat
        refine lv_aload_n hx hb dJ7_init_3_41 rfl (lv_at hl 0 rfl) ?_
        refine lv_aload_nN hx hb dJ7_init_3_42 rfl (lv_at hl 1 rfl) ?_
        refine pf_J7_31_20 CX hc_th.at hS hc_th.B rfl rfl (Nat.le_of_ble_eq_true rfl) dJ7_init_3_43 (fun H5 locs hat hu hS => ?_)
        have hU := hU.tr hu
        have hc_th : b_tt G B0 τ H5 a (ta) (.inr (20, [.ref a, .null, .null, .null, .null, .int (nI 0)])) := hc_th.set hat
        refine lv_aload_n hx hb dJ7_init_3_46 rfl (lv_at hl 0 rfl) ?_
        refine lv_aload_nN hx hb dJ7_init_3_47 rfl (lv_at hl 2 rfl) ?_
        refine pf_J7_7_20 CX hc_th.at hS hc_th.B rfl rfl (Nat.le_of_ble_eq_true rfl) dJ7_init_3_48 (fun H6 locs hat hu hS => ?_)
        have hU := hU.tr hu
        have hc_th : b_tt G B0 τ H6 a (ta) (.inr (20, [.null, .null, .null, .null, .null, .int (nI 0)])) := hc_th.set hat
        refine lv_iload_n hx hb dJ7_init_3_51 rfl (lv_at hl 3 rfl) ?_
        refine lv_if_ne (tgt := 60) hx hb dJ7_init_3_52 (by decide) (fun c_52 => ?_) (fun c_52 => ?_)
        · exact absurd c_52 (by decide)
        · refine lv_aload_n hx hb dJ7_init_3_55 rfl (lv_at hl 0 rfl) ?_
          refine lv_null hx hb dJ7_init_3_56 ?_
          refine pf_J7_24_20 CX hc_th.at hS hc_th.B rfl rfl (Nat.le_of_ble_eq_true rfl) dJ7_init_3_57 (fun H7 locs hat hu hS => ?_)
          have hU := hU.tr hu
          have hc_th : b_tt G B0 τ H7 a (ta) (.inr (20, [.null, .null, .null, .null, .null, .int (nI 0)])) := hc_th.set hat
          rw [← hQ]
          exact b_vret CX hr hlk hS (Nat.le_of_ble_eq_true rfl) (Nat.le_of_ble_eq_true rfl) dJ7_init_3_60 (⟨hU, hc_th⟩)
      · exact absurd c_25 (by decide)
    · refine b_gets (v := .ref b9_17) CX hz hS q505 dJ7_init_3_17 ?_
      refine pf_J7_24_20 CX hc_th.at hS hc_th.B rfl rfl (Nat.le_of_ble_eq_true rfl) dJ7_init_3_20 (fun H8 locs hat hu hS => ?_)
      have hU := hU.tr hu
      have hc_th : b_tt G B0 τ H8 a (ta) (.inr (20, [.ref a, .null, .ref b9_17, .null, .null, .int (nI 0)])) := hc_th.set hat
      refine lv_iload hx hb dJ7_init_3_23 (lv_at hl 4 rfl) ?_
      refine lv_if_eq (tgt := 36) hx hb dJ7_init_3_25 (by decide) (fun c_25 => ?_) (fun c_25 => ?_)
      · refine lv_aload_n hx hb dJ7_init_3_36 rfl (lv_at hl 0 rfl) ?_
        refine lv_null hx hb dJ7_init_3_37 ?_
        refine pf_J7_17_20 CX hc_th.at hS hc_th.B rfl rfl (Nat.le_of_ble_eq_true rfl) dJ7_init_3_38 (fun H9 locs hat hu hS => ?_)
        have hU := hU.tr hu
        have hc_th : b_tt G B0 τ H9 a (ta) (.inr (20, [.ref a, .null, .ref b9_17, .null, .null, .int (nI 0)])) := hc_th.set hat
        refine lv_aload_n hx hb dJ7_init_3_41 rfl (lv_at hl 0 rfl) ?_
        refine lv_aload_nN hx hb dJ7_init_3_42 rfl (lv_at hl 1 rfl) ?_
        refine pf_J7_31_20 CX hc_th.at hS hc_th.B rfl rfl (Nat.le_of_ble_eq_true rfl) dJ7_init_3_43 (fun H10 locs hat hu hS => ?_)
        have hU := hU.tr hu
        have hc_th : b_tt G B0 τ H10 a (ta) (.inr (20, [.ref a, .null, .ref b9_17, .null, .null, .int (nI 0)])) := hc_th.set hat
        refine lv_aload_n hx hb dJ7_init_3_46 rfl (lv_at hl 0 rfl) ?_
        refine lv_aload_nN hx hb dJ7_init_3_47 rfl (lv_at hl 2 rfl) ?_
        refine pf_J7_7_20 CX hc_th.at hS hc_th.B rfl rfl (Nat.le_of_ble_eq_true rfl) dJ7_init_3_48 (fun H11 locs hat hu hS => ?_)
        have hU := hU.tr hu
        have hc_th : b_tt G B0 τ H11 a (ta) (.inr (20, [.null, .null, .ref b9_17, .null, .null, .int (nI 0)])) := hc_th.set hat
        refine lv_iload_n hx hb dJ7_init_3_51 rfl (lv_at hl 3 rfl) ?_
        refine lv_if_ne (tgt := 60) hx hb dJ7_init_3_52 (by decide) (fun c_52 => ?_) (fun c_52 => ?_)
        · exact absurd c_52 (by decide)
        · refine lv_aload_n hx hb dJ7_init_3_55 rfl (lv_at hl 0 rfl) ?_
          refine lv_null hx hb dJ7_init_3_56 ?_
          refine pf_J7_24_20 CX hc_th.at hS hc_th.B rfl rfl (Nat.le_of_ble_eq_true rfl) dJ7_init_3_57 (fun H12 locs hat hu hS => ?_)
          have hU := hU.tr hu
          have hc_th : b_tt G B0 τ H12 a (ta) (.inr (20, [.null, .null, .null, .null, .null, .int (nI 0)])) := hc_th.set hat
          rw [← hQ]
          exact b_vret CX hr hlk hS (Nat.le_of_ble_eq_true rfl) (Nat.le_of_ble_eq_true rfl) dJ7_init_3_60 (⟨hU, hc_th⟩)
      · exact absurd c_25 (by decide)
  · refine b_gets (v := .ref b9_10) CX hz hS q503 dJ7_init_3_10 ?_
    refine pf_J7_17_20 CX hc_th.at hS hc_th.B rfl rfl (Nat.le_of_ble_eq_true rfl) dJ7_init_3_13 (fun H13 locs hat hu hS => ?_)
    have hU := hU.tr hu
    have hc_th : b_tt G B0 τ H13 a (ta) (.inr (20, [.ref a, .ref b9_10, .null, .null, .null, .int (nI 0)])) := hc_th.set hat
    refine lv_aload_n hx hb dJ7_init_3_16 rfl (lv_at hl 0 rfl) ?_
    rcases CX.K.2.2.2.2.1.2.2.2.2.2.2.2.2.1.1 with hz | ⟨b9_17, hz⟩
    · refine b_gets (v := .null) CX hz hS q505 dJ7_init_3_17 ?_
      refine pf_J7_24_20 CX hc_th.at hS hc_th.B rfl rfl (Nat.le_of_ble_eq_true rfl) dJ7_init_3_20 (fun H14 locs hat hu hS => ?_)
      have hU := hU.tr hu
      have hc_th : b_tt G B0 τ H14 a (ta) (.inr (20, [.ref a, .ref b9_10, .null, .null, .null, .int (nI 0)])) := hc_th.set hat
      refine lv_iload hx hb dJ7_init_3_23 (lv_at hl 4 rfl) ?_
      refine lv_if_eq (tgt := 36) hx hb dJ7_init_3_25 (by decide) (fun c_25 => ?_) (fun c_25 => ?_)
      · refine lv_aload_n hx hb dJ7_init_3_36 rfl (lv_at hl 0 rfl) ?_
        refine lv_null hx hb dJ7_init_3_37 ?_
        refine pf_J7_17_20 CX hc_th.at hS hc_th.B rfl rfl (Nat.le_of_ble_eq_true rfl) dJ7_init_3_38 (fun H15 locs hat hu hS => ?_)
        have hU := hU.tr hu
        have hc_th : b_tt G B0 τ H15 a (ta) (.inr (20, [.ref a, .null, .null, .null, .null, .int (nI 0)])) := hc_th.set hat
        refine lv_aload_n hx hb dJ7_init_3_41 rfl (lv_at hl 0 rfl) ?_
        refine lv_aload_nN hx hb dJ7_init_3_42 rfl (lv_at hl 1 rfl) ?_
        refine pf_J7_31_20 CX hc_th.at hS hc_th.B rfl rfl (Nat.le_of_ble_eq_true rfl) dJ7_init_3_43 (fun H16 locs hat hu hS => ?_)
        have hU := hU.tr hu
        have hc_th : b_tt G B0 τ H16 a (ta) (.inr (20, [.ref a, .null, .null, .null, .null, .int (nI 0)])) := hc_th.set hat
        refine lv_aload_n hx hb dJ7_init_3_46 rfl (lv_at hl 0 rfl) ?_
        refine lv_aload_nN hx hb dJ7_init_3_47 rfl (lv_at hl 2 rfl) ?_
        refine pf_J7_7_20 CX hc_th.at hS hc_th.B rfl rfl (Nat.le_of_ble_eq_true rfl) dJ7_init_3_48 (fun H17 locs hat hu hS => ?_)
        have hU := hU.tr hu
        have hc_th : b_tt G B0 τ H17 a (ta) (.inr (20, [.null, .null, .null, .null, .null, .int (nI 0)])) := hc_th.set hat
        refine lv_iload_n hx hb dJ7_init_3_51 rfl (lv_at hl 3 rfl) ?_
        refine lv_if_ne (tgt := 60) hx hb dJ7_init_3_52 (by decide) (fun c_52 => ?_) (fun c_52 => ?_)
        · exact absurd c_52 (by decide)
        · refine lv_aload_n hx hb dJ7_init_3_55 rfl (lv_at hl 0 rfl) ?_
          refine lv_null hx hb dJ7_init_3_56 ?_
          refine pf_J7_24_20 CX hc_th.at hS hc_th.B rfl rfl (Nat.le_of_ble_eq_true rfl) dJ7_init_3_57 (fun H18 locs hat hu hS => ?_)
          have hU := hU.tr hu
          have hc_th : b_tt G B0 τ H18 a (ta) (.inr (20, [.null, .null, .null, .null, .null, .int (nI 0)])) := hc_th.set hat
          rw [← hQ]
          exact b_vret CX hr hlk hS (Nat.le_of_ble_eq_true rfl) (Nat.le_of_ble_eq_true rfl) dJ7_init_3_60 (⟨hU, hc_th⟩)
      · exact absurd c_25 (by decide)
    · refine b_gets (v := .ref b9_17) CX hz hS q505 dJ7_init_3_17 ?_
      refine pf_J7_24_20 CX hc_th.at hS hc_th.B rfl rfl (Nat.le_of_ble_eq_true rfl) dJ7_init_3_20 (fun H19 locs hat hu hS => ?_)
      have hU := hU.tr hu
      have hc_th : b_tt G B0 τ H19 a (ta) (.inr (20, [.ref a, .ref b9_10, .ref b9_17, .null, .null, .int (nI 0)])) := hc_th.set hat
      refine lv_iload hx hb dJ7_init_3_23 (lv_at hl 4 rfl) ?_
      refine lv_if_eq (tgt := 36) hx hb dJ7_init_3_25 (by decide) (fun c_25 => ?_) (fun c_25 => ?_)
      · refine lv_aload_n hx hb dJ7_init_3_36 rfl (lv_at hl 0 rfl) ?_
        refine lv_null hx hb dJ7_init_3_37 ?_
        refine pf_J7_17_20 CX hc_th.at hS hc_th.B rfl rfl (Nat.le_of_ble_eq_true rfl) dJ7_init_3_38 (fun H20 locs hat hu hS => ?_)
        have hU := hU.tr hu
        have hc_th : b_tt G B0 τ H20 a (ta) (.inr (20, [.ref a, .null, .ref b9_17, .null, .null, .int (nI 0)])) := hc_th.set hat
        refine lv_aload_n hx hb dJ7_init_3_41 rfl (lv_at hl 0 rfl) ?_
        refine lv_aload_nN hx hb dJ7_init_3_42 rfl (lv_at hl 1 rfl) ?_
        refine pf_J7_31_20 CX hc_th.at hS hc_th.B rfl rfl (Nat.le_of_ble_eq_true rfl) dJ7_init_3_43 (fun H21 locs hat hu hS => ?_)
        have hU := hU.tr hu
        have hc_th : b_tt G B0 τ H21 a (ta) (.inr (20, [.ref a, .null, .ref b9_17, .null, .null, .int (nI 0)])) := hc_th.set hat
        refine lv_aload_n hx hb dJ7_init_3_46 rfl (lv_at hl 0 rfl) ?_
        refine lv_aload_nN hx hb dJ7_init_3_47 rfl (lv_at hl 2 rfl) ?_
        refine pf_J7_7_20 CX hc_th.at hS hc_th.B rfl rfl (Nat.le_of_ble_eq_true rfl) dJ7_init_3_48 (fun H22 locs hat hu hS => ?_)
        have hU := hU.tr hu
        have hc_th : b_tt G B0 τ H22 a (ta) (.inr (20, [.null, .null, .ref b9_17, .null, .null, .int (nI 0)])) := hc_th.set hat
        refine lv_iload_n hx hb dJ7_init_3_51 rfl (lv_at hl 3 rfl) ?_
        refine lv_if_ne (tgt := 60) hx hb dJ7_init_3_52 (by decide) (fun c_52 => ?_) (fun c_52 => ?_)
        · exact absurd c_52 (by decide)
        · refine lv_aload_n hx hb dJ7_init_3_55 rfl (lv_at hl 0 rfl) ?_
          refine lv_null hx hb dJ7_init_3_56 ?_
          refine pf_J7_24_20 CX hc_th.at hS hc_th.B rfl rfl (Nat.le_of_ble_eq_true rfl) dJ7_init_3_57 (fun H23 locs hat hu hS => ?_)
          have hU := hU.tr hu
          have hc_th : b_tt G B0 τ H23 a (ta) (.inr (20, [.null, .null, .null, .null, .null, .int (nI 0)])) := hc_th.set hat
          rw [← hQ]
          exact b_vret CX hr hlk hS (Nat.le_of_ble_eq_true rfl) (Nat.le_of_ble_eq_true rfl) dJ7_init_3_60 (⟨hU, hc_th⟩)
      · exact absurd c_25 (by decide)
set_option maxHeartbeats 2000000 in
set_option maxRecDepth 100000 in
theorem m_J8_init_3_20 (l : Launch) {G : b_G} {B0 : Nat} {H : Heap} {τ : b_T} {a : Nat} {ta : Nat} (hc_th : b_tt G B0 τ H a (ta) (.inr (20, [.null, .null, .null, .null, .null, .int (nI 0)]))) : Met l yJ8_init_3 (ws_ yJ8_init_3 cJ8_init_3 5 (Option.none)) ({ frames := 2, cells := 0, slots := 0, locals := 44 } : Room) (b_Pc G B0 H [.ref a, .null, .null, .int (nI 0), .int (nI 0)]) (b_Qv B0 (fun H1 => b_Up a H H1 ∧ b_tt G B0 τ H1 a (ta) (.inr (20, [.null, .null, .null, .null, .null, .int (nI 0)])))) 0 0 (b_A B0) := by
  refine b_of (by decide) (Nat.le_of_ble_eq_true rfl) ?_
  intro p e s m below meth c CX hr hlk hnm hS ls hl
  have CX : b_Cx p s m _ c cJ8_init_3 5 RJ8 G B0 := CX
  have hx := CX.hx
  have hb := CX.hb
  have hl : lv_has ls 5 [(0, .ref a), (1, .null), (2, .null), (3, .int (nI 0)), (4, .int (nI 0))] := hl
  generalize hQ : MQ below (b_Qv B0 (fun H1 => b_Up a H H1 ∧ b_tt G B0 τ H1 a (ta) (.inr (20, [.null, .null, .null, .null, .null, .int (nI 0)])))) ([.ref a, .null, .null, .int (nI 0), .int (nI 0)] : List Value).toArray s 0 0 (b_A B0) = Q
  have hU : b_Up a H H := b_Up.rf
  refine lv_aload_n hx hb dJ8_init_3_0 rfl (lv_at hl 0 rfl) ?_
  refine lv_aload_nN hx hb dJ8_init_3_1 rfl (lv_at hl 1 rfl) ?_
  refine lv_aload_nN hx hb dJ8_init_3_2 rfl (lv_at hl 2 rfl) ?_
  refine lv_iload_n hx hb dJ8_init_3_3 rfl (lv_at hl 3 rfl) ?_
  refine lv_iload hx hb dJ8_init_3_4 (lv_at hl 4 rfl) ?_
  refine b_cv (cs_J8_16 (rest := []) CX hl.1 (m_J7_init_3_20 l (a := a) (ta := ta) hc_th) rfl hS rfl ⟨rfl, rfl, Nat.le_of_ble_eq_true rfl, Nat.le_of_ble_eq_true rfl⟩ (Nat.le_of_ble_eq_true rfl) dJ8_init_3_6 ⟨Nat.le_of_ble_eq_true rfl, Nat.le_of_ble_eq_true rfl⟩) hS (fun H1 locs hp hS => ?_)
  obtain ⟨hu, hx0⟩ := hp
  have hU := hU.tr hu
  have hc_th : b_tt G B0 τ H1 a (ta) (.inr (20, [.null, .null, .null, .null, .null, .int (nI 0)])) := hx0
  rw [← hQ]
  exact b_vret CX hr hlk hS (Nat.le_of_ble_eq_true rfl) (Nat.le_of_ble_eq_true rfl) dJ8_init_3_9 (⟨hU, hc_th⟩)
set_option maxHeartbeats 2000000 in
set_option maxRecDepth 100000 in
theorem m_X8_init_20 (l : Launch) {G : b_G} {B0 : Nat} {H : Heap} {τ : b_T} {a : Nat} {ta : Nat} (hc_th : b_tt G B0 τ H a (ta) (.inr (20, [.null, .null, .null, .null, .null, .int (nI 0)]))) : Met l yX8_init (ws_ yX8_init cX8_init 1 (Option.none)) ({ frames := 3, cells := 0, slots := 0, locals := 68 } : Room) (b_Pc G B0 H [.ref a]) (b_Qv B0 (fun H1 => b_Up a H H1 ∧ b_tt G B0 τ H1 a (ta) (.inr (20, [.null, .null, .null, .null, .null, .int (nI 0)])))) 0 0 (b_A B0) := by
  refine b_of (by decide) (Nat.le_of_ble_eq_true rfl) ?_
  intro p e s m below meth c CX hr hlk hnm hS ls hl
  have CX : b_Cx p s m _ c cX8_init 1 RX8 G B0 := CX
  have hx := CX.hx
  have hb := CX.hb
  have hl : lv_has ls 1 [(0, .ref a)] := hl
  generalize hQ : MQ below (b_Qv B0 (fun H1 => b_Up a H H1 ∧ b_tt G B0 τ H1 a (ta) (.inr (20, [.null, .null, .null, .null, .null, .int (nI 0)])))) ([.ref a] : List Value).toArray s 0 0 (b_A B0) = Q
  have hU : b_Up a H H := b_Up.rf
  refine lv_aload_n hx hb dX8_init_0 rfl (lv_at hl 0 rfl) ?_
  refine lv_null hx hb dX8_init_1 ?_
  refine lv_null hx hb dX8_init_2 ?_
  refine lv_iconst (v := nI 0) hx hb dX8_init_3 rfl ?_
  refine lv_iconst (v := nI 0) hx hb dX8_init_4 rfl ?_
  refine b_cv (cs_X8_1 (rest := []) CX hl.1 (m_J8_init_3_20 l (a := a) (ta := ta) hc_th) rfl hS rfl ⟨rfl, rfl, Nat.le_of_ble_eq_true rfl, Nat.le_of_ble_eq_true rfl⟩ (Nat.le_of_ble_eq_true rfl) dX8_init_5 ⟨Nat.le_of_ble_eq_true rfl, Nat.le_of_ble_eq_true rfl⟩) hS (fun H1 locs hp hS => ?_)
  obtain ⟨hu, hx0⟩ := hp
  have hU := hU.tr hu
  have hc_th : b_tt G B0 τ H1 a (ta) (.inr (20, [.null, .null, .null, .null, .null, .int (nI 0)])) := hx0
  rw [← hQ]
  exact b_vret CX hr hlk hS (Nat.le_of_ble_eq_true rfl) (Nat.le_of_ble_eq_true rfl) dX8_init_8 (⟨hU, hc_th⟩)
theorem cs_X11_1 {p : Program} {l : Launch} {e : Env} {R : Room} {s : State} {m : MethodId} {args : Array Value} {below : List Frame} {meth : Method} {c : Code} {H : Heap} {locs : List Loc} {cells slots : Nat} {cc : ByteArray} {pc nL a : Nat} {ls : Array Slot} {rest : List Value} {G : b_G} {B0 : Nat} (CX : b_Cx p s m args c cc nL RX11 G B0) (hls : ls.size = nL) {rm : Room} {mc ms : Nat} {As st0 : List Value} {Qc : Array Value → State → Outcome → State → Prop} (hM : Met l yX8_init (ws_ yX8_init cX8_init 1 (Option.none)) rm (b_Pc G B0 H (.ref a :: As)) Qc mc ms (b_A B0)) (hn : As.length = 0) (hS : va_S (b_A B0) s.heap H locs) (hst : st0 = As.reverse ++ .ref a :: rest) (hr : rm.cells = mc ∧ rm.slots = ms ∧ rm.frames + 1 ≤ R.frames ∧ 8 + (1 + 11) + rm.locals ≤ R.locals) (hw : (rest.map fun v => v.category).sum ≤ 8) (hdg : decode cc pc = .ok (.invokespecial 1, 3)) (hf : cells + mc ≤ R.cells ∧ slots + ms ≤ R.slots) : va_Run p l e R s m args below meth c H locs cells slots mc ms (F0 m pc ls st0) rest (Qc (Value.ref a :: As).toArray) (b_A B0) := va_runI CX.fix hM (cwI 0 CX.ts (lw_meth q1228) rfl hr.1 hr.2.1 (CX.ts _ q106) (CX.ts _ q1271) (CX.ts _ q1227) rfl (by decide +kernel) ⟨hr.2.2.1, hr.2.2.2⟩) ⟨b_blind G B0 H _, b_pre _ CX.K hS⟩ rfl hn hls hst (lv_room hw) hdg hf
set_option maxHeartbeats 2000000 in
set_option maxRecDepth 100000 in
theorem m_X11_init (l : Launch) {G : b_G} {B0 : Nat} {H : Heap} {τ : b_T} {a : Nat} {ta : Nat} (hc_th : b_tt G B0 τ H a (ta) (.inr (20, [.null, .null, .null, .null, .null, .int (nI 0)]))) : Met l yX11_init (ws_ yX11_init cX11_init 1 (Option.none)) ({ frames := 4, cells := 0, slots := 0, locals := 88 } : Room) (b_Pc G B0 H [.ref a]) (b_Qv B0 (fun H1 => b_Up a H H1 ∧ b_tt G B0 τ H1 a (ta) (.inr (20, [.null, .null, .null, .null, .null, .int (nI 0)])))) 0 0 (b_A B0) := by
  refine b_of (by decide) (Nat.le_of_ble_eq_true rfl) ?_
  intro p e s m below meth c CX hr hlk hnm hS ls hl
  have CX : b_Cx p s m _ c cX11_init 1 RX11 G B0 := CX
  have hx := CX.hx
  have hb := CX.hb
  have hl : lv_has ls 1 [(0, .ref a)] := hl
  generalize hQ : MQ below (b_Qv B0 (fun H1 => b_Up a H H1 ∧ b_tt G B0 τ H1 a (ta) (.inr (20, [.null, .null, .null, .null, .null, .int (nI 0)])))) ([.ref a] : List Value).toArray s 0 0 (b_A B0) = Q
  have hU : b_Up a H H := b_Up.rf
  refine lv_aload_n hx hb dX11_init_0 rfl (lv_at hl 0 rfl) ?_
  refine b_cv (cs_X11_1 (rest := []) CX hl.1 (m_X8_init_20 l (a := a) (ta := ta) hc_th) rfl hS rfl ⟨rfl, rfl, Nat.le_of_ble_eq_true rfl, Nat.le_of_ble_eq_true rfl⟩ (Nat.le_of_ble_eq_true rfl) dX11_init_1 ⟨Nat.le_of_ble_eq_true rfl, Nat.le_of_ble_eq_true rfl⟩) hS (fun H1 locs hp hS => ?_)
  obtain ⟨hu, hx0⟩ := hp
  have hU := hU.tr hu
  have hc_th : b_tt G B0 τ H1 a (ta) (.inr (20, [.null, .null, .null, .null, .null, .int (nI 0)])) := hx0
  rw [← hQ]
  exact b_vret CX hr hlk hS (Nat.le_of_ble_eq_true rfl) (Nat.le_of_ble_eq_true rfl) dX11_init_4 (⟨hU, hc_th⟩)
theorem pm_J7_7_21 {p : Program} {l : Launch} {e : Env} {R : Room} {s : State} {m : MethodId} {args : Array Value} {below : List Frame} {meth : Method} {c : Code} {H : Heap} {locs : List Loc} {cells slots : Nat} {Q : State → Prop} {cc : ByteArray} {pc nL a : Nat} {ls : Array Slot} {rest : List Value} {G : b_G} {B0 : Nat} (CX : b_Cx p s m args c cc nL RJ7 G B0) {fs : List Value} (hP : b_at G a (.inr (21, fs)) H) (hS : va_S (b_A B0) s.heap H locs) (ha : B0 ≤ a) {v : Value} (hn : narrow (tyX22 0) v = v) (hfit : fits (tyX22 0) v = true) (hl : 0 < fs.length) (hdg : decode cc pc = .ok (.putfield 7, 3)) (kk : ∀ (H1 : Heap) (locs1 : List Loc), b_at G a (.inr (21, fs.set 0 v)) H1 → b_Up a H H1 → (b_fm H a → b_fm H1 a) → va_S (b_A B0) s.heap H1 locs1 → W p l e R s m args below meth c H1 locs1 cells slots Q (F0 m (pc + 3) ls rest)) : W p l e R s m args below meth c H locs cells slots Q (F0 m pc ls (v :: .ref a :: rest)) := b_putM CX in_X22 tyX22 tyX22_ok rfl 0 (by decide) (by decide +kernel) q544 (Or.inl rfl) rfl hP hS ha hn hfit hl hdg kk
theorem pm_J7_17_21 {p : Program} {l : Launch} {e : Env} {R : Room} {s : State} {m : MethodId} {args : Array Value} {below : List Frame} {meth : Method} {c : Code} {H : Heap} {locs : List Loc} {cells slots : Nat} {Q : State → Prop} {cc : ByteArray} {pc nL a : Nat} {ls : Array Slot} {rest : List Value} {G : b_G} {B0 : Nat} (CX : b_Cx p s m args c cc nL RJ7 G B0) {fs : List Value} (hP : b_at G a (.inr (21, fs)) H) (hS : va_S (b_A B0) s.heap H locs) (ha : B0 ≤ a) {v : Value} (hn : narrow (tyX22 1) v = v) (hfit : fits (tyX22 1) v = true) (hl : 1 < fs.length) (hdg : decode cc pc = .ok (.putfield 17, 3)) (kk : ∀ (H1 : Heap) (locs1 : List Loc), b_at G a (.inr (21, fs.set 1 v)) H1 → b_Up a H H1 → (b_fm H a → b_fm H1 a) → va_S (b_A B0) s.heap H1 locs1 → W p l e R s m args below meth c H1 locs1 cells slots Q (F0 m (pc + 3) ls rest)) : W p l e R s m args below meth c H locs cells slots Q (F0 m pc ls (v :: .ref a :: rest)) := b_putM CX in_X22 tyX22 tyX22_ok rfl 1 (by decide) (by decide +kernel) q545 (Or.inl rfl) rfl hP hS ha hn hfit hl hdg kk
theorem pm_J7_24_21 {p : Program} {l : Launch} {e : Env} {R : Room} {s : State} {m : MethodId} {args : Array Value} {below : List Frame} {meth : Method} {c : Code} {H : Heap} {locs : List Loc} {cells slots : Nat} {Q : State → Prop} {cc : ByteArray} {pc nL a : Nat} {ls : Array Slot} {rest : List Value} {G : b_G} {B0 : Nat} (CX : b_Cx p s m args c cc nL RJ7 G B0) {fs : List Value} (hP : b_at G a (.inr (21, fs)) H) (hS : va_S (b_A B0) s.heap H locs) (ha : B0 ≤ a) {v : Value} (hn : narrow (tyX22 2) v = v) (hfit : fits (tyX22 2) v = true) (hl : 2 < fs.length) (hdg : decode cc pc = .ok (.putfield 24, 3)) (kk : ∀ (H1 : Heap) (locs1 : List Loc), b_at G a (.inr (21, fs.set 2 v)) H1 → b_Up a H H1 → (b_fm H a → b_fm H1 a) → va_S (b_A B0) s.heap H1 locs1 → W p l e R s m args below meth c H1 locs1 cells slots Q (F0 m (pc + 3) ls rest)) : W p l e R s m args below meth c H locs cells slots Q (F0 m pc ls (v :: .ref a :: rest)) := b_putM CX in_X22 tyX22 tyX22_ok rfl 2 (by decide) (by decide +kernel) q546 (Or.inl rfl) rfl hP hS ha hn hfit hl hdg kk
theorem pm_J7_31_21 {p : Program} {l : Launch} {e : Env} {R : Room} {s : State} {m : MethodId} {args : Array Value} {below : List Frame} {meth : Method} {c : Code} {H : Heap} {locs : List Loc} {cells slots : Nat} {Q : State → Prop} {cc : ByteArray} {pc nL a : Nat} {ls : Array Slot} {rest : List Value} {G : b_G} {B0 : Nat} (CX : b_Cx p s m args c cc nL RJ7 G B0) {fs : List Value} (hP : b_at G a (.inr (21, fs)) H) (hS : va_S (b_A B0) s.heap H locs) (ha : B0 ≤ a) {v : Value} (hn : narrow (tyX22 3) v = v) (hfit : fits (tyX22 3) v = true) (hl : 3 < fs.length) (hdg : decode cc pc = .ok (.putfield 31, 3)) (kk : ∀ (H1 : Heap) (locs1 : List Loc), b_at G a (.inr (21, fs.set 3 v)) H1 → b_Up a H H1 → (b_fm H a → b_fm H1 a) → va_S (b_A B0) s.heap H1 locs1 → W p l e R s m args below meth c H1 locs1 cells slots Q (F0 m (pc + 3) ls rest)) : W p l e R s m args below meth c H locs cells slots Q (F0 m pc ls (v :: .ref a :: rest)) := b_putM CX in_X22 tyX22 tyX22_ok rfl 3 (by decide) (by decide +kernel) q543 (Or.inl rfl) rfl hP hS ha hn hfit hl hdg kk
set_option maxHeartbeats 2000000 in
set_option maxRecDepth 100000 in
theorem m_J7_init_3_21 (l : Launch) {G : b_G} {B0 : Nat} {H : Heap} {τ : b_T} {a : Nat} {ta : Nat} (hc_th : b_tt G B0 τ H a (ta) (.inr (21, [.null, .null, .null, .null, .null, .int (nI 0)]))) (hmo : b_fm H a) : Met l yJ7_init_3 (ws_ yJ7_init_3 cJ7_init_3 5 (Option.none)) ({ frames := 1, cells := 0, slots := 0, locals := 20 } : Room) (b_Pc G B0 H [.ref a, .null, .null, .int (nI 0), .int (nI 0)]) (b_Qv B0 (fun H1 => b_Up a H H1 ∧ b_fm H1 a ∧ b_tt G B0 τ H1 a (ta) (.inr (21, [.null, .null, .null, .null, .null, .int (nI 0)])))) 0 0 (b_A B0) := by
  refine b_of (by decide) (Nat.le_of_ble_eq_true rfl) ?_
  intro p e s m below meth c CX hr hlk hnm hS ls hl
  have CX : b_Cx p s m _ c cJ7_init_3 5 RJ7 G B0 := CX
  have hx := CX.hx
  have hb := CX.hb
  have hl : lv_has ls 5 [(0, .ref a), (1, .null), (2, .null), (3, .int (nI 0)), (4, .int (nI 0))] := hl
  generalize hQ : MQ below (b_Qv B0 (fun H1 => b_Up a H H1 ∧ b_fm H1 a ∧ b_tt G B0 τ H1 a (ta) (.inr (21, [.null, .null, .null, .null, .null, .int (nI 0)])))) ([.ref a, .null, .null, .int (nI 0), .int (nI 0)] : List Value).toArray s 0 0 (b_A B0) = Q
  have hU : b_Up a H H := b_Up.rf
  refine lv_aload_n hx hb dJ7_init_3_0 rfl (lv_at hl 0 rfl) ?_
  refine W.objInit hx hb CX.ow (CX.ts _ q502) (CX.ts _ q132) (CX.ts _ q133) rfl (by rw [CX.ml]; exact hl.1) rfl dJ7_init_3_1 (Nat.le_of_ble_eq_true rfl) (Nat.le_of_ble_eq_true rfl) ?_
  refine W.eq (g2 := F0 m 4 ls []) rfl ?_
  refine lv_aload_n hx hb dJ7_init_3_4 rfl (lv_at hl 0 rfl) ?_
  refine lv_aload_n hx hb dJ7_init_3_5 rfl (lv_at hl 0 rfl) ?_
  refine pm_J7_7_21 CX hc_th.at hS hc_th.B rfl rfl (Nat.le_of_ble_eq_true rfl) dJ7_init_3_6 (fun H1 locs hat hu hm9 hS => ?_)
  have hmo := hm9 hmo
  have hU := hU.tr hu
  have hc_th : b_tt G B0 τ H1 a (ta) (.inr (21, [.ref a, .null, .null, .null, .null, .int (nI 0)])) := hc_th.set hat
  refine lv_aload_n hx hb dJ7_init_3_9 rfl (lv_at hl 0 rfl) ?_
  rcases CX.K.2.2.2.2.1.2.2.2.2.2.2.2.1.1 with hz | ⟨b9_10, hz⟩
  · refine b_gets (v := .null) CX hz hS q503 dJ7_init_3_10 ?_
    refine pm_J7_17_21 CX hc_th.at hS hc_th.B rfl rfl (Nat.le_of_ble_eq_true rfl) dJ7_init_3_13 (fun H2 locs hat hu hm9 hS => ?_)
    have hmo := hm9 hmo
    have hU := hU.tr hu
    have hc_th : b_tt G B0 τ H2 a (ta) (.inr (21, [.ref a, .null, .null, .null, .null, .int (nI 0)])) := hc_th.set hat
    refine lv_aload_n hx hb dJ7_init_3_16 rfl (lv_at hl 0 rfl) ?_
    rcases CX.K.2.2.2.2.1.2.2.2.2.2.2.2.2.1.1 with hz | ⟨b9_17, hz⟩
    · refine b_gets (v := .null) CX hz hS q505 dJ7_init_3_17 ?_
      refine pm_J7_24_21 CX hc_th.at hS hc_th.B rfl rfl (Nat.le_of_ble_eq_true rfl) dJ7_init_3_20 (fun H3 locs hat hu hm9 hS => ?_)
      have hmo := hm9 hmo
      have hU := hU.tr hu
      have hc_th : b_tt G B0 τ H3 a (ta) (.inr (21, [.ref a, .null, .null, .null, .null, .int (nI 0)])) := hc_th.set hat
      refine lv_iload hx hb dJ7_init_3_23 (lv_at hl 4 rfl) ?_
      refine lv_if_eq (tgt := 36) hx hb dJ7_init_3_25 (by decide) (fun c_25 => ?_) (fun c_25 => ?_)
      · refine lv_aload_n hx hb dJ7_init_3_36 rfl (lv_at hl 0 rfl) ?_
        refine lv_null hx hb dJ7_init_3_37 ?_
        refine pm_J7_17_21 CX hc_th.at hS hc_th.B rfl rfl (Nat.le_of_ble_eq_true rfl) dJ7_init_3_38 (fun H4 locs hat hu hm9 hS => ?_)
        have hmo := hm9 hmo
        have hU := hU.tr hu
        have hc_th : b_tt G B0 τ H4 a (ta) (.inr (21, [.ref a, .null, .null, .null, .null, .int (nI 0)])) := hc_th.set hat
        refine lv_aload_n hx hb dJ7_init_3_41 rfl (lv_at hl 0 rfl) ?_
        refine lv_aload_nN hx hb dJ7_init_3_42 rfl (lv_at hl 1 rfl) ?_
        refine pm_J7_31_21 CX hc_th.at hS hc_th.B rfl rfl (Nat.le_of_ble_eq_true rfl) dJ7_init_3_43 (fun H5 locs hat hu hm9 hS => ?_)
        have hmo := hm9 hmo
        have hU := hU.tr hu
        have hc_th : b_tt G B0 τ H5 a (ta) (.inr (21, [.ref a, .null, .null, .null, .null, .int (nI 0)])) := hc_th.set hat
        refine lv_aload_n hx hb dJ7_init_3_46 rfl (lv_at hl 0 rfl) ?_
        refine lv_aload_nN hx hb dJ7_init_3_47 rfl (lv_at hl 2 rfl) ?_
        refine pm_J7_7_21 CX hc_th.at hS hc_th.B rfl rfl (Nat.le_of_ble_eq_true rfl) dJ7_init_3_48 (fun H6 locs hat hu hm9 hS => ?_)
        have hmo := hm9 hmo
        have hU := hU.tr hu
        have hc_th : b_tt G B0 τ H6 a (ta) (.inr (21, [.null, .null, .null, .null, .null, .int (nI 0)])) := hc_th.set hat
        refine lv_iload_n hx hb dJ7_init_3_51 rfl (lv_at hl 3 rfl) ?_
        refine lv_if_ne (tgt := 60) hx hb dJ7_init_3_52 (by decide) (fun c_52 => ?_) (fun c_52 => ?_)
        · exact absurd c_52 (by decide)
        · refine lv_aload_n hx hb dJ7_init_3_55 rfl (lv_at hl 0 rfl) ?_
          refine lv_null hx hb dJ7_init_3_56 ?_
          refine pm_J7_24_21 CX hc_th.at hS hc_th.B rfl rfl (Nat.le_of_ble_eq_true rfl) dJ7_init_3_57 (fun H7 locs hat hu hm9 hS => ?_)
          have hmo := hm9 hmo
          have hU := hU.tr hu
          have hc_th : b_tt G B0 τ H7 a (ta) (.inr (21, [.null, .null, .null, .null, .null, .int (nI 0)])) := hc_th.set hat
          rw [← hQ]
          exact b_vret CX hr hlk hS (Nat.le_of_ble_eq_true rfl) (Nat.le_of_ble_eq_true rfl) dJ7_init_3_60 (⟨hU, hmo, hc_th⟩)
      · exact absurd c_25 (by decide)
    · refine b_gets (v := .ref b9_17) CX hz hS q505 dJ7_init_3_17 ?_
      refine pm_J7_24_21 CX hc_th.at hS hc_th.B rfl rfl (Nat.le_of_ble_eq_true rfl) dJ7_init_3_20 (fun H8 locs hat hu hm9 hS => ?_)
      have hmo := hm9 hmo
      have hU := hU.tr hu
      have hc_th : b_tt G B0 τ H8 a (ta) (.inr (21, [.ref a, .null, .ref b9_17, .null, .null, .int (nI 0)])) := hc_th.set hat
      refine lv_iload hx hb dJ7_init_3_23 (lv_at hl 4 rfl) ?_
      refine lv_if_eq (tgt := 36) hx hb dJ7_init_3_25 (by decide) (fun c_25 => ?_) (fun c_25 => ?_)
      · refine lv_aload_n hx hb dJ7_init_3_36 rfl (lv_at hl 0 rfl) ?_
        refine lv_null hx hb dJ7_init_3_37 ?_
        refine pm_J7_17_21 CX hc_th.at hS hc_th.B rfl rfl (Nat.le_of_ble_eq_true rfl) dJ7_init_3_38 (fun H9 locs hat hu hm9 hS => ?_)
        have hmo := hm9 hmo
        have hU := hU.tr hu
        have hc_th : b_tt G B0 τ H9 a (ta) (.inr (21, [.ref a, .null, .ref b9_17, .null, .null, .int (nI 0)])) := hc_th.set hat
        refine lv_aload_n hx hb dJ7_init_3_41 rfl (lv_at hl 0 rfl) ?_
        refine lv_aload_nN hx hb dJ7_init_3_42 rfl (lv_at hl 1 rfl) ?_
        refine pm_J7_31_21 CX hc_th.at hS hc_th.B rfl rfl (Nat.le_of_ble_eq_true rfl) dJ7_init_3_43 (fun H10 locs hat hu hm9 hS => ?_)
        have hmo := hm9 hmo
        have hU := hU.tr hu
        have hc_th : b_tt G B0 τ H10 a (ta) (.inr (21, [.ref a, .null, .ref b9_17, .null, .null, .int (nI 0)])) := hc_th.set hat
        refine lv_aload_n hx hb dJ7_init_3_46 rfl (lv_at hl 0 rfl) ?_
        refine lv_aload_nN hx hb dJ7_init_3_47 rfl (lv_at hl 2 rfl) ?_
        refine pm_J7_7_21 CX hc_th.at hS hc_th.B rfl rfl (Nat.le_of_ble_eq_true rfl) dJ7_init_3_48 (fun H11 locs hat hu hm9 hS => ?_)
        have hmo := hm9 hmo
        have hU := hU.tr hu
        have hc_th : b_tt G B0 τ H11 a (ta) (.inr (21, [.null, .null, .ref b9_17, .null, .null, .int (nI 0)])) := hc_th.set hat
        refine lv_iload_n hx hb dJ7_init_3_51 rfl (lv_at hl 3 rfl) ?_
        refine lv_if_ne (tgt := 60) hx hb dJ7_init_3_52 (by decide) (fun c_52 => ?_) (fun c_52 => ?_)
        · exact absurd c_52 (by decide)
        · refine lv_aload_n hx hb dJ7_init_3_55 rfl (lv_at hl 0 rfl) ?_
          refine lv_null hx hb dJ7_init_3_56 ?_
          refine pm_J7_24_21 CX hc_th.at hS hc_th.B rfl rfl (Nat.le_of_ble_eq_true rfl) dJ7_init_3_57 (fun H12 locs hat hu hm9 hS => ?_)
          have hmo := hm9 hmo
          have hU := hU.tr hu
          have hc_th : b_tt G B0 τ H12 a (ta) (.inr (21, [.null, .null, .null, .null, .null, .int (nI 0)])) := hc_th.set hat
          rw [← hQ]
          exact b_vret CX hr hlk hS (Nat.le_of_ble_eq_true rfl) (Nat.le_of_ble_eq_true rfl) dJ7_init_3_60 (⟨hU, hmo, hc_th⟩)
      · exact absurd c_25 (by decide)
  · refine b_gets (v := .ref b9_10) CX hz hS q503 dJ7_init_3_10 ?_
    refine pm_J7_17_21 CX hc_th.at hS hc_th.B rfl rfl (Nat.le_of_ble_eq_true rfl) dJ7_init_3_13 (fun H13 locs hat hu hm9 hS => ?_)
    have hmo := hm9 hmo
    have hU := hU.tr hu
    have hc_th : b_tt G B0 τ H13 a (ta) (.inr (21, [.ref a, .ref b9_10, .null, .null, .null, .int (nI 0)])) := hc_th.set hat
    refine lv_aload_n hx hb dJ7_init_3_16 rfl (lv_at hl 0 rfl) ?_
    rcases CX.K.2.2.2.2.1.2.2.2.2.2.2.2.2.1.1 with hz | ⟨b9_17, hz⟩
    · refine b_gets (v := .null) CX hz hS q505 dJ7_init_3_17 ?_
      refine pm_J7_24_21 CX hc_th.at hS hc_th.B rfl rfl (Nat.le_of_ble_eq_true rfl) dJ7_init_3_20 (fun H14 locs hat hu hm9 hS => ?_)
      have hmo := hm9 hmo
      have hU := hU.tr hu
      have hc_th : b_tt G B0 τ H14 a (ta) (.inr (21, [.ref a, .ref b9_10, .null, .null, .null, .int (nI 0)])) := hc_th.set hat
      refine lv_iload hx hb dJ7_init_3_23 (lv_at hl 4 rfl) ?_
      refine lv_if_eq (tgt := 36) hx hb dJ7_init_3_25 (by decide) (fun c_25 => ?_) (fun c_25 => ?_)
      · refine lv_aload_n hx hb dJ7_init_3_36 rfl (lv_at hl 0 rfl) ?_
        refine lv_null hx hb dJ7_init_3_37 ?_
        refine pm_J7_17_21 CX hc_th.at hS hc_th.B rfl rfl (Nat.le_of_ble_eq_true rfl) dJ7_init_3_38 (fun H15 locs hat hu hm9 hS => ?_)
        have hmo := hm9 hmo
        have hU := hU.tr hu
        have hc_th : b_tt G B0 τ H15 a (ta) (.inr (21, [.ref a, .null, .null, .null, .null, .int (nI 0)])) := hc_th.set hat
        refine lv_aload_n hx hb dJ7_init_3_41 rfl (lv_at hl 0 rfl) ?_
        refine lv_aload_nN hx hb dJ7_init_3_42 rfl (lv_at hl 1 rfl) ?_
        refine pm_J7_31_21 CX hc_th.at hS hc_th.B rfl rfl (Nat.le_of_ble_eq_true rfl) dJ7_init_3_43 (fun H16 locs hat hu hm9 hS => ?_)
        have hmo := hm9 hmo
        have hU := hU.tr hu
        have hc_th : b_tt G B0 τ H16 a (ta) (.inr (21, [.ref a, .null, .null, .null, .null, .int (nI 0)])) := hc_th.set hat
        refine lv_aload_n hx hb dJ7_init_3_46 rfl (lv_at hl 0 rfl) ?_
        refine lv_aload_nN hx hb dJ7_init_3_47 rfl (lv_at hl 2 rfl) ?_
        refine pm_J7_7_21 CX hc_th.at hS hc_th.B rfl rfl (Nat.le_of_ble_eq_true rfl) dJ7_init_3_48 (fun H17 locs hat hu hm9 hS => ?_)
        have hmo := hm9 hmo
        have hU := hU.tr hu
        have hc_th : b_tt G B0 τ H17 a (ta) (.inr (21, [.null, .null, .null, .null, .null, .int (nI 0)])) := hc_th.set hat
        refine lv_iload_n hx hb dJ7_init_3_51 rfl (lv_at hl 3 rfl) ?_
        refine lv_if_ne (tgt := 60) hx hb dJ7_init_3_52 (by decide) (fun c_52 => ?_) (fun c_52 => ?_)
        · exact absurd c_52 (by decide)
        · refine lv_aload_n hx hb dJ7_init_3_55 rfl (lv_at hl 0 rfl) ?_
          refine lv_null hx hb dJ7_init_3_56 ?_
          refine pm_J7_24_21 CX hc_th.at hS hc_th.B rfl rfl (Nat.le_of_ble_eq_true rfl) dJ7_init_3_57 (fun H18 locs hat hu hm9 hS => ?_)
          have hmo := hm9 hmo
          have hU := hU.tr hu
          have hc_th : b_tt G B0 τ H18 a (ta) (.inr (21, [.null, .null, .null, .null, .null, .int (nI 0)])) := hc_th.set hat
          rw [← hQ]
          exact b_vret CX hr hlk hS (Nat.le_of_ble_eq_true rfl) (Nat.le_of_ble_eq_true rfl) dJ7_init_3_60 (⟨hU, hmo, hc_th⟩)
      · exact absurd c_25 (by decide)
    · refine b_gets (v := .ref b9_17) CX hz hS q505 dJ7_init_3_17 ?_
      refine pm_J7_24_21 CX hc_th.at hS hc_th.B rfl rfl (Nat.le_of_ble_eq_true rfl) dJ7_init_3_20 (fun H19 locs hat hu hm9 hS => ?_)
      have hmo := hm9 hmo
      have hU := hU.tr hu
      have hc_th : b_tt G B0 τ H19 a (ta) (.inr (21, [.ref a, .ref b9_10, .ref b9_17, .null, .null, .int (nI 0)])) := hc_th.set hat
      refine lv_iload hx hb dJ7_init_3_23 (lv_at hl 4 rfl) ?_
      refine lv_if_eq (tgt := 36) hx hb dJ7_init_3_25 (by decide) (fun c_25 => ?_) (fun c_25 => ?_)
      · refine lv_aload_n hx hb dJ7_init_3_36 rfl (lv_at hl 0 rfl) ?_
        refine lv_null hx hb dJ7_init_3_37 ?_
        refine pm_J7_17_21 CX hc_th.at hS hc_th.B rfl rfl (Nat.le_of_ble_eq_true rfl) dJ7_init_3_38 (fun H20 locs hat hu hm9 hS => ?_)
        have hmo := hm9 hmo
        have hU := hU.tr hu
        have hc_th : b_tt G B0 τ H20 a (ta) (.inr (21, [.ref a, .null, .ref b9_17, .null, .null, .int (nI 0)])) := hc_th.set hat
        refine lv_aload_n hx hb dJ7_init_3_41 rfl (lv_at hl 0 rfl) ?_
        refine lv_aload_nN hx hb dJ7_init_3_42 rfl (lv_at hl 1 rfl) ?_
        refine pm_J7_31_21 CX hc_th.at hS hc_th.B rfl rfl (Nat.le_of_ble_eq_true rfl) dJ7_init_3_43 (fun H21 locs hat hu hm9 hS => ?_)
        have hmo := hm9 hmo
        have hU := hU.tr hu
        have hc_th : b_tt G B0 τ H21 a (ta) (.inr (21, [.ref a, .null, .ref b9_17, .null, .null, .int (nI 0)])) := hc_th.set hat
        refine lv_aload_n hx hb dJ7_init_3_46 rfl (lv_at hl 0 rfl) ?_
        refine lv_aload_nN hx hb dJ7_init_3_47 rfl (lv_at hl 2 rfl) ?_
        refine pm_J7_7_21 CX hc_th.at hS hc_th.B rfl rfl (Nat.le_of_ble_eq_true rfl) dJ7_init_3_48 (fun H22 locs hat hu hm9 hS => ?_)
        have hmo := hm9 hmo
        have hU := hU.tr hu
        have hc_th : b_tt G B0 τ H22 a (ta) (.inr (21, [.null, .null, .ref b9_17, .null, .null, .int (nI 0)])) := hc_th.set hat
        refine lv_iload_n hx hb dJ7_init_3_51 rfl (lv_at hl 3 rfl) ?_
        refine lv_if_ne (tgt := 60) hx hb dJ7_init_3_52 (by decide) (fun c_52 => ?_) (fun c_52 => ?_)
        · exact absurd c_52 (by decide)
        · refine lv_aload_n hx hb dJ7_init_3_55 rfl (lv_at hl 0 rfl) ?_
          refine lv_null hx hb dJ7_init_3_56 ?_
          refine pm_J7_24_21 CX hc_th.at hS hc_th.B rfl rfl (Nat.le_of_ble_eq_true rfl) dJ7_init_3_57 (fun H23 locs hat hu hm9 hS => ?_)
          have hmo := hm9 hmo
          have hU := hU.tr hu
          have hc_th : b_tt G B0 τ H23 a (ta) (.inr (21, [.null, .null, .null, .null, .null, .int (nI 0)])) := hc_th.set hat
          rw [← hQ]
          exact b_vret CX hr hlk hS (Nat.le_of_ble_eq_true rfl) (Nat.le_of_ble_eq_true rfl) dJ7_init_3_60 (⟨hU, hmo, hc_th⟩)
      · exact absurd c_25 (by decide)
set_option maxHeartbeats 2000000 in
set_option maxRecDepth 100000 in
theorem m_J8_init_3_21 (l : Launch) {G : b_G} {B0 : Nat} {H : Heap} {τ : b_T} {a : Nat} {ta : Nat} (hc_th : b_tt G B0 τ H a (ta) (.inr (21, [.null, .null, .null, .null, .null, .int (nI 0)]))) (hmo : b_fm H a) : Met l yJ8_init_3 (ws_ yJ8_init_3 cJ8_init_3 5 (Option.none)) ({ frames := 2, cells := 0, slots := 0, locals := 44 } : Room) (b_Pc G B0 H [.ref a, .null, .null, .int (nI 0), .int (nI 0)]) (b_Qv B0 (fun H1 => b_Up a H H1 ∧ b_fm H1 a ∧ b_tt G B0 τ H1 a (ta) (.inr (21, [.null, .null, .null, .null, .null, .int (nI 0)])))) 0 0 (b_A B0) := by
  refine b_of (by decide) (Nat.le_of_ble_eq_true rfl) ?_
  intro p e s m below meth c CX hr hlk hnm hS ls hl
  have CX : b_Cx p s m _ c cJ8_init_3 5 RJ8 G B0 := CX
  have hx := CX.hx
  have hb := CX.hb
  have hl : lv_has ls 5 [(0, .ref a), (1, .null), (2, .null), (3, .int (nI 0)), (4, .int (nI 0))] := hl
  generalize hQ : MQ below (b_Qv B0 (fun H1 => b_Up a H H1 ∧ b_fm H1 a ∧ b_tt G B0 τ H1 a (ta) (.inr (21, [.null, .null, .null, .null, .null, .int (nI 0)])))) ([.ref a, .null, .null, .int (nI 0), .int (nI 0)] : List Value).toArray s 0 0 (b_A B0) = Q
  have hU : b_Up a H H := b_Up.rf
  refine lv_aload_n hx hb dJ8_init_3_0 rfl (lv_at hl 0 rfl) ?_
  refine lv_aload_nN hx hb dJ8_init_3_1 rfl (lv_at hl 1 rfl) ?_
  refine lv_aload_nN hx hb dJ8_init_3_2 rfl (lv_at hl 2 rfl) ?_
  refine lv_iload_n hx hb dJ8_init_3_3 rfl (lv_at hl 3 rfl) ?_
  refine lv_iload hx hb dJ8_init_3_4 (lv_at hl 4 rfl) ?_
  refine b_cv (cs_J8_16 (rest := []) CX hl.1 (m_J7_init_3_21 l (a := a) (ta := ta) hc_th hmo) rfl hS rfl ⟨rfl, rfl, Nat.le_of_ble_eq_true rfl, Nat.le_of_ble_eq_true rfl⟩ (Nat.le_of_ble_eq_true rfl) dJ8_init_3_6 ⟨Nat.le_of_ble_eq_true rfl, Nat.le_of_ble_eq_true rfl⟩) hS (fun H1 locs hp hS => ?_)
  obtain ⟨hu, hmo, hx0⟩ := hp
  have hU := hU.tr hu
  have hc_th : b_tt G B0 τ H1 a (ta) (.inr (21, [.null, .null, .null, .null, .null, .int (nI 0)])) := hx0
  rw [← hQ]
  exact b_vret CX hr hlk hS (Nat.le_of_ble_eq_true rfl) (Nat.le_of_ble_eq_true rfl) dJ8_init_3_9 (⟨hU, hmo, hc_th⟩)
theorem cs_X22_3 {p : Program} {l : Launch} {e : Env} {R : Room} {s : State} {m : MethodId} {args : Array Value} {below : List Frame} {meth : Method} {c : Code} {H : Heap} {locs : List Loc} {cells slots : Nat} {cc : ByteArray} {pc nL a : Nat} {ls : Array Slot} {rest : List Value} {G : b_G} {B0 : Nat} (CX : b_Cx p s m args c cc nL RX22 G B0) (hls : ls.size = nL) {rm : Room} {mc ms : Nat} {As st0 : List Value} {Qc : Array Value → State → Outcome → State → Prop} (hM : Met l yJ8_init_3 (ws_ yJ8_init_3 cJ8_init_3 5 (Option.none)) rm (b_Pc G B0 H (.ref a :: As)) Qc mc ms (b_A B0)) (hn : As.length = 4) (hS : va_S (b_A B0) s.heap H locs) (hst : st0 = As.reverse ++ .ref a :: rest) (hr : rm.cells = mc ∧ rm.slots = ms ∧ rm.frames + 1 ≤ R.frames ∧ 8 + (5 + 11) + rm.locals ≤ R.locals) (hw : (rest.map fun v => v.category).sum ≤ 8) (hdg : decode cc pc = .ok (.invokespecial 3, 3)) (hf : cells + mc ≤ R.cells ∧ slots + ms ≤ R.slots) : va_Run p l e R s m args below meth c H locs cells slots mc ms (F0 m pc ls st0) rest (Qc (Value.ref a :: As).toArray) (b_A B0) := va_runI CX.fix hM (cwI 4 CX.ts (lw_meth q1231) rfl hr.1 hr.2.1 (CX.ts _ q90) (CX.ts _ q1728) (CX.ts _ q1230) rfl (by decide +kernel) ⟨hr.2.2.1, hr.2.2.2⟩) ⟨b_blind G B0 H _, b_pre _ CX.K hS⟩ rfl hn hls hst (lv_room hw) hdg hf
set_option maxHeartbeats 2000000 in
set_option maxRecDepth 100000 in
theorem m_X22_init_n (l : Launch) {G : b_G} {B0 : Nat} {H : Heap} {τ : b_T} {a : Nat} {ta : Nat} (hc_th : b_tt G B0 τ H a (ta) (.inr (21, [.null, .null, .null, .null, .null, .int (nI 0)]))) (hmo : b_fm H a) : Met l yX22_init (ws_ yX22_init cX22_init 2 (Option.none)) ({ frames := 3, cells := 0, slots := 0, locals := 68 } : Room) (b_Pc G B0 H [.ref a, .null]) (b_Qv B0 (fun H1 => b_Up a H H1 ∧ b_fm H1 a ∧ b_tt G B0 τ H1 a (ta) (.inr (21, [.null, .null, .null, .null, .null, .int (nI 0)])))) 0 0 (b_A B0) := by
  refine b_of (by decide) (Nat.le_of_ble_eq_true rfl) ?_
  intro p e s m below meth c CX hr hlk hnm hS ls hl
  have CX : b_Cx p s m _ c cX22_init 2 RX22 G B0 := CX
  have hx := CX.hx
  have hb := CX.hb
  have hl : lv_has ls 2 [(0, .ref a), (1, .null)] := hl
  generalize hQ : MQ below (b_Qv B0 (fun H1 => b_Up a H H1 ∧ b_fm H1 a ∧ b_tt G B0 τ H1 a (ta) (.inr (21, [.null, .null, .null, .null, .null, .int (nI 0)])))) ([.ref a, .null] : List Value).toArray s 0 0 (b_A B0) = Q
  have hU : b_Up a H H := b_Up.rf
  refine lv_aload_n hx hb dX22_init_0 rfl (lv_at hl 0 rfl) ?_
  refine lv_null hx hb dX22_init_1 ?_
  refine lv_aload_nN hx hb dX22_init_2 rfl (lv_at hl 1 rfl) ?_
  refine lv_iconst (v := nI 0) hx hb dX22_init_3 rfl ?_
  refine lv_iconst (v := nI 0) hx hb dX22_init_4 rfl ?_
  refine b_cv (cs_X22_3 (rest := []) CX hl.1 (m_J8_init_3_21 l (a := a) (ta := ta) hc_th hmo) rfl hS rfl ⟨rfl, rfl, Nat.le_of_ble_eq_true rfl, Nat.le_of_ble_eq_true rfl⟩ (Nat.le_of_ble_eq_true rfl) dX22_init_5 ⟨Nat.le_of_ble_eq_true rfl, Nat.le_of_ble_eq_true rfl⟩) hS (fun H1 locs hp hS => ?_)
  obtain ⟨hu, hmo, hx0⟩ := hp
  have hU := hU.tr hu
  have hc_th : b_tt G B0 τ H1 a (ta) (.inr (21, [.null, .null, .null, .null, .null, .int (nI 0)])) := hx0
  rw [← hQ]
  exact b_vret CX hr hlk hS (Nat.le_of_ble_eq_true rfl) (Nat.le_of_ble_eq_true rfl) dX22_init_8 (⟨hU, hmo, hc_th⟩)
set_option maxHeartbeats 2000000 in
set_option maxRecDepth 100000 in
theorem m_J7_init_3_21r (l : Launch) {G : b_G} {B0 : Nat} {H : Heap} {τ : b_T} {a : Nat} {ta : Nat} {ca : Nat} (hc_th : b_tt G B0 τ H a (ta) (.inr (21, [.null, .null, .null, .null, .null, .int (nI 0)]))) (hmo : b_fm H a) : Met l yJ7_init_3 (ws_ yJ7_init_3 cJ7_init_3 5 (Option.none)) ({ frames := 1, cells := 0, slots := 0, locals := 20 } : Room) (b_Pc G B0 H [.ref a, .null, .ref ca, .int (nI 0), .int (nI 0)]) (b_Qv B0 (fun H1 => b_Up a H H1 ∧ b_fm H1 a ∧ b_tt G B0 τ H1 a (ta) (.inr (21, [.ref ca, .null, .null, .null, .null, .int (nI 0)])))) 0 0 (b_A B0) := by
  refine b_of (by decide) (Nat.le_of_ble_eq_true rfl) ?_
  intro p e s m below meth c CX hr hlk hnm hS ls hl
  have CX : b_Cx p s m _ c cJ7_init_3 5 RJ7 G B0 := CX
  have hx := CX.hx
  have hb := CX.hb
  have hl : lv_has ls 5 [(0, .ref a), (1, .null), (2, .ref ca), (3, .int (nI 0)), (4, .int (nI 0))] := hl
  generalize hQ : MQ below (b_Qv B0 (fun H1 => b_Up a H H1 ∧ b_fm H1 a ∧ b_tt G B0 τ H1 a (ta) (.inr (21, [.ref ca, .null, .null, .null, .null, .int (nI 0)])))) ([.ref a, .null, .ref ca, .int (nI 0), .int (nI 0)] : List Value).toArray s 0 0 (b_A B0) = Q
  have hU : b_Up a H H := b_Up.rf
  refine lv_aload_n hx hb dJ7_init_3_0 rfl (lv_at hl 0 rfl) ?_
  refine W.objInit hx hb CX.ow (CX.ts _ q502) (CX.ts _ q132) (CX.ts _ q133) rfl (by rw [CX.ml]; exact hl.1) rfl dJ7_init_3_1 (Nat.le_of_ble_eq_true rfl) (Nat.le_of_ble_eq_true rfl) ?_
  refine W.eq (g2 := F0 m 4 ls []) rfl ?_
  refine lv_aload_n hx hb dJ7_init_3_4 rfl (lv_at hl 0 rfl) ?_
  refine lv_aload_n hx hb dJ7_init_3_5 rfl (lv_at hl 0 rfl) ?_
  refine pm_J7_7_21 CX hc_th.at hS hc_th.B rfl rfl (Nat.le_of_ble_eq_true rfl) dJ7_init_3_6 (fun H1 locs hat hu hm9 hS => ?_)
  have hmo := hm9 hmo
  have hU := hU.tr hu
  have hc_th : b_tt G B0 τ H1 a (ta) (.inr (21, [.ref a, .null, .null, .null, .null, .int (nI 0)])) := hc_th.set hat
  refine lv_aload_n hx hb dJ7_init_3_9 rfl (lv_at hl 0 rfl) ?_
  rcases CX.K.2.2.2.2.1.2.2.2.2.2.2.2.1.1 with hz | ⟨b9_10, hz⟩
  · refine b_gets (v := .null) CX hz hS q503 dJ7_init_3_10 ?_
    refine pm_J7_17_21 CX hc_th.at hS hc_th.B rfl rfl (Nat.le_of_ble_eq_true rfl) dJ7_init_3_13 (fun H2 locs hat hu hm9 hS => ?_)
    have hmo := hm9 hmo
    have hU := hU.tr hu
    have hc_th : b_tt G B0 τ H2 a (ta) (.inr (21, [.ref a, .null, .null, .null, .null, .int (nI 0)])) := hc_th.set hat
    refine lv_aload_n hx hb dJ7_init_3_16 rfl (lv_at hl 0 rfl) ?_
    rcases CX.K.2.2.2.2.1.2.2.2.2.2.2.2.2.1.1 with hz | ⟨b9_17, hz⟩
    · refine b_gets (v := .null) CX hz hS q505 dJ7_init_3_17 ?_
      refine pm_J7_24_21 CX hc_th.at hS hc_th.B rfl rfl (Nat.le_of_ble_eq_true rfl) dJ7_init_3_20 (fun H3 locs hat hu hm9 hS => ?_)
      have hmo := hm9 hmo
      have hU := hU.tr hu
      have hc_th : b_tt G B0 τ H3 a (ta) (.inr (21, [.ref a, .null, .null, .null, .null, .int (nI 0)])) := hc_th.set hat
      refine lv_iload hx hb dJ7_init_3_23 (lv_at hl 4 rfl) ?_
      refine lv_if_eq (tgt := 36) hx hb dJ7_init_3_25 (by decide) (fun c_25 => ?_) (fun c_25 => ?_)
      · refine lv_aload_n hx hb dJ7_init_3_36 rfl (lv_at hl 0 rfl) ?_
        refine lv_null hx hb dJ7_init_3_37 ?_
        refine pm_J7_17_21 CX hc_th.at hS hc_th.B rfl rfl (Nat.le_of_ble_eq_true rfl) dJ7_init_3_38 (fun H4 locs hat hu hm9 hS => ?_)
        have hmo := hm9 hmo
        have hU := hU.tr hu
        have hc_th : b_tt G B0 τ H4 a (ta) (.inr (21, [.ref a, .null, .null, .null, .null, .int (nI 0)])) := hc_th.set hat
        refine lv_aload_n hx hb dJ7_init_3_41 rfl (lv_at hl 0 rfl) ?_
        refine lv_aload_nN hx hb dJ7_init_3_42 rfl (lv_at hl 1 rfl) ?_
        refine pm_J7_31_21 CX hc_th.at hS hc_th.B rfl rfl (Nat.le_of_ble_eq_true rfl) dJ7_init_3_43 (fun H5 locs hat hu hm9 hS => ?_)
        have hmo := hm9 hmo
        have hU := hU.tr hu
        have hc_th : b_tt G B0 τ H5 a (ta) (.inr (21, [.ref a, .null, .null, .null, .null, .int (nI 0)])) := hc_th.set hat
        refine lv_aload_n hx hb dJ7_init_3_46 rfl (lv_at hl 0 rfl) ?_
        refine lv_aload_n hx hb dJ7_init_3_47 rfl (lv_at hl 2 rfl) ?_
        refine pm_J7_7_21 CX hc_th.at hS hc_th.B rfl rfl (Nat.le_of_ble_eq_true rfl) dJ7_init_3_48 (fun H6 locs hat hu hm9 hS => ?_)
        have hmo := hm9 hmo
        have hU := hU.tr hu
        have hc_th : b_tt G B0 τ H6 a (ta) (.inr (21, [.ref ca, .null, .null, .null, .null, .int (nI 0)])) := hc_th.set hat
        refine lv_iload_n hx hb dJ7_init_3_51 rfl (lv_at hl 3 rfl) ?_
        refine lv_if_ne (tgt := 60) hx hb dJ7_init_3_52 (by decide) (fun c_52 => ?_) (fun c_52 => ?_)
        · exact absurd c_52 (by decide)
        · refine lv_aload_n hx hb dJ7_init_3_55 rfl (lv_at hl 0 rfl) ?_
          refine lv_null hx hb dJ7_init_3_56 ?_
          refine pm_J7_24_21 CX hc_th.at hS hc_th.B rfl rfl (Nat.le_of_ble_eq_true rfl) dJ7_init_3_57 (fun H7 locs hat hu hm9 hS => ?_)
          have hmo := hm9 hmo
          have hU := hU.tr hu
          have hc_th : b_tt G B0 τ H7 a (ta) (.inr (21, [.ref ca, .null, .null, .null, .null, .int (nI 0)])) := hc_th.set hat
          rw [← hQ]
          exact b_vret CX hr hlk hS (Nat.le_of_ble_eq_true rfl) (Nat.le_of_ble_eq_true rfl) dJ7_init_3_60 (⟨hU, hmo, hc_th⟩)
      · exact absurd c_25 (by decide)
    · refine b_gets (v := .ref b9_17) CX hz hS q505 dJ7_init_3_17 ?_
      refine pm_J7_24_21 CX hc_th.at hS hc_th.B rfl rfl (Nat.le_of_ble_eq_true rfl) dJ7_init_3_20 (fun H8 locs hat hu hm9 hS => ?_)
      have hmo := hm9 hmo
      have hU := hU.tr hu
      have hc_th : b_tt G B0 τ H8 a (ta) (.inr (21, [.ref a, .null, .ref b9_17, .null, .null, .int (nI 0)])) := hc_th.set hat
      refine lv_iload hx hb dJ7_init_3_23 (lv_at hl 4 rfl) ?_
      refine lv_if_eq (tgt := 36) hx hb dJ7_init_3_25 (by decide) (fun c_25 => ?_) (fun c_25 => ?_)
      · refine lv_aload_n hx hb dJ7_init_3_36 rfl (lv_at hl 0 rfl) ?_
        refine lv_null hx hb dJ7_init_3_37 ?_
        refine pm_J7_17_21 CX hc_th.at hS hc_th.B rfl rfl (Nat.le_of_ble_eq_true rfl) dJ7_init_3_38 (fun H9 locs hat hu hm9 hS => ?_)
        have hmo := hm9 hmo
        have hU := hU.tr hu
        have hc_th : b_tt G B0 τ H9 a (ta) (.inr (21, [.ref a, .null, .ref b9_17, .null, .null, .int (nI 0)])) := hc_th.set hat
        refine lv_aload_n hx hb dJ7_init_3_41 rfl (lv_at hl 0 rfl) ?_
        refine lv_aload_nN hx hb dJ7_init_3_42 rfl (lv_at hl 1 rfl) ?_
        refine pm_J7_31_21 CX hc_th.at hS hc_th.B rfl rfl (Nat.le_of_ble_eq_true rfl) dJ7_init_3_43 (fun H10 locs hat hu hm9 hS => ?_)
        have hmo := hm9 hmo
        have hU := hU.tr hu
        have hc_th : b_tt G B0 τ H10 a (ta) (.inr (21, [.ref a, .null, .ref b9_17, .null, .null, .int (nI 0)])) := hc_th.set hat
        refine lv_aload_n hx hb dJ7_init_3_46 rfl (lv_at hl 0 rfl) ?_
        refine lv_aload_n hx hb dJ7_init_3_47 rfl (lv_at hl 2 rfl) ?_
        refine pm_J7_7_21 CX hc_th.at hS hc_th.B rfl rfl (Nat.le_of_ble_eq_true rfl) dJ7_init_3_48 (fun H11 locs hat hu hm9 hS => ?_)
        have hmo := hm9 hmo
        have hU := hU.tr hu
        have hc_th : b_tt G B0 τ H11 a (ta) (.inr (21, [.ref ca, .null, .ref b9_17, .null, .null, .int (nI 0)])) := hc_th.set hat
        refine lv_iload_n hx hb dJ7_init_3_51 rfl (lv_at hl 3 rfl) ?_
        refine lv_if_ne (tgt := 60) hx hb dJ7_init_3_52 (by decide) (fun c_52 => ?_) (fun c_52 => ?_)
        · exact absurd c_52 (by decide)
        · refine lv_aload_n hx hb dJ7_init_3_55 rfl (lv_at hl 0 rfl) ?_
          refine lv_null hx hb dJ7_init_3_56 ?_
          refine pm_J7_24_21 CX hc_th.at hS hc_th.B rfl rfl (Nat.le_of_ble_eq_true rfl) dJ7_init_3_57 (fun H12 locs hat hu hm9 hS => ?_)
          have hmo := hm9 hmo
          have hU := hU.tr hu
          have hc_th : b_tt G B0 τ H12 a (ta) (.inr (21, [.ref ca, .null, .null, .null, .null, .int (nI 0)])) := hc_th.set hat
          rw [← hQ]
          exact b_vret CX hr hlk hS (Nat.le_of_ble_eq_true rfl) (Nat.le_of_ble_eq_true rfl) dJ7_init_3_60 (⟨hU, hmo, hc_th⟩)
      · exact absurd c_25 (by decide)
  · refine b_gets (v := .ref b9_10) CX hz hS q503 dJ7_init_3_10 ?_
    refine pm_J7_17_21 CX hc_th.at hS hc_th.B rfl rfl (Nat.le_of_ble_eq_true rfl) dJ7_init_3_13 (fun H13 locs hat hu hm9 hS => ?_)
    have hmo := hm9 hmo
    have hU := hU.tr hu
    have hc_th : b_tt G B0 τ H13 a (ta) (.inr (21, [.ref a, .ref b9_10, .null, .null, .null, .int (nI 0)])) := hc_th.set hat
    refine lv_aload_n hx hb dJ7_init_3_16 rfl (lv_at hl 0 rfl) ?_
    rcases CX.K.2.2.2.2.1.2.2.2.2.2.2.2.2.1.1 with hz | ⟨b9_17, hz⟩
    · refine b_gets (v := .null) CX hz hS q505 dJ7_init_3_17 ?_
      refine pm_J7_24_21 CX hc_th.at hS hc_th.B rfl rfl (Nat.le_of_ble_eq_true rfl) dJ7_init_3_20 (fun H14 locs hat hu hm9 hS => ?_)
      have hmo := hm9 hmo
      have hU := hU.tr hu
      have hc_th : b_tt G B0 τ H14 a (ta) (.inr (21, [.ref a, .ref b9_10, .null, .null, .null, .int (nI 0)])) := hc_th.set hat
      refine lv_iload hx hb dJ7_init_3_23 (lv_at hl 4 rfl) ?_
      refine lv_if_eq (tgt := 36) hx hb dJ7_init_3_25 (by decide) (fun c_25 => ?_) (fun c_25 => ?_)
      · refine lv_aload_n hx hb dJ7_init_3_36 rfl (lv_at hl 0 rfl) ?_
        refine lv_null hx hb dJ7_init_3_37 ?_
        refine pm_J7_17_21 CX hc_th.at hS hc_th.B rfl rfl (Nat.le_of_ble_eq_true rfl) dJ7_init_3_38 (fun H15 locs hat hu hm9 hS => ?_)
        have hmo := hm9 hmo
        have hU := hU.tr hu
        have hc_th : b_tt G B0 τ H15 a (ta) (.inr (21, [.ref a, .null, .null, .null, .null, .int (nI 0)])) := hc_th.set hat
        refine lv_aload_n hx hb dJ7_init_3_41 rfl (lv_at hl 0 rfl) ?_
        refine lv_aload_nN hx hb dJ7_init_3_42 rfl (lv_at hl 1 rfl) ?_
        refine pm_J7_31_21 CX hc_th.at hS hc_th.B rfl rfl (Nat.le_of_ble_eq_true rfl) dJ7_init_3_43 (fun H16 locs hat hu hm9 hS => ?_)
        have hmo := hm9 hmo
        have hU := hU.tr hu
        have hc_th : b_tt G B0 τ H16 a (ta) (.inr (21, [.ref a, .null, .null, .null, .null, .int (nI 0)])) := hc_th.set hat
        refine lv_aload_n hx hb dJ7_init_3_46 rfl (lv_at hl 0 rfl) ?_
        refine lv_aload_n hx hb dJ7_init_3_47 rfl (lv_at hl 2 rfl) ?_
        refine pm_J7_7_21 CX hc_th.at hS hc_th.B rfl rfl (Nat.le_of_ble_eq_true rfl) dJ7_init_3_48 (fun H17 locs hat hu hm9 hS => ?_)
        have hmo := hm9 hmo
        have hU := hU.tr hu
        have hc_th : b_tt G B0 τ H17 a (ta) (.inr (21, [.ref ca, .null, .null, .null, .null, .int (nI 0)])) := hc_th.set hat
        refine lv_iload_n hx hb dJ7_init_3_51 rfl (lv_at hl 3 rfl) ?_
        refine lv_if_ne (tgt := 60) hx hb dJ7_init_3_52 (by decide) (fun c_52 => ?_) (fun c_52 => ?_)
        · exact absurd c_52 (by decide)
        · refine lv_aload_n hx hb dJ7_init_3_55 rfl (lv_at hl 0 rfl) ?_
          refine lv_null hx hb dJ7_init_3_56 ?_
          refine pm_J7_24_21 CX hc_th.at hS hc_th.B rfl rfl (Nat.le_of_ble_eq_true rfl) dJ7_init_3_57 (fun H18 locs hat hu hm9 hS => ?_)
          have hmo := hm9 hmo
          have hU := hU.tr hu
          have hc_th : b_tt G B0 τ H18 a (ta) (.inr (21, [.ref ca, .null, .null, .null, .null, .int (nI 0)])) := hc_th.set hat
          rw [← hQ]
          exact b_vret CX hr hlk hS (Nat.le_of_ble_eq_true rfl) (Nat.le_of_ble_eq_true rfl) dJ7_init_3_60 (⟨hU, hmo, hc_th⟩)
      · exact absurd c_25 (by decide)
    · refine b_gets (v := .ref b9_17) CX hz hS q505 dJ7_init_3_17 ?_
      refine pm_J7_24_21 CX hc_th.at hS hc_th.B rfl rfl (Nat.le_of_ble_eq_true rfl) dJ7_init_3_20 (fun H19 locs hat hu hm9 hS => ?_)
      have hmo := hm9 hmo
      have hU := hU.tr hu
      have hc_th : b_tt G B0 τ H19 a (ta) (.inr (21, [.ref a, .ref b9_10, .ref b9_17, .null, .null, .int (nI 0)])) := hc_th.set hat
      refine lv_iload hx hb dJ7_init_3_23 (lv_at hl 4 rfl) ?_
      refine lv_if_eq (tgt := 36) hx hb dJ7_init_3_25 (by decide) (fun c_25 => ?_) (fun c_25 => ?_)
      · refine lv_aload_n hx hb dJ7_init_3_36 rfl (lv_at hl 0 rfl) ?_
        refine lv_null hx hb dJ7_init_3_37 ?_
        refine pm_J7_17_21 CX hc_th.at hS hc_th.B rfl rfl (Nat.le_of_ble_eq_true rfl) dJ7_init_3_38 (fun H20 locs hat hu hm9 hS => ?_)
        have hmo := hm9 hmo
        have hU := hU.tr hu
        have hc_th : b_tt G B0 τ H20 a (ta) (.inr (21, [.ref a, .null, .ref b9_17, .null, .null, .int (nI 0)])) := hc_th.set hat
        refine lv_aload_n hx hb dJ7_init_3_41 rfl (lv_at hl 0 rfl) ?_
        refine lv_aload_nN hx hb dJ7_init_3_42 rfl (lv_at hl 1 rfl) ?_
        refine pm_J7_31_21 CX hc_th.at hS hc_th.B rfl rfl (Nat.le_of_ble_eq_true rfl) dJ7_init_3_43 (fun H21 locs hat hu hm9 hS => ?_)
        have hmo := hm9 hmo
        have hU := hU.tr hu
        have hc_th : b_tt G B0 τ H21 a (ta) (.inr (21, [.ref a, .null, .ref b9_17, .null, .null, .int (nI 0)])) := hc_th.set hat
        refine lv_aload_n hx hb dJ7_init_3_46 rfl (lv_at hl 0 rfl) ?_
        refine lv_aload_n hx hb dJ7_init_3_47 rfl (lv_at hl 2 rfl) ?_
        refine pm_J7_7_21 CX hc_th.at hS hc_th.B rfl rfl (Nat.le_of_ble_eq_true rfl) dJ7_init_3_48 (fun H22 locs hat hu hm9 hS => ?_)
        have hmo := hm9 hmo
        have hU := hU.tr hu
        have hc_th : b_tt G B0 τ H22 a (ta) (.inr (21, [.ref ca, .null, .ref b9_17, .null, .null, .int (nI 0)])) := hc_th.set hat
        refine lv_iload_n hx hb dJ7_init_3_51 rfl (lv_at hl 3 rfl) ?_
        refine lv_if_ne (tgt := 60) hx hb dJ7_init_3_52 (by decide) (fun c_52 => ?_) (fun c_52 => ?_)
        · exact absurd c_52 (by decide)
        · refine lv_aload_n hx hb dJ7_init_3_55 rfl (lv_at hl 0 rfl) ?_
          refine lv_null hx hb dJ7_init_3_56 ?_
          refine pm_J7_24_21 CX hc_th.at hS hc_th.B rfl rfl (Nat.le_of_ble_eq_true rfl) dJ7_init_3_57 (fun H23 locs hat hu hm9 hS => ?_)
          have hmo := hm9 hmo
          have hU := hU.tr hu
          have hc_th : b_tt G B0 τ H23 a (ta) (.inr (21, [.ref ca, .null, .null, .null, .null, .int (nI 0)])) := hc_th.set hat
          rw [← hQ]
          exact b_vret CX hr hlk hS (Nat.le_of_ble_eq_true rfl) (Nat.le_of_ble_eq_true rfl) dJ7_init_3_60 (⟨hU, hmo, hc_th⟩)
      · exact absurd c_25 (by decide)
set_option maxHeartbeats 2000000 in
set_option maxRecDepth 100000 in
theorem m_J8_init_3_21r (l : Launch) {G : b_G} {B0 : Nat} {H : Heap} {τ : b_T} {a : Nat} {ta : Nat} {ca : Nat} (hc_th : b_tt G B0 τ H a (ta) (.inr (21, [.null, .null, .null, .null, .null, .int (nI 0)]))) (hmo : b_fm H a) : Met l yJ8_init_3 (ws_ yJ8_init_3 cJ8_init_3 5 (Option.none)) ({ frames := 2, cells := 0, slots := 0, locals := 44 } : Room) (b_Pc G B0 H [.ref a, .null, .ref ca, .int (nI 0), .int (nI 0)]) (b_Qv B0 (fun H1 => b_Up a H H1 ∧ b_fm H1 a ∧ b_tt G B0 τ H1 a (ta) (.inr (21, [.ref ca, .null, .null, .null, .null, .int (nI 0)])))) 0 0 (b_A B0) := by
  refine b_of (by decide) (Nat.le_of_ble_eq_true rfl) ?_
  intro p e s m below meth c CX hr hlk hnm hS ls hl
  have CX : b_Cx p s m _ c cJ8_init_3 5 RJ8 G B0 := CX
  have hx := CX.hx
  have hb := CX.hb
  have hl : lv_has ls 5 [(0, .ref a), (1, .null), (2, .ref ca), (3, .int (nI 0)), (4, .int (nI 0))] := hl
  generalize hQ : MQ below (b_Qv B0 (fun H1 => b_Up a H H1 ∧ b_fm H1 a ∧ b_tt G B0 τ H1 a (ta) (.inr (21, [.ref ca, .null, .null, .null, .null, .int (nI 0)])))) ([.ref a, .null, .ref ca, .int (nI 0), .int (nI 0)] : List Value).toArray s 0 0 (b_A B0) = Q
  have hU : b_Up a H H := b_Up.rf
  refine lv_aload_n hx hb dJ8_init_3_0 rfl (lv_at hl 0 rfl) ?_
  refine lv_aload_nN hx hb dJ8_init_3_1 rfl (lv_at hl 1 rfl) ?_
  refine lv_aload_n hx hb dJ8_init_3_2 rfl (lv_at hl 2 rfl) ?_
  refine lv_iload_n hx hb dJ8_init_3_3 rfl (lv_at hl 3 rfl) ?_
  refine lv_iload hx hb dJ8_init_3_4 (lv_at hl 4 rfl) ?_
  refine b_cv (cs_J8_16 (rest := []) CX hl.1 (m_J7_init_3_21r l (a := a) (ta := ta) (ca := ca) hc_th hmo) rfl hS rfl ⟨rfl, rfl, Nat.le_of_ble_eq_true rfl, Nat.le_of_ble_eq_true rfl⟩ (Nat.le_of_ble_eq_true rfl) dJ8_init_3_6 ⟨Nat.le_of_ble_eq_true rfl, Nat.le_of_ble_eq_true rfl⟩) hS (fun H1 locs hp hS => ?_)
  obtain ⟨hu, hmo, hx0⟩ := hp
  have hU := hU.tr hu
  have hc_th : b_tt G B0 τ H1 a (ta) (.inr (21, [.ref ca, .null, .null, .null, .null, .int (nI 0)])) := hx0
  rw [← hQ]
  exact b_vret CX hr hlk hS (Nat.le_of_ble_eq_true rfl) (Nat.le_of_ble_eq_true rfl) dJ8_init_3_9 (⟨hU, hmo, hc_th⟩)
set_option maxHeartbeats 2000000 in
set_option maxRecDepth 100000 in
theorem m_X22_init_r (l : Launch) {G : b_G} {B0 : Nat} {H : Heap} {τ : b_T} {a : Nat} {ta : Nat} {ca : Nat} (hc_th : b_tt G B0 τ H a (ta) (.inr (21, [.null, .null, .null, .null, .null, .int (nI 0)]))) (hmo : b_fm H a) : Met l yX22_init (ws_ yX22_init cX22_init 2 (Option.none)) ({ frames := 3, cells := 0, slots := 0, locals := 68 } : Room) (b_Pc G B0 H [.ref a, .ref ca]) (b_Qv B0 (fun H1 => b_Up a H H1 ∧ b_fm H1 a ∧ b_tt G B0 τ H1 a (ta) (.inr (21, [.ref ca, .null, .null, .null, .null, .int (nI 0)])))) 0 0 (b_A B0) := by
  refine b_of (by decide) (Nat.le_of_ble_eq_true rfl) ?_
  intro p e s m below meth c CX hr hlk hnm hS ls hl
  have CX : b_Cx p s m _ c cX22_init 2 RX22 G B0 := CX
  have hx := CX.hx
  have hb := CX.hb
  have hl : lv_has ls 2 [(0, .ref a), (1, .ref ca)] := hl
  generalize hQ : MQ below (b_Qv B0 (fun H1 => b_Up a H H1 ∧ b_fm H1 a ∧ b_tt G B0 τ H1 a (ta) (.inr (21, [.ref ca, .null, .null, .null, .null, .int (nI 0)])))) ([.ref a, .ref ca] : List Value).toArray s 0 0 (b_A B0) = Q
  have hU : b_Up a H H := b_Up.rf
  refine lv_aload_n hx hb dX22_init_0 rfl (lv_at hl 0 rfl) ?_
  refine lv_null hx hb dX22_init_1 ?_
  refine lv_aload_n hx hb dX22_init_2 rfl (lv_at hl 1 rfl) ?_
  refine lv_iconst (v := nI 0) hx hb dX22_init_3 rfl ?_
  refine lv_iconst (v := nI 0) hx hb dX22_init_4 rfl ?_
  refine b_cv (cs_X22_3 (rest := []) CX hl.1 (m_J8_init_3_21r l (a := a) (ta := ta) (ca := ca) hc_th hmo) rfl hS rfl ⟨rfl, rfl, Nat.le_of_ble_eq_true rfl, Nat.le_of_ble_eq_true rfl⟩ (Nat.le_of_ble_eq_true rfl) dX22_init_5 ⟨Nat.le_of_ble_eq_true rfl, Nat.le_of_ble_eq_true rfl⟩) hS (fun H1 locs hp hS => ?_)
  obtain ⟨hu, hmo, hx0⟩ := hp
  have hU := hU.tr hu
  have hc_th : b_tt G B0 τ H1 a (ta) (.inr (21, [.ref ca, .null, .null, .null, .null, .int (nI 0)])) := hx0
  rw [← hQ]
  exact b_vret CX hr hlk hS (Nat.le_of_ble_eq_true rfl) (Nat.le_of_ble_eq_true rfl) dX22_init_8 (⟨hU, hmo, hc_th⟩)
set_option maxHeartbeats 2000000 in
set_option maxRecDepth 100000 in
theorem m_X9_number (l : Launch) {G : b_G} {B0 : Nat} {H : Heap} {τ : b_T} {a : Nat} {ta : Nat} (hc_th : b_tt G B0 τ H a (ta) (.inr (18, [.null, .null, .null, .null, .null, .int (nI 0)]))) : Met l yX9_number (ws_ yX9_number cX9_number 1 (Option.some Jvm.ClassFile.FieldType.int)) ({ frames := 0, cells := 0, slots := 0, locals := 0 } : Room) (b_Pc G B0 H [.ref a]) (b_Qi B0 (fun r H1 => r = nI 1 ∧ H1 = H)) 0 0 (b_A B0) := by
  refine b_of (by decide) (Nat.le_of_ble_eq_true rfl) ?_
  intro p e s m below meth c CX hr hlk hnm hS ls hl
  have CX : b_Cx p s m _ c cX9_number 1 RX9 G B0 := CX
  have hx := CX.hx
  have hb := CX.hb
  have hl : lv_has ls 1 [(0, .ref a)] := hl
  generalize hQ : MQ below (b_Qi B0 (fun r H1 => r = nI 1 ∧ H1 = H)) ([.ref a] : List Value).toArray s 0 0 (b_A B0) = Q
  refine lv_iconst (v := nI 1) hx hb dX9_number_0 rfl ?_
  rw [← hQ]
  exact b_iret CX hr hlk hS (Nat.le_of_ble_eq_true rfl) (Nat.le_of_ble_eq_true rfl) dX9_number_1 (⟨rfl, rfl⟩)
theorem cs_X1_3 {p : Program} {l : Launch} {e : Env} {R : Room} {s : State} {m : MethodId} {args : Array Value} {below : List Frame} {meth : Method} {c : Code} {H : Heap} {locs : List Loc} {cells slots : Nat} {cc : ByteArray} {pc nL a : Nat} {ls : Array Slot} {rest : List Value} {G : b_G} {B0 : Nat} (CX : b_Cx p s m args c cc nL RX1 G B0) (hls : ls.size = nL) {rm : Room} {mc ms : Nat} {As st0 : List Value} {Qc : Array Value → State → Outcome → State → Prop} (hM : Met l yX9_init (ws_ yX9_init cX9_init 1 (Option.none)) rm (b_Pc G B0 H (.ref a :: As)) Qc mc ms (b_A B0)) (hn : As.length = 0) (hS : va_S (b_A B0) s.heap H locs) (hst : st0 = As.reverse ++ .ref a :: rest) (hr : rm.cells = mc ∧ rm.slots = ms ∧ rm.frames + 1 ≤ R.frames ∧ 8 + (1 + 11) + rm.locals ≤ R.locals) (hw : (rest.map fun v => v.category).sum ≤ 8) (hdg : decode cc pc = .ok (.invokespecial 3, 3)) (hf : cells + mc ≤ R.cells ∧ slots + ms ≤ R.slots) : va_Run p l e R s m args below meth c H locs cells slots mc ms (F0 m pc ls st0) rest (Qc (Value.ref a :: As).toArray) (b_A B0) := va_runIN CX.fix hM (⟨va_cnB 0 CX.ts (lw_meth q1225) rfl hr.1 hr.2.1 (CX.K.2.1 _ q1223 rfl) (CX.ts _ q107) (by decide +kernel) ⟨hr.2.2.1, hr.2.2.2⟩, rfl, CX.ts _ q1224⟩) ⟨b_blind G B0 H _, b_pre _ CX.K hS⟩ rfl hn hls hst (lv_room hw) hdg hf
set_option maxHeartbeats 2000000 in
set_option maxRecDepth 100000 in
theorem m_X1_needBottles (l : Launch) {G : b_G} {B0 : Nat} {H : Heap} {x : Int32} : vx_Met l yX1_needBottles (ws_ yX1_needBottles cX1_needBottles 1 (Option.none)) ({ frames := 5, cells := 1, slots := 6, locals := 108 } : Room) (b_Pc G B0 H [.int x]) (b_Qv B0 (fun H1 => (¬ x = 0) ∧ H1 = H)) (b_X B0 (fun E9 q9 H9 => x = 0 ∧ e_px G B0 H (nI 1) E9 q9 H9)) 1 6 (b_A B0) := by
  refine b_ofX (by decide) (Nat.le_of_ble_eq_true rfl) ?_
  intro p e s m below meth c CX hr hlk htb hS ls hl
  have CX : b_Cx p s m _ c cX1_needBottles 1 RX1 G B0 := CX
  have hx := CX.hx
  have hb := CX.hb
  have hl : lv_has ls 1 [(0, .int x)] := hl
  generalize hQ : vx_MQ below (b_Qv B0 (fun H1 => (¬ x = 0) ∧ H1 = H)) (b_X B0 (fun E9 q9 H9 => x = 0 ∧ e_px G B0 H (nI 1) E9 q9 H9)) ([.int x] : List Value).toArray s 1 6 (b_A B0) = Q
  have hX : b_Ext H H := b_Ext.rf
  obtain ⟨τ, -⟩ : ∃ τ : b_T, True := ⟨fun _ => 0, trivial⟩
  refine lv_iload_n hx hb dX1_needBottles_0 rfl (lv_at hl 0 rfl) ?_
  refine lv_if_ne (tgt := 12) hx hb dX1_needBottles_1 (by decide) (fun c_1 => ?_) (fun c_1 => ?_)
  · rw [← hQ]
    exact vx_ret (b_vret CX hr hlk hS (Nat.le_of_ble_eq_true rfl) (Nat.le_of_ble_eq_true rfl) dX1_needBottles_12 (⟨(by exact c_1), rfl⟩))
  · refine b_new CX in_X9 tyX9 tyX9_ok (ci := 18) rfl q1213 q1214 q107 (fs := [.null, .null, .null, .null, .null, .int (nI 0)]) (nofn_X9) hS (Nat.le_of_ble_eq_true rfl) (Nat.le_of_ble_eq_true rfl) dX1_needBottles_4 (fun q1 H1 hq hB hat hsz hE hS => ?_)
    have fr_ex : H.size ≤ q1 := by rw [hq]; exact hX.1
    have hX := hX.tr hE
    have hc_ex : b_tt G B0 ((upT τ q1 101)) H1 q1 101 (.inr (18, [.null, .null, .null, .null, .null, .int (nI 0)])) := b_tt.mk hat hB
    refine lv_dup hx hb dX1_needBottles_7 rfl ?_
    refine b_cv (cs_X1_3 (rest := [.ref q1]) CX hl.1 (m_X9_init l (a := q1) (ta := 101) hc_ex) rfl hS rfl ⟨rfl, rfl, Nat.le_of_ble_eq_true rfl, Nat.le_of_ble_eq_true rfl⟩ (Nat.le_of_ble_eq_true rfl) dX1_needBottles_8 ⟨Nat.le_of_ble_eq_true rfl, Nat.le_of_ble_eq_true rfl⟩) hS (fun H2 locs hp hS => ?_)
    obtain ⟨hu, hx0⟩ := hp
    have hX := hX.up hu fr_ex
    have hc_ex : b_tt G B0 ((upT τ q1 101)) H2 q1 101 (.inr (18, [.null, .null, .null, .null, .null, .int (nI 0)])) := hx0
    refine b_athrow CX dX1_needBottles_11 ?_
    rw [← hQ]
    exact b_xout htb hlk (b_thof CX (ci := 18) rfl hc_ex.at) hS (Nat.le_of_ble_eq_true rfl) (Nat.le_of_ble_eq_true rfl) ⟨c_1, hX, fr_ex, hc_ex.B, 1, by omega, rfl, rfl, hc_ex.at⟩
set_option maxHeartbeats 2000000 in
set_option maxRecDepth 100000 in
theorem m_X10_number (l : Launch) {G : b_G} {B0 : Nat} {H : Heap} {τ : b_T} {a : Nat} {ta : Nat} (hc_th : b_tt G B0 τ H a (ta) (.inr (19, [.null, .null, .null, .null, .null, .int (nI 0)]))) : Met l yX10_number (ws_ yX10_number cX10_number 1 (Option.some Jvm.ClassFile.FieldType.int)) ({ frames := 0, cells := 0, slots := 0, locals := 0 } : Room) (b_Pc G B0 H [.ref a]) (b_Qi B0 (fun r H1 => r = nI 2 ∧ H1 = H)) 0 0 (b_A B0) := by
  refine b_of (by decide) (Nat.le_of_ble_eq_true rfl) ?_
  intro p e s m below meth c CX hr hlk hnm hS ls hl
  have CX : b_Cx p s m _ c cX10_number 1 RX10 G B0 := CX
  have hx := CX.hx
  have hb := CX.hb
  have hl : lv_has ls 1 [(0, .ref a)] := hl
  generalize hQ : MQ below (b_Qi B0 (fun r H1 => r = nI 2 ∧ H1 = H)) ([.ref a] : List Value).toArray s 0 0 (b_A B0) = Q
  refine lv_iconst (v := nI 2) hx hb dX10_number_0 rfl ?_
  rw [← hQ]
  exact b_iret CX hr hlk hS (Nat.le_of_ble_eq_true rfl) (Nat.le_of_ble_eq_true rfl) dX10_number_1 (⟨rfl, rfl⟩)
theorem cs_X1_9 {p : Program} {l : Launch} {e : Env} {R : Room} {s : State} {m : MethodId} {args : Array Value} {below : List Frame} {meth : Method} {c : Code} {H : Heap} {locs : List Loc} {cells slots : Nat} {cc : ByteArray} {pc nL a : Nat} {ls : Array Slot} {rest : List Value} {G : b_G} {B0 : Nat} (CX : b_Cx p s m args c cc nL RX1 G B0) (hls : ls.size = nL) {rm : Room} {mc ms : Nat} {As st0 : List Value} {Qc : Array Value → State → Outcome → State → Prop} (hM : Met l yX10_init (ws_ yX10_init cX10_init 1 (Option.none)) rm (b_Pc G B0 H (.ref a :: As)) Qc mc ms (b_A B0)) (hn : As.length = 0) (hS : va_S (b_A B0) s.heap H locs) (hst : st0 = As.reverse ++ .ref a :: rest) (hr : rm.cells = mc ∧ rm.slots = ms ∧ rm.frames + 1 ≤ R.frames ∧ 8 + (1 + 11) + rm.locals ≤ R.locals) (hw : (rest.map fun v => v.category).sum ≤ 8) (hdg : decode cc pc = .ok (.invokespecial 9, 3)) (hf : cells + mc ≤ R.cells ∧ slots + ms ≤ R.slots) : va_Run p l e R s m args below meth c H locs cells slots mc ms (F0 m pc ls st0) rest (Qc (Value.ref a :: As).toArray) (b_A B0) := va_runIN CX.fix hM (⟨va_cnB 0 CX.ts (lw_meth q1251) rfl hr.1 hr.2.1 (CX.K.2.1 _ q1249 rfl) (CX.ts _ q108) (by decide +kernel) ⟨hr.2.2.1, hr.2.2.2⟩, rfl, CX.ts _ q1250⟩) ⟨b_blind G B0 H _, b_pre _ CX.K hS⟩ rfl hn hls hst (lv_room hw) hdg hf
set_option maxHeartbeats 2000000 in
set_option maxRecDepth 100000 in
theorem m_X1_needCrates (l : Launch) {G : b_G} {B0 : Nat} {H : Heap} {x : Int32} : vx_Met l yX1_needCrates (ws_ yX1_needCrates cX1_needCrates 1 (Option.none)) ({ frames := 5, cells := 1, slots := 6, locals := 108 } : Room) (b_Pc G B0 H [.int x]) (b_Qv B0 (fun H1 => (¬ x = 0) ∧ H1 = H)) (b_X B0 (fun E9 q9 H9 => x = 0 ∧ e_px G B0 H (nI 2) E9 q9 H9)) 1 6 (b_A B0) := by
  refine b_ofX (by decide) (Nat.le_of_ble_eq_true rfl) ?_
  intro p e s m below meth c CX hr hlk htb hS ls hl
  have CX : b_Cx p s m _ c cX1_needCrates 1 RX1 G B0 := CX
  have hx := CX.hx
  have hb := CX.hb
  have hl : lv_has ls 1 [(0, .int x)] := hl
  generalize hQ : vx_MQ below (b_Qv B0 (fun H1 => (¬ x = 0) ∧ H1 = H)) (b_X B0 (fun E9 q9 H9 => x = 0 ∧ e_px G B0 H (nI 2) E9 q9 H9)) ([.int x] : List Value).toArray s 1 6 (b_A B0) = Q
  have hX : b_Ext H H := b_Ext.rf
  obtain ⟨τ, -⟩ : ∃ τ : b_T, True := ⟨fun _ => 0, trivial⟩
  refine lv_iload_n hx hb dX1_needCrates_0 rfl (lv_at hl 0 rfl) ?_
  refine lv_if_ne (tgt := 12) hx hb dX1_needCrates_1 (by decide) (fun c_1 => ?_) (fun c_1 => ?_)
  · rw [← hQ]
    exact vx_ret (b_vret CX hr hlk hS (Nat.le_of_ble_eq_true rfl) (Nat.le_of_ble_eq_true rfl) dX1_needCrates_12 (⟨(by exact c_1), rfl⟩))
  · refine b_new CX in_X10 tyX10 tyX10_ok (ci := 19) rfl q1240 q1241 q108 (fs := [.null, .null, .null, .null, .null, .int (nI 0)]) (nofn_X10) hS (Nat.le_of_ble_eq_true rfl) (Nat.le_of_ble_eq_true rfl) dX1_needCrates_4 (fun q1 H1 hq hB hat hsz hE hS => ?_)
    have fr_ex : H.size ≤ q1 := by rw [hq]; exact hX.1
    have hX := hX.tr hE
    have hc_ex : b_tt G B0 ((upT τ q1 101)) H1 q1 101 (.inr (19, [.null, .null, .null, .null, .null, .int (nI 0)])) := b_tt.mk hat hB
    refine lv_dup hx hb dX1_needCrates_7 rfl ?_
    refine b_cv (cs_X1_9 (rest := [.ref q1]) CX hl.1 (m_X10_init l (a := q1) (ta := 101) hc_ex) rfl hS rfl ⟨rfl, rfl, Nat.le_of_ble_eq_true rfl, Nat.le_of_ble_eq_true rfl⟩ (Nat.le_of_ble_eq_true rfl) dX1_needCrates_8 ⟨Nat.le_of_ble_eq_true rfl, Nat.le_of_ble_eq_true rfl⟩) hS (fun H2 locs hp hS => ?_)
    obtain ⟨hu, hx0⟩ := hp
    have hX := hX.up hu fr_ex
    have hc_ex : b_tt G B0 ((upT τ q1 101)) H2 q1 101 (.inr (19, [.null, .null, .null, .null, .null, .int (nI 0)])) := hx0
    refine b_athrow CX dX1_needCrates_11 ?_
    rw [← hQ]
    exact b_xout htb hlk (b_thof CX (ci := 19) rfl hc_ex.at) hS (Nat.le_of_ble_eq_true rfl) (Nat.le_of_ble_eq_true rfl) ⟨c_1, hX, fr_ex, hc_ex.B, 2, by omega, rfl, rfl, hc_ex.at⟩
set_option maxHeartbeats 2000000 in
set_option maxRecDepth 100000 in
theorem m_X11_number (l : Launch) {G : b_G} {B0 : Nat} {H : Heap} {τ : b_T} {a : Nat} {ta : Nat} (hc_th : b_tt G B0 τ H a (ta) (.inr (20, [.null, .null, .null, .null, .null, .int (nI 0)]))) : Met l yX11_number (ws_ yX11_number cX11_number 1 (Option.some Jvm.ClassFile.FieldType.int)) ({ frames := 0, cells := 0, slots := 0, locals := 0 } : Room) (b_Pc G B0 H [.ref a]) (b_Qi B0 (fun r H1 => r = nI 3 ∧ H1 = H)) 0 0 (b_A B0) := by
  refine b_of (by decide) (Nat.le_of_ble_eq_true rfl) ?_
  intro p e s m below meth c CX hr hlk hnm hS ls hl
  have CX : b_Cx p s m _ c cX11_number 1 RX11 G B0 := CX
  have hx := CX.hx
  have hb := CX.hb
  have hl : lv_has ls 1 [(0, .ref a)] := hl
  generalize hQ : MQ below (b_Qi B0 (fun r H1 => r = nI 3 ∧ H1 = H)) ([.ref a] : List Value).toArray s 0 0 (b_A B0) = Q
  refine lv_iconst (v := nI 3) hx hb dX11_number_0 rfl ?_
  rw [← hQ]
  exact b_iret CX hr hlk hS (Nat.le_of_ble_eq_true rfl) (Nat.le_of_ble_eq_true rfl) dX11_number_1 (⟨rfl, rfl⟩)
theorem cs_X1_12 {p : Program} {l : Launch} {e : Env} {R : Room} {s : State} {m : MethodId} {args : Array Value} {below : List Frame} {meth : Method} {c : Code} {H : Heap} {locs : List Loc} {cells slots : Nat} {cc : ByteArray} {pc nL a : Nat} {ls : Array Slot} {rest : List Value} {G : b_G} {B0 : Nat} (CX : b_Cx p s m args c cc nL RX1 G B0) (hls : ls.size = nL) {rm : Room} {mc ms : Nat} {As st0 : List Value} {Qc : Array Value → State → Outcome → State → Prop} (hM : Met l yX11_init (ws_ yX11_init cX11_init 1 (Option.none)) rm (b_Pc G B0 H (.ref a :: As)) Qc mc ms (b_A B0)) (hn : As.length = 0) (hS : va_S (b_A B0) s.heap H locs) (hst : st0 = As.reverse ++ .ref a :: rest) (hr : rm.cells = mc ∧ rm.slots = ms ∧ rm.frames + 1 ≤ R.frames ∧ 8 + (1 + 11) + rm.locals ≤ R.locals) (hw : (rest.map fun v => v.category).sum ≤ 8) (hdg : decode cc pc = .ok (.invokespecial 12, 3)) (hf : cells + mc ≤ R.cells ∧ slots + ms ≤ R.slots) : va_Run p l e R s m args below meth c H locs cells slots mc ms (F0 m pc ls st0) rest (Qc (Value.ref a :: As).toArray) (b_A B0) := va_runIN CX.fix hM (⟨va_cnB 0 CX.ts (lw_meth q1270) rfl hr.1 hr.2.1 (CX.K.2.1 _ q1268 rfl) (CX.ts _ q109) (by decide +kernel) ⟨hr.2.2.1, hr.2.2.2⟩, rfl, CX.ts _ q1269⟩) ⟨b_blind G B0 H _, b_pre _ CX.K hS⟩ rfl hn hls hst (lv_room hw) hdg hf
set_option maxHeartbeats 2000000 in
set_option maxRecDepth 100000 in
theorem m_X1_needMoney (l : Launch) {G : b_G} {B0 : Nat} {H : Heap} {x : Int32} : vx_Met l yX1_needMoney (ws_ yX1_needMoney cX1_needMoney 1 (Option.none)) ({ frames := 5, cells := 1, slots := 6, locals := 108 } : Room) (b_Pc G B0 H [.int x]) (b_Qv B0 (fun H1 => (¬ x = 0) ∧ H1 = H)) (b_X B0 (fun E9 q9 H9 => x = 0 ∧ e_px G B0 H (nI 3) E9 q9 H9)) 1 6 (b_A B0) := by
  refine b_ofX (by decide) (Nat.le_of_ble_eq_true rfl) ?_
  intro p e s m below meth c CX hr hlk htb hS ls hl
  have CX : b_Cx p s m _ c cX1_needMoney 1 RX1 G B0 := CX
  have hx := CX.hx
  have hb := CX.hb
  have hl : lv_has ls 1 [(0, .int x)] := hl
  generalize hQ : vx_MQ below (b_Qv B0 (fun H1 => (¬ x = 0) ∧ H1 = H)) (b_X B0 (fun E9 q9 H9 => x = 0 ∧ e_px G B0 H (nI 3) E9 q9 H9)) ([.int x] : List Value).toArray s 1 6 (b_A B0) = Q
  have hX : b_Ext H H := b_Ext.rf
  obtain ⟨τ, -⟩ : ∃ τ : b_T, True := ⟨fun _ => 0, trivial⟩
  refine lv_iload_n hx hb dX1_needMoney_0 rfl (lv_at hl 0 rfl) ?_
  refine lv_if_ne (tgt := 12) hx hb dX1_needMoney_1 (by decide) (fun c_1 => ?_) (fun c_1 => ?_)
  · rw [← hQ]
    exact vx_ret (b_vret CX hr hlk hS (Nat.le_of_ble_eq_true rfl) (Nat.le_of_ble_eq_true rfl) dX1_needMoney_12 (⟨(by exact c_1), rfl⟩))
  · refine b_new CX in_X11 tyX11 tyX11_ok (ci := 20) rfl q1259 q1260 q109 (fs := [.null, .null, .null, .null, .null, .int (nI 0)]) (nofn_X11) hS (Nat.le_of_ble_eq_true rfl) (Nat.le_of_ble_eq_true rfl) dX1_needMoney_4 (fun q1 H1 hq hB hat hsz hE hS => ?_)
    have fr_ex : H.size ≤ q1 := by rw [hq]; exact hX.1
    have hX := hX.tr hE
    have hc_ex : b_tt G B0 ((upT τ q1 101)) H1 q1 101 (.inr (20, [.null, .null, .null, .null, .null, .int (nI 0)])) := b_tt.mk hat hB
    refine lv_dup hx hb dX1_needMoney_7 rfl ?_
    refine b_cv (cs_X1_12 (rest := [.ref q1]) CX hl.1 (m_X11_init l (a := q1) (ta := 101) hc_ex) rfl hS rfl ⟨rfl, rfl, Nat.le_of_ble_eq_true rfl, Nat.le_of_ble_eq_true rfl⟩ (Nat.le_of_ble_eq_true rfl) dX1_needMoney_8 ⟨Nat.le_of_ble_eq_true rfl, Nat.le_of_ble_eq_true rfl⟩) hS (fun H2 locs hp hS => ?_)
    obtain ⟨hu, hx0⟩ := hp
    have hX := hX.up hu fr_ex
    have hc_ex : b_tt G B0 ((upT τ q1 101)) H2 q1 101 (.inr (20, [.null, .null, .null, .null, .null, .int (nI 0)])) := hx0
    refine b_athrow CX dX1_needMoney_11 ?_
    rw [← hQ]
    exact b_xout htb hlk (b_thof CX (ci := 20) rfl hc_ex.at) hS (Nat.le_of_ble_eq_true rfl) (Nat.le_of_ble_eq_true rfl) ⟨c_1, hX, fr_ex, hc_ex.B, 3, by omega, rfl, rfl, hc_ex.at⟩
