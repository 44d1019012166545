/-! a loop made new -/
set_option maxRecDepth 100000
def upM (τ : b_T) (q t6 t10 : Nat) : b_T := fun a => if a = q then t6 else if q < a ∧ a < q + 9 then t10 + (a - q - 1) else τ a
theorem b_Ag.newM {τ : b_T} {H : Heap} {q t6 t10 : Nat} (hq : q = H.size) : b_Ag τ (upM τ q t6 t10) H := fun a ha => by
  unfold upM
  rw [if_neg (by omega), if_neg (by omega)]
theorem b_tt.newM {G : b_G} {B0 : Nat} {τ : b_T} {H H1 : Heap} {a t q t6 t10 : Nat} {e : va_E} (h : b_tt G B0 τ H a t e) (hE : b_Ext H H1) (hq : q = H.size) : b_tt G B0 (upM τ q t6 t10) H1 a t e := (h.re (b_Ag.newM hq)).ext hE
theorem b_tt.mkM {G : b_G} {B0 : Nat} {τ : b_T} {H1 : Heap} {q t6 t10 : Nat} {e : va_E} (hat : b_at G q e H1) (hB : B0 ≤ q) : b_tt G B0 (upM τ q t6 t10) H1 q t6 e := ⟨hat, if_pos rfl, hB⟩
theorem b_tt.mkR {G : b_G} {B0 : Nat} {τ : b_T} {H1 : Heap} {q t6 t10 j : Nat} {e : va_E} (hj : j < 8) (hat : b_at G (q + 1 + j) e H1) (hB : B0 ≤ q) : b_tt G B0 (upM τ q t6 t10) H1 (q + 1 + j) (t10 + j) e :=
  ⟨hat, by unfold upM; rw [if_neg (by omega), if_pos (by omega), show q + 1 + j - q - 1 = j by omega], by omega⟩
theorem b_cgq {G : b_G} {a cA n : Nat} {f g : Nat → Option Nat} {H : Heap} (h : b_at G a (.inl (cA, q_refs n f)) H) (he : ∀ j, j < n → f j = g j) : b_at G a (.inl (cA, q_refs n g)) H := by
  refine Eq.trans h ?_
  show some (arrV cA n (fun j => va_rf (f j))) = some (arrV cA n (fun j => va_rf (g j)))
  have e : ∀ j, j < n → (va_rf (f j)) = va_rf (g j) := fun j hj => by rw [he j hj]
  unfold arrV
  simp only [Option.some.injEq, Cell.mk.injEq, true_and, and_true]
  first
    | exact congrArg _ (List.map_congr_left (fun j hj => by simp at hj; exact e j hj))
    | (apply Array.ext_getElem?; intro i; simp; intro hi; exact e i hi)
    | (apply Array.ext; simp; intro i h1 h2; simp; exact e i (by simpa using h1))
/-- the table at the start -/
def s_0 : b_St := fun k i j => if k = 0 ∧ i = 0 then nI ([0, 0, 0, 0, 0, 0, 0, 8, 15, 25, 150, 6, 20].getD j 0) else nI 0
def f_0 (a q1 q3 q5 q6 : Nat) : Nat → Nat := fun i => if i = 0 then a else if i = 1 then q1 else if i = 3 then q3 else if i = 5 then q5 else if i = 6 then q6 else q6 + 1 + (i - 10)
theorem LR.mk0 {G : b_G} {B0 : Nat} {τ : b_T} {id : Nat} {H : Heap} {a q1 q3 q5 q6 : Nat} {se : Nat → Int32}
    (h0 : b_tt G B0 τ H a (1000 * id + 0) (.inr (1, [.ref q1, .ref q3, .ref q5, .ref q6, .int (nI 0), .int (nI 0), .int (nI 0), .int (nI 0), .int (nI 0)])))
    (h1 : b_tt G B0 τ H q1 (1000 * id + 1) (.inr (2, [.int (nI 0), .ref (G.2.2 0), .int (nI 0)]))) (h3 : b_tt G B0 τ H q3 (1000 * id + 3) (.inr (2, [.int (nI 0), .ref (G.2.2 0), .int (nI 0)])))
    (h5 : b_tt G B0 τ H q5 (1000 * id + 5) (.inl (G.2.1 0, 6, .inl se))) (hse : ∀ j, j < 6 → se j = s_0 0 0 (7 + j))
    (h6 : b_tt G B0 τ H q6 (1000 * id + 6) (.inl (G.2.1 3, q_refs 8 (fun j => if j < 8 then some (q6 + 1 + j) else none))))
    (hr : ∀ j, j < 8 → b_tt G B0 τ H (q6 + 1 + j) (1000 * id + 10 + j) (.inl (G.2.1 0, 8, .inl (fun _ => 0)))) :
    LR G B0 τ id (f_0 a q1 q3 q5 q6) (fun _ => nI 0) (fun _ => false) H s_0 (fun _ _ => 0) := by
  have hn : nb s_0 = 0 := rfl
  have hs : ns s_0 = 0 := rfl
  refine ⟨fun i hi => ?_, Or.inr hn, Or.inr hs, by rw [hn]; decide, by rw [hs]; decide⟩
  rw [hn, hs] at hi
  unfold l_use at hi
  have hc : i = 0 ∨ i = 1 ∨ i = 3 ∨ i = 5 ∨ i = 6 ∨ (10 ≤ i ∧ i < 18) := by
    simp at hi
    omega
  rcases hc with rfl | rfl | rfl | rfl | rfl | hc
  · exact h0
  · exact h1
  · exact h3
  · exact (h5.ci hse)
  · refine ⟨b_cgq h6.1 (fun j hj => ?_), h6.2⟩
    show (if j < 8 then some (q6 + 1 + j) else none) = some (f_0 a q1 q3 q5 q6 (10 + j))
    rw [if_pos hj]
    unfold f_0
    rw [if_neg (by omega), if_neg (by omega), if_neg (by omega), if_neg (by omega), if_neg (by omega), show 10 + j - 10 = j by omega]
  · obtain ⟨j, rfl⟩ : ∃ j, i = 10 + j := ⟨i - 10, by omega⟩
    rw [l_c7 (by omega)]
    have e : f_0 a q1 q3 q5 q6 (10 + j) = q6 + 1 + j := by
      unfold f_0
      rw [if_neg (by omega), if_neg (by omega), if_neg (by omega), if_neg (by omega), if_neg (by omega), show 10 + j - 10 = j by omega]
    rw [e, show 1000 * id + (10 + j) = 1000 * id + 10 + j by omega]
    exact hr j (by omega)
theorem cs_X2_11 {p : Program} {l : Launch} {e : Env} {R : Room} {s : State} {m : MethodId} {args : Array Value} {below : List Frame} {meth : Method} {c : Code} {H : Heap} {locs : List Loc} {cells slots : Nat} {cc : ByteArray} {pc nL a : Nat} {ls : Array Slot} {rest : List Value} {G : b_G} {B0 : Nat} (CX : b_Cx p s m args c cc nL RX2 G B0) (hls : ls.size = nL) {rm : Room} {mc ms : Nat} {As st0 : List Value} {Qc : Array Value → State → Outcome → State → Prop} (hM : Met l yJ2_init (ws_ yJ2_init cJ2_init 1 (Option.none)) rm (b_Pc G B0 H (.ref a :: As)) Qc mc ms (b_A B0)) (hn : As.length = 0) (hS : va_S (b_A B0) s.heap H locs) (hst : st0 = As.reverse ++ .ref a :: rest) (hr : rm.cells = mc ∧ rm.slots = ms ∧ rm.frames + 1 ≤ R.frames ∧ 8 + (1 + 11) + rm.locals ≤ R.locals) (hw : (rest.map fun v => v.category).sum ≤ 8) (hdg : decode cc pc = .ok (.invokespecial 11, 3)) (hf : cells + mc ≤ R.cells ∧ slots + ms ≤ R.slots) : va_Run p l e R s m args below meth c H locs cells slots mc ms (F0 m pc ls st0) rest (Qc (Value.ref a :: As).toArray) (b_A B0) := va_runI CX.fix hM (cwI 0 CX.ts (lw_meth q144) rfl hr.1 hr.2.1 (CX.ts _ q83) (CX.ts _ q142) (CX.ts _ q143) rfl (by decide +kernel) ⟨hr.2.2.1, hr.2.2.2⟩) ⟨b_blind G B0 H _, b_pre _ CX.K hS⟩ rfl hn hls hst (lv_room hw) hdg hf
theorem pf_X2_12_1 {p : Program} {l : Launch} {e : Env} {R : Room} {s : State} {m : MethodId} {args : Array Value} {below : List Frame} {meth : Method} {c : Code} {H : Heap} {locs : List Loc} {cells slots : Nat} {Q : State → Prop} {cc : ByteArray} {pc nL a : Nat} {ls : Array Slot} {rest : List Value} {G : b_G} {B0 : Nat} (CX : b_Cx p s m args c cc nL RX2 G B0) (hin2 : meth.name = "<init>") {fs : List Value} (hP : b_at G a (.inr (1, fs)) H) (hS : va_S (b_A B0) s.heap H locs) (ha : B0 ≤ a) {v : Value} (hn : narrow (tyX2 0) v = v) (hfit : fits (tyX2 0) v = true) (hl : 0 < fs.length) (hdg : decode cc pc = .ok (.putfield 12, 3)) (kk : ∀ (H1 : Heap) (locs1 : List Loc), b_at G a (.inr (1, fs.set 0 v)) H1 → b_Up a H H1 → va_S (b_A B0) s.heap H1 locs1 → W p l e R s m args below meth c H1 locs1 cells slots Q (F0 m (pc + 3) ls rest)) : W p l e R s m args below meth c H locs cells slots Q (F0 m pc ls (v :: .ref a :: rest)) := b_putF CX in_X2 tyX2 tyX2_ok rfl 0 (by decide) (by decide +kernel) q168 (Or.inl rfl) rfl hin2 rfl hP hS ha hn hfit hl hdg kk
theorem pf_X2_18_1 {p : Program} {l : Launch} {e : Env} {R : Room} {s : State} {m : MethodId} {args : Array Value} {below : List Frame} {meth : Method} {c : Code} {H : Heap} {locs : List Loc} {cells slots : Nat} {Q : State → Prop} {cc : ByteArray} {pc nL a : Nat} {ls : Array Slot} {rest : List Value} {G : b_G} {B0 : Nat} (CX : b_Cx p s m args c cc nL RX2 G B0) (hin2 : meth.name = "<init>") {fs : List Value} (hP : b_at G a (.inr (1, fs)) H) (hS : va_S (b_A B0) s.heap H locs) (ha : B0 ≤ a) {v : Value} (hn : narrow (tyX2 1) v = v) (hfit : fits (tyX2 1) v = true) (hl : 1 < fs.length) (hdg : decode cc pc = .ok (.putfield 18, 3)) (kk : ∀ (H1 : Heap) (locs1 : List Loc), b_at G a (.inr (1, fs.set 1 v)) H1 → b_Up a H H1 → va_S (b_A B0) s.heap H1 locs1 → W p l e R s m args below meth c H1 locs1 cells slots Q (F0 m (pc + 3) ls rest)) : W p l e R s m args below meth c H locs cells slots Q (F0 m pc ls (v :: .ref a :: rest)) := b_putF CX in_X2 tyX2 tyX2_ok rfl 1 (by decide) (by decide +kernel) q173 (Or.inl rfl) rfl hin2 rfl hP hS ha hn hfit hl hdg kk
theorem pf_X2_21_1 {p : Program} {l : Launch} {e : Env} {R : Room} {s : State} {m : MethodId} {args : Array Value} {below : List Frame} {meth : Method} {c : Code} {H : Heap} {locs : List Loc} {cells slots : Nat} {Q : State → Prop} {cc : ByteArray} {pc nL a : Nat} {ls : Array Slot} {rest : List Value} {G : b_G} {B0 : Nat} (CX : b_Cx p s m args c cc nL RX2 G B0) (hin2 : meth.name = "<init>") {fs : List Value} (hP : b_at G a (.inr (1, fs)) H) (hS : va_S (b_A B0) s.heap H locs) (ha : B0 ≤ a) {v : Value} (hn : narrow (tyX2 2) v = v) (hfit : fits (tyX2 2) v = true) (hl : 2 < fs.length) (hdg : decode cc pc = .ok (.putfield 21, 3)) (kk : ∀ (H1 : Heap) (locs1 : List Loc), b_at G a (.inr (1, fs.set 2 v)) H1 → b_Up a H H1 → va_S (b_A B0) s.heap H1 locs1 → W p l e R s m args below meth c H1 locs1 cells slots Q (F0 m (pc + 3) ls rest)) : W p l e R s m args below meth c H locs cells slots Q (F0 m pc ls (v :: .ref a :: rest)) := b_putF CX in_X2 tyX2 tyX2_ok rfl 2 (by decide) (by decide +kernel) q180 (Or.inl rfl) rfl hin2 rfl hP hS ha hn hfit hl hdg kk
theorem pf_X2_27_1 {p : Program} {l : Launch} {e : Env} {R : Room} {s : State} {m : MethodId} {args : Array Value} {below : List Frame} {meth : Method} {c : Code} {H : Heap} {locs : List Loc} {cells slots : Nat} {Q : State → Prop} {cc : ByteArray} {pc nL a : Nat} {ls : Array Slot} {rest : List Value} {G : b_G} {B0 : Nat} (CX : b_Cx p s m args c cc nL RX2 G B0) (hin2 : meth.name = "<init>") {fs : List Value} (hP : b_at G a (.inr (1, fs)) H) (hS : va_S (b_A B0) s.heap H locs) (ha : B0 ≤ a) {v : Value} (hn : narrow (tyX2 3) v = v) (hfit : fits (tyX2 3) v = true) (hl : 3 < fs.length) (hdg : decode cc pc = .ok (.putfield 27, 3)) (kk : ∀ (H1 : Heap) (locs1 : List Loc), b_at G a (.inr (1, fs.set 3 v)) H1 → b_Up a H H1 → va_S (b_A B0) s.heap H1 locs1 → W p l e R s m args below meth c H1 locs1 cells slots Q (F0 m (pc + 3) ls rest)) : W p l e R s m args below meth c H locs cells slots Q (F0 m pc ls (v :: .ref a :: rest)) := b_putF CX in_X2 tyX2 tyX2_ok rfl 3 (by decide) (by decide +kernel) q182 (Or.inl rfl) rfl hin2 rfl hP hS ha hn hfit hl hdg kk
set_option maxHeartbeats 2000000 in
set_option maxRecDepth 100000 in
theorem m_X2_init (l : Launch) {G : b_G} {B0 : Nat} {H : Heap} {τ : b_T} {a : Nat} {id : Nat} (hc_th : b_tt G B0 τ H a (1000 * id + 0) (.inr (1, [.null, .null, .null, .null, .int (nI 0), .int (nI 0), .int (nI 0), .int (nI 0), .int (nI 0)]))) : Met l yX2_init (ws_ yX2_init cX2_init 1 (Option.none)) ({ frames := 4, cells := 12, slots := 84, locals := 80 } : Room) (b_Pc G B0 H [.ref a]) (b_Qv B0 (fun H1 => ∃ (τ1 : b_T) (q1 q3 q5 q6 : Nat), b_Ag τ τ1 H ∧ b_Fr τ (fun t => 1000 * id ≤ t ∧ t < 1000 * id + 1000) H H1 ∧ (H.size ≤ q1 ∧ H.size ≤ q3 ∧ H.size ≤ q5 ∧ H.size ≤ q6) ∧ LR G B0 τ1 id (f_0 a q1 q3 q5 q6) (fun _ => nI 0) (fun _ => false) H1 s_0 (fun _ _ => 0))) 12 84 (b_A B0) := by
  refine b_of (by decide) (Nat.le_of_ble_eq_true rfl) ?_
  intro p e s m below meth c CX hr hlk hnm hS ls hl
  have CX : b_Cx p s m _ c cX2_init 1 RX2 G B0 := CX
  have hx := CX.hx
  have hb := CX.hb
  have hl : lv_has ls 1 [(0, .ref a)] := hl
  generalize hQ : MQ below (b_Qv B0 (fun H1 => ∃ (τ1 : b_T) (q1 q3 q5 q6 : Nat), b_Ag τ τ1 H ∧ b_Fr τ (fun t => 1000 * id ≤ t ∧ t < 1000 * id + 1000) H H1 ∧ (H.size ≤ q1 ∧ H.size ≤ q3 ∧ H.size ≤ q5 ∧ H.size ≤ q6) ∧ LR G B0 τ1 id (f_0 a q1 q3 q5 q6) (fun _ => nI 0) (fun _ => false) H1 s_0 (fun _ _ => 0))) ([.ref a] : List Value).toArray s 12 84 (b_A B0) = Q
  have hF : b_Fr τ (fun t => 1000 * id ≤ t ∧ t < 1000 * id + 1000) H H := b_Fr.rf
  have hA : b_Ag τ τ H := b_Ag.rf
  refine lv_aload_n hx hb dX2_init_0 rfl (lv_at hl 0 rfl) ?_
  refine W.objInit hx hb CX.ow (CX.ts _ q139) (CX.ts _ q132) (CX.ts _ q133) rfl (by rw [CX.ml]; exact hl.1) rfl dX2_init_1 (Nat.le_of_ble_eq_true rfl) (Nat.le_of_ble_eq_true rfl) ?_
  refine W.eq (g2 := F0 m 4 ls []) rfl ?_
  refine lv_aload_n hx hb dX2_init_4 rfl (lv_at hl 0 rfl) ?_
  refine b_new CX in_J2 tyJ2 tyJ2_ok (ci := 2) rfl q140 q141 q83 (fs := [.int (nI 0), .null, .int (nI 0)]) (nofn_J2) hS (Nat.le_of_ble_eq_true rfl) (Nat.le_of_ble_eq_true rfl) dX2_init_5 (fun q1 H1 hq hB hat hsz hE hS => ?_)
  have hc_th := hc_th.new (tb := 1000 * id + 1) hE hq
  have fr_al1 : H.size ≤ q1 := by rw [hq]; exact hF.1
  have hA := hA.tr (b_Ag.new (t := 1000 * id + 1) hq) hF.1
  have hF := hF.ext hE
  have hc_al1 : b_tt G B0 ((upT τ q1 (1000 * id + 1))) H1 q1 (1000 * id + 1) (.inr (2, [.int (nI 0), .null, .int (nI 0)])) := b_tt.mk hat hB
  refine lv_dup hx hb dX2_init_8 rfl ?_
  refine b_cv (cs_X2_11 (rest := [.ref q1, .ref a]) CX hl.1 (m_J2_init l (a := q1) (ta := 1000 * id + 1) hc_al1) rfl hS rfl ⟨rfl, rfl, Nat.le_of_ble_eq_true rfl, Nat.le_of_ble_eq_true rfl⟩ (Nat.le_of_ble_eq_true rfl) dX2_init_9 ⟨Nat.le_of_ble_eq_true rfl, Nat.le_of_ble_eq_true rfl⟩) hS (fun H2 locs hp hS => ?_)
  obtain ⟨hF9, hx0⟩ := hp
  have hc_th := hc_th.fr hF9 (show ¬ ((1000 * id + 0) = (1000 * id + 1)) by omega)
  have hz9 := hF.1
  have hF0 := hF.tr hA hF9 (fun q9 hq9 x9 => by have x8 : τ q9 = (1000 * id + 1) := x9; show 1000 * id ≤ τ q9 ∧ τ q9 < 1000 * id + 1000; omega)
  have hF := hF0
  have hc_al1 : b_tt G B0 ((upT τ q1 (1000 * id + 1))) H2 q1 (1000 * id + 1) (.inr (2, [.int (nI 0), .ref ((G.2.2 0)), .int (nI 0)])) := hx0
  refine pf_X2_12_1 CX hnm hc_th.at hS hc_th.B rfl rfl (Nat.le_of_ble_eq_true rfl) dX2_init_12 (fun H3 locs hat hu hS => ?_)
  have hc_al1 := hc_al1.up hu hc_th.tag (by omega)
  have hF := hF.up hA hu hc_th.tag (fun _ => show 1000 * id ≤ (1000 * id + 0) ∧ (1000 * id + 0) < 1000 * id + 1000 by omega)
  have hc_th : b_tt G B0 ((upT τ q1 (1000 * id + 1))) H3 a (1000 * id + 0) (.inr (1, [.ref q1, .null, .null, .null, .int (nI 0), .int (nI 0), .int (nI 0), .int (nI 0), .int (nI 0)])) := hc_th.set hat
  refine lv_aload_n hx hb dX2_init_15 rfl (lv_at hl 0 rfl) ?_
  refine b_new CX in_J2 tyJ2 tyJ2_ok (ci := 2) rfl q140 q141 q83 (fs := [.int (nI 0), .null, .int (nI 0)]) (nofn_J2) hS (Nat.le_of_ble_eq_true rfl) (Nat.le_of_ble_eq_true rfl) dX2_init_16 (fun q4 H4 hq hB hat hsz hE hS => ?_)
  have hc_th := hc_th.new (tb := 1000 * id + 3) hE hq
  have hc_al1 := hc_al1.new (tb := 1000 * id + 3) hE hq
  have fr_al3 : H.size ≤ q4 := by rw [hq]; exact hF.1
  have hA := hA.tr (b_Ag.new (t := 1000 * id + 3) hq) hF.1
  have hF := hF.ext hE
  have hc_al3 : b_tt G B0 ((upT (upT τ q1 (1000 * id + 1)) q4 (1000 * id + 3))) H4 q4 (1000 * id + 3) (.inr (2, [.int (nI 0), .null, .int (nI 0)])) := b_tt.mk hat hB
  refine lv_dup hx hb dX2_init_19 rfl ?_
  refine b_cv (cs_X2_11 (rest := [.ref q4, .ref a]) CX hl.1 (m_J2_init l (a := q4) (ta := 1000 * id + 3) hc_al3) rfl hS rfl ⟨rfl, rfl, Nat.le_of_ble_eq_true rfl, Nat.le_of_ble_eq_true rfl⟩ (Nat.le_of_ble_eq_true rfl) dX2_init_20 ⟨Nat.le_of_ble_eq_true rfl, Nat.le_of_ble_eq_true rfl⟩) hS (fun H5 locs hp hS => ?_)
  obtain ⟨hF9, hx0⟩ := hp
  have hc_th := hc_th.fr hF9 (show ¬ ((1000 * id + 0) = (1000 * id + 3)) by omega)
  have hc_al1 := hc_al1.fr hF9 (show ¬ ((1000 * id + 1) = (1000 * id + 3)) by omega)
  have hz9 := hF.1
  have hF0 := hF.tr hA hF9 (fun q9 hq9 x9 => by have x8 : τ q9 = (1000 * id + 3) := x9; show 1000 * id ≤ τ q9 ∧ τ q9 < 1000 * id + 1000; omega)
  have hF := hF0
  have hc_al3 : b_tt G B0 ((upT (upT τ q1 (1000 * id + 1)) q4 (1000 * id + 3))) H5 q4 (1000 * id + 3) (.inr (2, [.int (nI 0), .ref ((G.2.2 0)), .int (nI 0)])) := hx0
  refine pf_X2_18_1 CX hnm hc_th.at hS hc_th.B rfl rfl (Nat.le_of_ble_eq_true rfl) dX2_init_23 (fun H6 locs hat hu hS => ?_)
  have hc_al1 := hc_al1.up hu hc_th.tag (by omega)
  have hc_al3 := hc_al3.up hu hc_th.tag (by omega)
  have hF := hF.up hA hu hc_th.tag (fun _ => show 1000 * id ≤ (1000 * id + 0) ∧ (1000 * id + 0) < 1000 * id + 1000 by omega)
  have hc_th : b_tt G B0 ((upT (upT τ q1 (1000 * id + 1)) q4 (1000 * id + 3))) H6 a (1000 * id + 0) (.inr (1, [.ref q1, .ref q4, .null, .null, .int (nI 0), .int (nI 0), .int (nI 0), .int (nI 0), .int (nI 0)])) := hc_th.set hat
  refine lv_aload_n hx hb dX2_init_26 rfl (lv_at hl 0 rfl) ?_
  refine lv_bipush (v := nI 6) hx hb dX2_init_27 rfl ?_
  refine b_newa CX (atype := .int) rfl q212 (K := 0) rfl (fun h => h) (N' := 6) (a0 := (6, .inl (fun _ => nI 0))) rfl (nI_pos (by decide)) (nI_cl (by decide)) (by decide) hS (Nat.le_of_ble_eq_true rfl) (Nat.le_of_ble_eq_true rfl) dX2_init_29 (fun q7 H7 hq hB hat hsz hE hS => ?_)
  have hc_th := hc_th.new (tb := 1000 * id + 5) hE hq
  have hc_al1 := hc_al1.new (tb := 1000 * id + 5) hE hq
  have hc_al3 := hc_al3.new (tb := 1000 * id + 5) hE hq
  have fr_se : H.size ≤ q7 := by rw [hq]; exact hF.1
  have hA := hA.tr (b_Ag.new (t := 1000 * id + 5) hq) hF.1
  have hF := hF.ext hE
  have hc_se : b_tt G B0 ((upT (upT (upT τ q1 (1000 * id + 1)) q4 (1000 * id + 3)) q7 (1000 * id + 5))) H7 q7 (1000 * id + 5) (.inl (G.2.1 0, 6, .inl ((fun _ => nI 0)))) := b_tt.mk hat hB
  refine lv_dup hx hb dX2_init_31 rfl ?_
  refine lv_iconst (v := nI 0) hx hb dX2_init_32 rfl ?_
  refine lv_bipush (v := nI 8) hx hb dX2_init_33 rfl ?_
  refine b_ist CX hc_se.at hS hc_se.B (vp_in_nI (by omega) (by omega)) dX2_init_35 (fun H8 locs hat hu hS => ?_)
  rw [b_up_nI (by omega) (rfl)] at hat
  have hc_th := hc_th.up hu hc_se.tag (by omega)
  have hc_al1 := hc_al1.up hu hc_se.tag (by omega)
  have hc_al3 := hc_al3.up hu hc_se.tag (by omega)
  have hF := hF.up hA hu hc_se.tag (fun q9 => absurd q9 (Nat.not_lt.mpr fr_se))
  have hc_se : b_tt G B0 ((upT (upT (upT τ q1 (1000 * id + 1)) q4 (1000 * id + 3)) q7 (1000 * id + 5))) H8 q7 (1000 * id + 5) (.inl (G.2.1 0, 6, .inl (upd ((fun _ => nI 0)) 0 (nI 8)))) := hc_se.set hat
  refine lv_dup hx hb dX2_init_36 rfl ?_
  refine lv_iconst (v := nI 1) hx hb dX2_init_37 rfl ?_
  refine lv_bipush (v := nI 15) hx hb dX2_init_38 rfl ?_
  refine b_ist CX hc_se.at hS hc_se.B (vp_in_nI (by omega) (by omega)) dX2_init_40 (fun H9 locs hat hu hS => ?_)
  rw [b_up_nI (by omega) (rfl)] at hat
  have hc_th := hc_th.up hu hc_se.tag (by omega)
  have hc_al1 := hc_al1.up hu hc_se.tag (by omega)
  have hc_al3 := hc_al3.up hu hc_se.tag (by omega)
  have hF := hF.up hA hu hc_se.tag (fun q9 => absurd q9 (Nat.not_lt.mpr fr_se))
  have hc_se : b_tt G B0 ((upT (upT (upT τ q1 (1000 * id + 1)) q4 (1000 * id + 3)) q7 (1000 * id + 5))) H9 q7 (1000 * id + 5) (.inl (G.2.1 0, 6, .inl (upd (upd ((fun _ => nI 0)) 0 (nI 8)) 1 (nI 15)))) := hc_se.set hat
  refine lv_dup hx hb dX2_init_41 rfl ?_
  refine lv_iconst (v := nI 2) hx hb dX2_init_42 rfl ?_
  refine lv_bipush (v := nI 25) hx hb dX2_init_43 rfl ?_
  refine b_ist CX hc_se.at hS hc_se.B (vp_in_nI (by omega) (by omega)) dX2_init_45 (fun H10 locs hat hu hS => ?_)
  rw [b_up_nI (by omega) (rfl)] at hat
  have hc_th := hc_th.up hu hc_se.tag (by omega)
  have hc_al1 := hc_al1.up hu hc_se.tag (by omega)
  have hc_al3 := hc_al3.up hu hc_se.tag (by omega)
  have hF := hF.up hA hu hc_se.tag (fun q9 => absurd q9 (Nat.not_lt.mpr fr_se))
  have hc_se : b_tt G B0 ((upT (upT (upT τ q1 (1000 * id + 1)) q4 (1000 * id + 3)) q7 (1000 * id + 5))) H10 q7 (1000 * id + 5) (.inl (G.2.1 0, 6, .inl (upd (upd (upd ((fun _ => nI 0)) 0 (nI 8)) 1 (nI 15)) 2 (nI 25)))) := hc_se.set hat
  refine lv_dup hx hb dX2_init_46 rfl ?_
  refine lv_iconst (v := nI 3) hx hb dX2_init_47 rfl ?_
  refine lv_sipush (v := nI 150) hx hb dX2_init_48 rfl ?_
  refine b_ist CX hc_se.at hS hc_se.B (vp_in_nI (by omega) (by omega)) dX2_init_51 (fun H11 locs hat hu hS => ?_)
  rw [b_up_nI (by omega) (rfl)] at hat
  have hc_th := hc_th.up hu hc_se.tag (by omega)
  have hc_al1 := hc_al1.up hu hc_se.tag (by omega)
  have hc_al3 := hc_al3.up hu hc_se.tag (by omega)
  have hF := hF.up hA hu hc_se.tag (fun q9 => absurd q9 (Nat.not_lt.mpr fr_se))
  have hc_se : b_tt G B0 ((upT (upT (upT τ q1 (1000 * id + 1)) q4 (1000 * id + 3)) q7 (1000 * id + 5))) H11 q7 (1000 * id + 5) (.inl (G.2.1 0, 6, .inl (upd (upd (upd (upd ((fun _ => nI 0)) 0 (nI 8)) 1 (nI 15)) 2 (nI 25)) 3 (nI 150)))) := hc_se.set hat
  refine lv_dup hx hb dX2_init_52 rfl ?_
  refine lv_iconst (v := nI 4) hx hb dX2_init_53 rfl ?_
  refine lv_bipush (v := nI 6) hx hb dX2_init_54 rfl ?_
  refine b_ist CX hc_se.at hS hc_se.B (vp_in_nI (by omega) (by omega)) dX2_init_56 (fun H12 locs hat hu hS => ?_)
  rw [b_up_nI (by omega) (rfl)] at hat
  have hc_th := hc_th.up hu hc_se.tag (by omega)
  have hc_al1 := hc_al1.up hu hc_se.tag (by omega)
  have hc_al3 := hc_al3.up hu hc_se.tag (by omega)
  have hF := hF.up hA hu hc_se.tag (fun q9 => absurd q9 (Nat.not_lt.mpr fr_se))
  have hc_se : b_tt G B0 ((upT (upT (upT τ q1 (1000 * id + 1)) q4 (1000 * id + 3)) q7 (1000 * id + 5))) H12 q7 (1000 * id + 5) (.inl (G.2.1 0, 6, .inl (upd (upd (upd (upd (upd ((fun _ => nI 0)) 0 (nI 8)) 1 (nI 15)) 2 (nI 25)) 3 (nI 150)) 4 (nI 6)))) := hc_se.set hat
  refine lv_dup hx hb dX2_init_57 rfl ?_
  refine lv_iconst (v := nI 5) hx hb dX2_init_58 rfl ?_
  refine lv_bipush (v := nI 20) hx hb dX2_init_59 rfl ?_
  refine b_ist CX hc_se.at hS hc_se.B (vp_in_nI (by omega) (by omega)) dX2_init_61 (fun H13 locs hat hu hS => ?_)
  rw [b_up_nI (by omega) (rfl)] at hat
  have hc_th := hc_th.up hu hc_se.tag (by omega)
  have hc_al1 := hc_al1.up hu hc_se.tag (by omega)
  have hc_al3 := hc_al3.up hu hc_se.tag (by omega)
  have hF := hF.up hA hu hc_se.tag (fun q9 => absurd q9 (Nat.not_lt.mpr fr_se))
  have hc_se : b_tt G B0 ((upT (upT (upT τ q1 (1000 * id + 1)) q4 (1000 * id + 3)) q7 (1000 * id + 5))) H13 q7 (1000 * id + 5) (.inl (G.2.1 0, 6, .inl (upd (upd (upd (upd (upd (upd ((fun _ => nI 0)) 0 (nI 8)) 1 (nI 15)) 2 (nI 25)) 3 (nI 150)) 4 (nI 6)) 5 (nI 20)))) := hc_se.set hat
  refine pf_X2_21_1 CX hnm hc_th.at hS hc_th.B rfl rfl (Nat.le_of_ble_eq_true rfl) dX2_init_62 (fun H14 locs hat hu hS => ?_)
  have hc_al1 := hc_al1.up hu hc_th.tag (by omega)
  have hc_al3 := hc_al3.up hu hc_th.tag (by omega)
  have hc_se := hc_se.up hu hc_th.tag (by omega)
  have hF := hF.up hA hu hc_th.tag (fun _ => show 1000 * id ≤ (1000 * id + 0) ∧ (1000 * id + 0) < 1000 * id + 1000 by omega)
  have hc_th : b_tt G B0 ((upT (upT (upT τ q1 (1000 * id + 1)) q4 (1000 * id + 3)) q7 (1000 * id + 5))) H14 a (1000 * id + 0) (.inr (1, [.ref q1, .ref q4, .ref q7, .null, .int (nI 0), .int (nI 0), .int (nI 0), .int (nI 0), .int (nI 0)])) := hc_th.set hat
  refine lv_aload_n hx hb dX2_init_65 rfl (lv_at hl 0 rfl) ?_
  refine lv_bipush (v := nI 8) hx hb dX2_init_66 rfl ?_
  refine lv_bipush (v := nI 8) hx hb dX2_init_68 rfl ?_
  refine b_multi CX q166 q167 CX.K.2.2.2.2.2.2 q212 (N := 8) (M := 8) (nI_pos (by decide)) (nI_pos (by decide)) (nI_cl (by decide)) (nI_cl (by decide)) (by decide) (by decide) hS (Nat.le_of_ble_eq_true rfl) (Nat.le_of_ble_eq_true rfl) dX2_init_70 (fun q15 H15 hq hB hat hats hsz hE hS => ?_)
  have hc_th := hc_th.newM (t6 := 1000 * id + 6) (t10 := 1000 * id + 10) hE hq
  have hc_al1 := hc_al1.newM (t6 := 1000 * id + 6) (t10 := 1000 * id + 10) hE hq
  have hc_al3 := hc_al3.newM (t6 := 1000 * id + 6) (t10 := 1000 * id + 10) hE hq
  have hc_se := hc_se.newM (t6 := 1000 * id + 6) (t10 := 1000 * id + 10) hE hq
  have fr_rw : H.size ≤ q15 := by rw [hq]; exact hF.1
  have hA := hA.tr (b_Ag.newM (t6 := 1000 * id + 6) (t10 := 1000 * id + 10) hq) hF.1
  have hF := hF.ext hE
  have hc_rw : b_tt G B0 ((upM (upT (upT (upT τ q1 (1000 * id + 1)) q4 (1000 * id + 3)) q7 (1000 * id + 5)) q15 (1000 * id + 6) (1000 * id + 10))) H15 q15 (1000 * id + 6) (.inl (G.2.1 3, q_refs 8 ((fun j => if j < 8 then some (q15 + 1 + j) else none)))) := b_tt.mkM hat hB
  have hr_rws : ∀ j, j < 8 → b_tt G B0 ((upM (upT (upT (upT τ q1 (1000 * id + 1)) q4 (1000 * id + 3)) q7 (1000 * id + 5)) q15 (1000 * id + 6) (1000 * id + 10))) H15 (q15 + 1 + j) (1000 * id + 10 + j) (.inl (G.2.1 0, 8, .inl (fun _ => 0))) := fun j hj => b_tt.mkR hj (hats j hj) hB
  refine pf_X2_27_1 CX hnm hc_th.at hS hc_th.B rfl rfl (Nat.le_of_ble_eq_true rfl) dX2_init_74 (fun H16 locs hat hu hS => ?_)
  have hc_al1 := hc_al1.up hu hc_th.tag (by omega)
  have hc_al3 := hc_al3.up hu hc_th.tag (by omega)
  have hc_se := hc_se.up hu hc_th.tag (by omega)
  have hc_rw := hc_rw.up hu hc_th.tag (by omega)
  have hr_rws := fun j (hj : j < 8) => (hr_rws j hj).up hu hc_th.tag (by omega)
  have hF := hF.up hA hu hc_th.tag (fun _ => show 1000 * id ≤ (1000 * id + 0) ∧ (1000 * id + 0) < 1000 * id + 1000 by omega)
  have hc_th : b_tt G B0 ((upM (upT (upT (upT τ q1 (1000 * id + 1)) q4 (1000 * id + 3)) q7 (1000 * id + 5)) q15 (1000 * id + 6) (1000 * id + 10))) H16 a (1000 * id + 0) (.inr (1, [.ref q1, .ref q4, .ref q7, .ref q15, .int (nI 0), .int (nI 0), .int (nI 0), .int (nI 0), .int (nI 0)])) := hc_th.set hat
  have hse : ∀ j, j < 6 → (upd (upd (upd (upd (upd (upd ((fun _ => nI 0)) 0 (nI 8)) 1 (nI 15)) 2 (nI 25)) 3 (nI 150)) 4 (nI 6)) 5 (nI 20)) j = s_0 0 0 (7 + j) := by intro j hj; rcases (by omega : j = 0 ∨ j = 1 ∨ j = 2 ∨ j = 3 ∨ j = 4 ∨ j = 5) with rfl | rfl | rfl | rfl | rfl | rfl <;> rfl
  rw [← hQ]
  exact b_vret CX hr hlk hS (Nat.le_of_ble_eq_true rfl) (Nat.le_of_ble_eq_true rfl) dX2_init_77 (⟨_, q1, q4, q7, q15, hA, hF, ⟨fr_al1, fr_al3, fr_se, fr_rw⟩, LR.mk0 hc_th hc_al1 hc_al3 hc_se hse hc_rw hr_rws⟩)
