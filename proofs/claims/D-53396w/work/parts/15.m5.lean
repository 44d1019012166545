/-! the reference: a row of orders -/
set_option maxRecDepth 100000
theorem q_all_s2 {t : Nat → Nat} {n f p p9 : Nat} {x : Nat × Nat × Nat × Nat} (h : q_ord t n p = (p9, some x)) (h2 : p9 < n ∧ t p9 = 59) (hf : 0 < f) : (q_all t n (f - 1 + 1) (p9 + 1)).2 = (q_all t n (f + 1) p).2 := by
  rw [q_all_s h h2, show f - 1 + 1 = f by omega]
theorem q_all_c {t : Nat → Nat} {n f p p9 : Nat} {x : Nat × Nat × Nat × Nat} {l : List (Nat × Nat × Nat × Nat)} {z : Nat × Nat} (h : q_ord t n p = (p9, some x)) (h2 : p9 < n ∧ t p9 = 59) (hf : 0 < f) (hq : q_all t n (f + 1) p = (l, z)) : ∃ l', l = x :: l' ∧ q_all t n (f - 1 + 1) (p9 + 1) = (l', z) := by
  rw [q_all_s h h2] at hq
  rw [show f - 1 + 1 = f by omega]
  cases hq
  exact ⟨_, rfl, rfl⟩
/-- any predicate of states that says what the orders need and is kept by them -/
def p_J (J : b_St → Prop) : Prop := (∀ S, J S → b_WF S) ∧ (∀ S s k c, J S → s < ns S → k < 3 → c ≤ 50 → a_collect S s k (nI c) = nI 0 → p_picks S s k c) ∧ (∀ S x a b n, J S → o_ok x a b n → o_why S x a b n = nI 0 → J (o_do S x a b n)) ∧ (∀ S i, J S → J (u3 S 0 0 6 i))
theorem o_end {S : b_St} (h : S 0 0 6 = nI 0) : u3 S 0 0 6 (nI 0) = S := by
  funext k i j
  unfold u3
  split
  · rename_i q
    obtain ⟨rfl, rfl, rfl⟩ := q
    exact h.symm
  · rfl
theorem o_do6 (S : b_St) (x a b n : Nat) : o_do S x a b n 0 0 6 = S 0 0 6 := by
  unfold o_do
  split
  · simp [s_deliver, u3]
  · split
    · simp [s_sell, u3]
    · split
      · simp [s_take, u3]
      · split
        · simp [s_break, u3]
        · simp [s_collect, s_collB, s_coll, u3]
theorem o_in {S : b_St} {x a b n : Nat} (h : b_WF S) (h0 : o_why S x a b n = nI 0) : (x = 100 → a < nb S ∧ b < ns S) ∧ (¬ x = 100 → a < ns S ∧ (x = 99 ∨ b < nb S)) := by
  constructor
  · intro hx
    unfold o_why at h0
    rw [if_pos hx] at h0
    by_cases hc : b < ns S ∧ a < nb S
    · exact ⟨hc.2, hc.1⟩
    · rw [if_neg hc] at h0
      exact absurd h0 (by decide)
  · intro hx
    unfold o_why at h0
    rw [if_neg hx] at h0
    by_cases hc : a < ns S ∧ (x = 99 ∨ b < nb S)
    · exact hc
    · rw [if_neg hc] at h0
      exact absurd h0 (by decide)
theorem o_pick {J : b_St → Prop} (hJ : p_J J) {S : b_St} {x a b n : Nat} (h : J S) (hk : o_ok x a b n) (h0 : o_why S x a b n = nI 0) (hx : x = 99) : p_picks S a b n := by
  have hi := (o_in (hJ.1 S h) h0).2 (by omega)
  have hx2 : a_collect S a b (nI n) = nI 0 := by
    unfold o_why at h0
    rw [if_neg (by omega), if_pos hi, if_neg (by omega), if_neg (by omega), if_neg (by omega)] at h0
    exact h0
  exact hJ.2.1 S a b n h hi.1 (hk.2.2.2.1 hx) (hk.2.2.2.2.1 (Or.inr hx)) hx2
theorem r_run_0 {S : b_St} {x : Nat × Nat × Nat × Nat} {l : List (Nat × Nat × Nat × Nat)} {m : Nat} (h : o_why S x.1 x.2.1 x.2.2.1 x.2.2.2 = nI 0) : r_run S (x :: l) m = r_run (o_do S x.1 x.2.1 x.2.2.1 x.2.2.2) l (m + 1) := if_pos h
theorem r_run_1 {S : b_St} {x : Nat × Nat × Nat × Nat} {l : List (Nat × Nat × Nat × Nat)} {m : Nat} (h : ¬ o_why S x.1 x.2.1 x.2.2.1 x.2.2.2 = nI 0) : r_run S (x :: l) m = (m, u3 S 0 0 6 (o_why S x.1 x.2.1 x.2.2.1 x.2.2.2)) := if_neg h
theorem cs_X3_163 {p : Program} {l : Launch} {e : Env} {R : Room} {s : State} {m : MethodId} {args : Array Value} {below : List Frame} {meth : Method} {c : Code} {H : Heap} {locs : List Loc} {cells slots : Nat} {cc : ByteArray} {pc nL a : Nat} {ls : Array Slot} {rest : List Value} {G : b_G} {B0 : Nat} (CX : b_Cx p s m args c cc nL RX3 G B0) (hls : ls.size = nL) {rm : Room} {mc ms : Nat} {As st0 : List Value} {Qc : Array Value → State → Outcome → State → Prop} (hM : Met l yX3_readOrder (ws_ yX3_readOrder cX3_readOrder 3 (Option.some Jvm.ClassFile.FieldType.boolean)) rm (b_Pc G B0 H (.ref a :: As)) Qc mc ms (b_A B0)) (hn : As.length = 0) {fs : List Value} {ci : Nat} {qc : vw_C} (hc : b_cl[ci]? = some qc) (hq : qc.1 = RX3) (hP : b_at G a (.inr (ci, fs)) H) (hS : va_S (b_A B0) s.heap H locs) (hst : st0 = As.reverse ++ .ref a :: rest) (hr : rm.cells = mc ∧ rm.slots = ms ∧ rm.frames + 1 ≤ R.frames ∧ 8 + (3 + 11) + rm.locals ≤ R.locals) (hw : (rest.map fun v => v.category).sum ≤ 8) (hdg : decode cc pc = .ok (.invokevirtual 163, 3)) (hf : cells + mc ≤ R.cells ∧ slots + ms ≤ R.slots) : va_Run p l e R s m args below meth c H locs cells slots mc ms (F0 m pc ls st0) rest (Qc (Value.ref a :: As).toArray) (b_A B0) := va_runV CX.fix hM (cwV 0 CX.ts (lw_V q2080 q2082 qs63 q88 q2083) rfl hr.1 hr.2.1 (by decide +kernel) ⟨hr.2.2.1, hr.2.2.2⟩) ⟨b_blind G B0 H _, by have h9 := b_recv CX.K hc hP; rw [hq] at h9; exact h9, b_pre _ CX.K hS⟩ rfl hn hls hst (lv_room hw) hdg hf
set_option maxHeartbeats 2000000 in
set_option maxRecDepth 100000 in
theorem m_X3_reads (l : Launch) {G : b_G} {B0 : Nat} {o : Nat → Nat} {Hr H : Heap} {S : b_St} {sp sv : Nat → Int32} {t : Nat → Nat} {tn : Nat} {sa th pl iw lt on ot nu di : Int32} (hM : MW G B0 o Hr H (enc S) sp sv (fun j => nI (t j)) sa (nI tn) th pl iw lt on ot nu di) (ht : ∀ j, t j < 128) (hn : tn ≤ 60) : Met l yX3_reads (ws_ yX3_reads cX3_reads 2 (Option.some Jvm.ClassFile.FieldType.int)) ({ frames := 3, cells := 0, slots := 0, locals := 66 } : Room) (b_Pc G B0 H [.ref (o 0)]) (b_Qi B0 (fun r H1 => (∃ p9 : Nat, ∃ w9 : Nat, ∃ lt9 : Int32, ∃ on9 : Int32, ∃ ot9 : Int32, ∃ nu9 : Int32, ∃ di9 : Int32, ((q_all t tn (tn + 1) 0).2 = (p9, w9)) ∧ (p9 ≤ tn) ∧ (w9 = 0 ∨ w9 = 1) ∧ r = nI p9 ∧ MW G B0 o H H1 (enc S) sp sv (fun j => nI (t j)) sa (nI tn) th (nI p9) (nI w9) lt9 on9 ot9 nu9 di9))) 0 0 (b_A B0) := by
  refine b_of (by decide) (Nat.le_of_ble_eq_true rfl) ?_
  intro p e s m below meth c CX hr hlk hnm hS ls hl
  have CX : b_Cx p s m _ c cX3_reads 2 RX3 G B0 := CX
  have hx := CX.hx
  have hb := CX.hb
  have hl : lv_has ls 2 [(0, .ref (o 0))] := hl
  generalize hQ : MQ below (b_Qi B0 (fun r H1 => (∃ p9 : Nat, ∃ w9 : Nat, ∃ lt9 : Int32, ∃ on9 : Int32, ∃ ot9 : Int32, ∃ nu9 : Int32, ∃ di9 : Int32, ((q_all t tn (tn + 1) 0).2 = (p9, w9)) ∧ (p9 ≤ tn) ∧ (w9 = 0 ∨ w9 = 1) ∧ r = nI p9 ∧ MW G B0 o H H1 (enc S) sp sv (fun j => nI (t j)) sa (nI tn) th (nI p9) (nI w9) lt9 on9 ot9 nu9 di9))) ([.ref (o 0)] : List Value).toArray s 0 0 (b_A B0) = Q
  have hM := hM.re
  refine lv_aload_n hx hb dX3_reads_0 rfl (lv_at hl 0 rfl) ?_
  refine lv_iconst (v := nI 0) hx hb dX3_reads_1 rfl ?_
  refine pf_X3_132_8 CX hM.o0 hS (hM.B (by decide)) rfl rfl (Nat.le_of_ble_eq_true rfl) dX3_reads_2 (fun H1 locs hat hu hS => ?_)
  have hM : MW G B0 o H H1 (enc S) sp sv (fun j => nI (t j)) sa (nI tn) th (nI 0) iw lt on ot nu di := hM.set0 hat hu
  refine lv_iconst (v := nI 1) hx hb dX3_reads_5 rfl ?_
  refine lv_istore_n (lv' := [(1, .int (nI 1)), (0, .ref (o 0))]) hx hb dX3_reads_6 rfl hl (Nat.le_of_ble_eq_true rfl) rfl (fun ls hl => ?_)
  have lp7_2 : ∀ (n_ : Nat) (i : Nat) (f : Nat), i ≤ tn → tn < f + 1 + i → (q_all t tn (f + 1) i).2 = (q_all t tn (tn + 1) 0).2 → tn + 1 - i < n_ → ∀ (H3 : Heap) (iw9 : Int32) (lt9 : Int32) (on9 : Int32) (ot9 : Int32) (nu9 : Int32) (di9 : Int32), MW G B0 o H H3 (enc S) sp sv (fun j => nI (t j)) sa (nI tn) th (nI i) iw9 lt9 on9 ot9 nu9 di9 → ∀ (locs : List Loc), va_S (b_A B0) s.heap H3 locs → ∀ ls : Array Slot, lv_has ls 2 [(1, .int (nI 1)), (0, .ref (o 0))] → W p l e ({ frames := 3, cells := 0, slots := 0, locals := 66 } : Room) s m ([.ref (o 0)] : List Value).toArray below meth c H3 locs 0 0 Q (F0 m 7 ls []) := by
    intro n_
    induction n_ with
    | zero => intro i f hi hf2 hf hlt H3 iw9 lt9 on9 ot9 nu9 di9 hM locs hS ls hl; exact absurd hlt (Nat.not_lt_zero _)
    | succ n_ ih7 =>
      intro i f hi hf2 hf hlt H3 iw9 lt9 on9 ot9 nu9 di9 hM locs hS ls hl
      refine lv_iload_n hx hb dX3_reads_7 rfl (lv_at hl 0 rfl) ?_
      refine lv_if_eq (tgt := 19) hx hb dX3_reads_8 (by decide) (fun c_8 => ?_) (fun c_8 => ?_)
      · exact absurd c_8 (by decide)
      · refine lv_aload_n hx hb dX3_reads_11 rfl (lv_at hl 1 rfl) ?_
        refine b_ci (cs_X3_163 (rest := []) CX hl.1 (m_X3_readOrder l  hM ht (by omega) (by omega)) rfl rfl rfl hM.o0 hS rfl ⟨rfl, rfl, Nat.le_of_ble_eq_true rfl, Nat.le_of_ble_eq_true rfl⟩ (Nat.le_of_ble_eq_true rfl) dX3_reads_12 ⟨Nat.le_of_ble_eq_true rfl, Nat.le_of_ble_eq_true rfl⟩) hS (fun r H4 locs hp hS => ?_)
        rcases hp with ⟨p95, a95, b95, c95, d95, di95, hq5, hc5, hp5, rfl, hM9⟩ | ⟨p95, a95, b95, c95, d95, di95, hq5, hc5, hp5, rfl, hM9⟩ | ⟨p95, lt95, on95, ot95, nu95, di95, hq5, hp5, rfl, hM9⟩
        · have hM : MW G B0 o H H4 (enc S) sp sv (fun j => nI (t j)) sa (nI tn) th (nI (p95 + 1)) (nI 1) (nI a95) (nI b95) (nI c95) (nI d95) di95 := hM.tr hM9
          refine lv_istore_n (lv' := [(1, .int (nI 1)), (0, .ref (o 0))]) hx hb dX3_reads_15 rfl hl (Nat.le_of_ble_eq_true rfl) rfl (fun ls hl => ?_)
          refine lv_goto (tgt := 7) hx hb dX3_reads_16 (by decide) ?_
          exact ih7 (p95 + 1) (f - 1) (by omega) (by have := (q_ord_ok hq5).1; omega) ((q_all_s2 hq5 hc5 (by have := (q_ord_ok hq5).1; omega)).trans hf) (by have := (q_ord_ok hq5).1; omega) H4 _ _ _ _ _ _ hM _ hS ls (lv_sub hl [0, 1] rfl)
        · have hM : MW G B0 o H H4 (enc S) sp sv (fun j => nI (t j)) sa (nI tn) th (nI p95) (nI 1) (nI a95) (nI b95) (nI c95) (nI d95) di95 := hM.tr hM9
          refine lv_istore_n (lv' := [(1, .int (nI 0)), (0, .ref (o 0))]) hx hb dX3_reads_15 rfl hl (Nat.le_of_ble_eq_true rfl) rfl (fun ls hl => ?_)
          refine lv_goto (tgt := 7) hx hb dX3_reads_16 (by decide) ?_
          refine lv_iload_n hx hb dX3_reads_7 rfl (lv_at hl 0 rfl) ?_
          refine lv_if_eq (tgt := 19) hx hb dX3_reads_8 (by decide) (fun c_8 => ?_) (fun c_8 => ?_)
          · refine lv_aload_n hx hb dX3_reads_19 rfl (lv_at hl 1 rfl) ?_
            refine gf_X3_132_8 CX hM.o0 rfl dX3_reads_20 ?_
            rw [← hQ]
            exact b_iret CX hr hlk hS (Nat.le_of_ble_eq_true rfl) (Nat.le_of_ble_eq_true rfl) dX3_reads_23 (⟨_, _, _, _, _, _, _, (hf.symm.trans (congrArg Prod.snd (q_all_e hq5 hc5))), (by assumption), (Or.inr rfl), rfl, hM⟩)
          · exact absurd c_8 (by decide)
        · have hM : MW G B0 o H H4 (enc S) sp sv (fun j => nI (t j)) sa (nI tn) th (nI p95) (nI 0) lt95 on95 ot95 nu95 di95 := hM.tr hM9
          refine lv_istore_n (lv' := [(1, .int (nI 0)), (0, .ref (o 0))]) hx hb dX3_reads_15 rfl hl (Nat.le_of_ble_eq_true rfl) rfl (fun ls hl => ?_)
          refine lv_goto (tgt := 7) hx hb dX3_reads_16 (by decide) ?_
          refine lv_iload_n hx hb dX3_reads_7 rfl (lv_at hl 0 rfl) ?_
          refine lv_if_eq (tgt := 19) hx hb dX3_reads_8 (by decide) (fun c_8 => ?_) (fun c_8 => ?_)
          · refine lv_aload_n hx hb dX3_reads_19 rfl (lv_at hl 1 rfl) ?_
            refine gf_X3_132_8 CX hM.o0 rfl dX3_reads_20 ?_
            rw [← hQ]
            exact b_iret CX hr hlk hS (Nat.le_of_ble_eq_true rfl) (Nat.le_of_ble_eq_true rfl) dX3_reads_23 (⟨_, _, _, _, _, _, _, (hf.symm.trans (congrArg Prod.snd (q_all_n hq5))), (by assumption), (Or.inl rfl), rfl, hM⟩)
          · exact absurd c_8 (by decide)
  exact lp7_2 _ 0 tn (Nat.zero_le _) (by omega) rfl (Nat.lt_succ_self _) H1 _ _ _ _ _ _ hM _ hS ls (lv_sub hl [0, 1] rfl)
theorem gf_X3_151_8 {p : Program} {l : Launch} {e : Env} {R : Room} {s : State} {m : MethodId} {args : Array Value} {below : List Frame} {meth : Method} {c : Code} {H : Heap} {locs : List Loc} {cells slots : Nat} {Q : State → Prop} {cc : ByteArray} {pc nL a : Nat} {ls : Array Slot} {rest : List Value} {G : b_G} {B0 : Nat} (CX : b_Cx p s m args c cc nL RX3 G B0) {fs : List Value} (hP : b_at G a (.inr (8, fs)) H) {v : Value} (hv : fs[12]? = some v) (hdg : decode cc pc = .ok (.getfield 151, 3)) (kk : W p l e R s m args below meth c H locs cells slots Q (F0 m (pc + 3) ls (v :: rest))) : W p l e R s m args below meth c H locs cells slots Q (F0 m pc ls (.ref a :: rest)) := b_get CX in_X3 rfl 12 (by decide) q1858 (Or.inl rfl) hP hv hdg kk
theorem gf_X3_157_8 {p : Program} {l : Launch} {e : Env} {R : Room} {s : State} {m : MethodId} {args : Array Value} {below : List Frame} {meth : Method} {c : Code} {H : Heap} {locs : List Loc} {cells slots : Nat} {Q : State → Prop} {cc : ByteArray} {pc nL a : Nat} {ls : Array Slot} {rest : List Value} {G : b_G} {B0 : Nat} (CX : b_Cx p s m args c cc nL RX3 G B0) {fs : List Value} (hP : b_at G a (.inr (8, fs)) H) {v : Value} (hv : fs[13]? = some v) (hdg : decode cc pc = .ok (.getfield 157, 3)) (kk : W p l e R s m args below meth c H locs cells slots Q (F0 m (pc + 3) ls (v :: rest))) : W p l e R s m args below meth c H locs cells slots Q (F0 m pc ls (.ref a :: rest)) := b_get CX in_X3 rfl 13 (by decide) q1859 (Or.inl rfl) hP hv hdg kk
theorem cs_X3_92 {p : Program} {l : Launch} {e : Env} {R : Room} {s : State} {m : MethodId} {args : Array Value} {below : List Frame} {meth : Method} {c : Code} {H : Heap} {locs : List Loc} {cells slots : Nat} {cc : ByteArray} {pc nL a : Nat} {ls : Array Slot} {rest : List Value} {G : b_G} {B0 : Nat} (CX : b_Cx p s m args c cc nL RX3 G B0) (hls : ls.size = nL) {rm : Room} {mc ms : Nat} {As st0 : List Value} {Qc : Array Value → State → Outcome → State → Prop} (hM : Met l yX3_isShop (ws_ yX3_isShop cX3_isShop 2 (Option.some Jvm.ClassFile.FieldType.boolean)) rm (b_Pc G B0 H (.ref a :: As)) Qc mc ms (b_A B0)) (hn : As.length = 1) {fs : List Value} {ci : Nat} {qc : vw_C} (hc : b_cl[ci]? = some qc) (hq : qc.1 = RX3) (hP : b_at G a (.inr (ci, fs)) H) (hS : va_S (b_A B0) s.heap H locs) (hst : st0 = As.reverse ++ .ref a :: rest) (hr : rm.cells = mc ∧ rm.slots = ms ∧ rm.frames + 1 ≤ R.frames ∧ 8 + (2 + 11) + rm.locals ≤ R.locals) (hw : (rest.map fun v => v.category).sum ≤ 8) (hdg : decode cc pc = .ok (.invokevirtual 92, 3)) (hf : cells + mc ≤ R.cells ∧ slots + ms ≤ R.slots) : va_Run p l e R s m args below meth c H locs cells slots mc ms (F0 m pc ls st0) rest (Qc (Value.ref a :: As).toArray) (b_A B0) := va_runV CX.fix hM (cwV 1 CX.ts (lw_V q1965 q1967 qs45 q88 q1968) rfl hr.1 hr.2.1 (by decide +kernel) ⟨hr.2.2.1, hr.2.2.2⟩) ⟨b_blind G B0 H _, by have h9 := b_recv CX.K hc hP; rw [hq] at h9; exact h9, b_pre _ CX.K hS⟩ rfl hn hls hst (lv_room hw) hdg hf
theorem cs_X3_114 {p : Program} {l : Launch} {e : Env} {R : Room} {s : State} {m : MethodId} {args : Array Value} {below : List Frame} {meth : Method} {c : Code} {H : Heap} {locs : List Loc} {cells slots : Nat} {cc : ByteArray} {pc nL a : Nat} {ls : Array Slot} {rest : List Value} {G : b_G} {B0 : Nat} (CX : b_Cx p s m args c cc nL RX3 G B0) (hls : ls.size = nL) {rm : Room} {mc ms : Nat} {As st0 : List Value} {Qc : Array Value → State → Outcome → State → Prop} (hM : Met l yX3_againstBreak (ws_ yX3_againstBreak cX3_againstBreak 4 (Option.some Jvm.ClassFile.FieldType.int)) rm (b_Pc G B0 H (.ref a :: As)) Qc mc ms (b_A B0)) (hn : As.length = 3) {fs : List Value} {ci : Nat} {qc : vw_C} (hc : b_cl[ci]? = some qc) (hq : qc.1 = RX3) (hP : b_at G a (.inr (ci, fs)) H) (hS : va_S (b_A B0) s.heap H locs) (hst : st0 = As.reverse ++ .ref a :: rest) (hr : rm.cells = mc ∧ rm.slots = ms ∧ rm.frames + 1 ≤ R.frames ∧ 8 + (4 + 11) + rm.locals ≤ R.locals) (hw : (rest.map fun v => v.category).sum ≤ 8) (hdg : decode cc pc = .ok (.invokevirtual 114, 3)) (hf : cells + mc ≤ R.cells ∧ slots + ms ≤ R.slots) : va_Run p l e R s m args below meth c H locs cells slots mc ms (F0 m pc ls st0) rest (Qc (Value.ref a :: As).toArray) (b_A B0) := va_runV CX.fix hM (cwV 3 CX.ts (lw_V q2017 q2019 qs55 q88 q2020) rfl hr.1 hr.2.1 (by decide +kernel) ⟨hr.2.2.1, hr.2.2.2⟩) ⟨b_blind G B0 H _, by have h9 := b_recv CX.K hc hP; rw [hq] at h9; exact h9, b_pre _ CX.K hS⟩ rfl hn hls hst (lv_room hw) hdg hf
theorem cs_X3_108 {p : Program} {l : Launch} {e : Env} {R : Room} {s : State} {m : MethodId} {args : Array Value} {below : List Frame} {meth : Method} {c : Code} {H : Heap} {locs : List Loc} {cells slots : Nat} {cc : ByteArray} {pc nL a : Nat} {ls : Array Slot} {rest : List Value} {G : b_G} {B0 : Nat} (CX : b_Cx p s m args c cc nL RX3 G B0) (hls : ls.size = nL) {rm : Room} {mc ms : Nat} {As st0 : List Value} {Qc : Array Value → State → Outcome → State → Prop} (hM : Met l yX3_againstTakeBack (ws_ yX3_againstTakeBack cX3_againstTakeBack 4 (Option.some Jvm.ClassFile.FieldType.int)) rm (b_Pc G B0 H (.ref a :: As)) Qc mc ms (b_A B0)) (hn : As.length = 3) {fs : List Value} {ci : Nat} {qc : vw_C} (hc : b_cl[ci]? = some qc) (hq : qc.1 = RX3) (hP : b_at G a (.inr (ci, fs)) H) (hS : va_S (b_A B0) s.heap H locs) (hst : st0 = As.reverse ++ .ref a :: rest) (hr : rm.cells = mc ∧ rm.slots = ms ∧ rm.frames + 1 ≤ R.frames ∧ 8 + (4 + 11) + rm.locals ≤ R.locals) (hw : (rest.map fun v => v.category).sum ≤ 8) (hdg : decode cc pc = .ok (.invokevirtual 108, 3)) (hf : cells + mc ≤ R.cells ∧ slots + ms ≤ R.slots) : va_Run p l e R s m args below meth c H locs cells slots mc ms (F0 m pc ls st0) rest (Qc (Value.ref a :: As).toArray) (b_A B0) := va_runV CX.fix hM (cwV 3 CX.ts (lw_V q2005 q2007 qs53 q88 q2008) rfl hr.1 hr.2.1 (by decide +kernel) ⟨hr.2.2.1, hr.2.2.2⟩) ⟨b_blind G B0 H _, by have h9 := b_recv CX.K hc hP; rw [hq] at h9; exact h9, b_pre _ CX.K hS⟩ rfl hn hls hst (lv_room hw) hdg hf
theorem cs_X3_102 {p : Program} {l : Launch} {e : Env} {R : Room} {s : State} {m : MethodId} {args : Array Value} {below : List Frame} {meth : Method} {c : Code} {H : Heap} {locs : List Loc} {cells slots : Nat} {cc : ByteArray} {pc nL a : Nat} {ls : Array Slot} {rest : List Value} {G : b_G} {B0 : Nat} (CX : b_Cx p s m args c cc nL RX3 G B0) (hls : ls.size = nL) {rm : Room} {mc ms : Nat} {As st0 : List Value} {Qc : Array Value → State → Outcome → State → Prop} (hM : Met l yX3_againstSell (ws_ yX3_againstSell cX3_againstSell 4 (Option.some Jvm.ClassFile.FieldType.int)) rm (b_Pc G B0 H (.ref a :: As)) Qc mc ms (b_A B0)) (hn : As.length = 3) {fs : List Value} {ci : Nat} {qc : vw_C} (hc : b_cl[ci]? = some qc) (hq : qc.1 = RX3) (hP : b_at G a (.inr (ci, fs)) H) (hS : va_S (b_A B0) s.heap H locs) (hst : st0 = As.reverse ++ .ref a :: rest) (hr : rm.cells = mc ∧ rm.slots = ms ∧ rm.frames + 1 ≤ R.frames ∧ 8 + (4 + 11) + rm.locals ≤ R.locals) (hw : (rest.map fun v => v.category).sum ≤ 8) (hdg : decode cc pc = .ok (.invokevirtual 102, 3)) (hf : cells + mc ≤ R.cells ∧ slots + ms ≤ R.slots) : va_Run p l e R s m args below meth c H locs cells slots mc ms (F0 m pc ls st0) rest (Qc (Value.ref a :: As).toArray) (b_A B0) := va_runV CX.fix hM (cwV 3 CX.ts (lw_V q1989 q1991 qs50 q88 q1992) rfl hr.1 hr.2.1 (by decide +kernel) ⟨hr.2.2.1, hr.2.2.2⟩) ⟨b_blind G B0 H _, by have h9 := b_recv CX.K hc hP; rw [hq] at h9; exact h9, b_pre _ CX.K hS⟩ rfl hn hls hst (lv_room hw) hdg hf
theorem cs_X3_120 {p : Program} {l : Launch} {e : Env} {R : Room} {s : State} {m : MethodId} {args : Array Value} {below : List Frame} {meth : Method} {c : Code} {H : Heap} {locs : List Loc} {cells slots : Nat} {cc : ByteArray} {pc nL a : Nat} {ls : Array Slot} {rest : List Value} {G : b_G} {B0 : Nat} (CX : b_Cx p s m args c cc nL RX3 G B0) (hls : ls.size = nL) {rm : Room} {mc ms : Nat} {As st0 : List Value} {Qc : Array Value → State → Outcome → State → Prop} (hM : Met l yX3_againstCollect (ws_ yX3_againstCollect cX3_againstCollect 4 (Option.some Jvm.ClassFile.FieldType.int)) rm (b_Pc G B0 H (.ref a :: As)) Qc mc ms (b_A B0)) (hn : As.length = 3) {fs : List Value} {ci : Nat} {qc : vw_C} (hc : b_cl[ci]? = some qc) (hq : qc.1 = RX3) (hP : b_at G a (.inr (ci, fs)) H) (hS : va_S (b_A B0) s.heap H locs) (hst : st0 = As.reverse ++ .ref a :: rest) (hr : rm.cells = mc ∧ rm.slots = ms ∧ rm.frames + 1 ≤ R.frames ∧ 8 + (4 + 11) + rm.locals ≤ R.locals) (hw : (rest.map fun v => v.category).sum ≤ 8) (hdg : decode cc pc = .ok (.invokevirtual 120, 3)) (hf : cells + mc ≤ R.cells ∧ slots + ms ≤ R.slots) : va_Run p l e R s m args below meth c H locs cells slots mc ms (F0 m pc ls st0) rest (Qc (Value.ref a :: As).toArray) (b_A B0) := va_runV CX.fix hM (cwV 3 CX.ts (lw_V q2036 q2038 qs57 q88 q2039) rfl hr.1 hr.2.1 (by decide +kernel) ⟨hr.2.2.1, hr.2.2.2⟩) ⟨b_blind G B0 H _, by have h9 := b_recv CX.K hc hP; rw [hq] at h9; exact h9, b_pre _ CX.K hS⟩ rfl hn hls hst (lv_room hw) hdg hf
theorem cs_X3_85 {p : Program} {l : Launch} {e : Env} {R : Room} {s : State} {m : MethodId} {args : Array Value} {below : List Frame} {meth : Method} {c : Code} {H : Heap} {locs : List Loc} {cells slots : Nat} {cc : ByteArray} {pc nL a : Nat} {ls : Array Slot} {rest : List Value} {G : b_G} {B0 : Nat} (CX : b_Cx p s m args c cc nL RX3 G B0) (hls : ls.size = nL) {rm : Room} {mc ms : Nat} {As st0 : List Value} {Qc : Array Value → State → Outcome → State → Prop} (hM : Met l yX3_isBrand (ws_ yX3_isBrand cX3_isBrand 2 (Option.some Jvm.ClassFile.FieldType.boolean)) rm (b_Pc G B0 H (.ref a :: As)) Qc mc ms (b_A B0)) (hn : As.length = 1) {fs : List Value} {ci : Nat} {qc : vw_C} (hc : b_cl[ci]? = some qc) (hq : qc.1 = RX3) (hP : b_at G a (.inr (ci, fs)) H) (hS : va_S (b_A B0) s.heap H locs) (hst : st0 = As.reverse ++ .ref a :: rest) (hr : rm.cells = mc ∧ rm.slots = ms ∧ rm.frames + 1 ≤ R.frames ∧ 8 + (2 + 11) + rm.locals ≤ R.locals) (hw : (rest.map fun v => v.category).sum ≤ 8) (hdg : decode cc pc = .ok (.invokevirtual 85, 3)) (hf : cells + mc ≤ R.cells ∧ slots + ms ≤ R.slots) : va_Run p l e R s m args below meth c H locs cells slots mc ms (F0 m pc ls st0) rest (Qc (Value.ref a :: As).toArray) (b_A B0) := va_runV CX.fix hM (cwV 1 CX.ts (lw_V q1945 q1947 qs41 q88 q1948) rfl hr.1 hr.2.1 (by decide +kernel) ⟨hr.2.2.1, hr.2.2.2⟩) ⟨b_blind G B0 H _, by have h9 := b_recv CX.K hc hP; rw [hq] at h9; exact h9, b_pre _ CX.K hS⟩ rfl hn hls hst (lv_room hw) hdg hf
set_option maxHeartbeats 2000000 in
set_option maxRecDepth 100000 in
theorem m_X3_againstOrder (l : Launch) {G : b_G} {B0 : Nat} {o : Nat → Nat} {Hr H : Heap} {S : b_St} {sp sv tx : Nat → Int32} {lt on ot nu : Nat} {sa le th pl iw di : Int32} (hM : MW G B0 o Hr H (enc S) sp sv tx sa le th pl iw (nI lt) (nI on) (nI ot) (nI nu) di) (hW : b_WF S) (hok : o_ok lt on ot nu) : Met l yX3_againstOrder (ws_ yX3_againstOrder cX3_againstOrder 4 (Option.some Jvm.ClassFile.FieldType.int)) ({ frames := 4, cells := 0, slots := 0, locals := 90 } : Room) (b_Pc G B0 H [.ref (o 0)]) (b_Qi B0 (fun r H1 => r = o_why S lt on ot nu ∧ H1 = H)) 0 0 (b_A B0) := by
  refine b_of (by decide) (Nat.le_of_ble_eq_true rfl) ?_
  intro p e s m below meth c CX hr hlk hnm hS ls hl
  have CX : b_Cx p s m _ c cX3_againstOrder 4 RX3 G B0 := CX
  have hx := CX.hx
  have hb := CX.hb
  have hl : lv_has ls 4 [(0, .ref (o 0))] := hl
  generalize hQ : MQ below (b_Qi B0 (fun r H1 => r = o_why S lt on ot nu ∧ H1 = H)) ([.ref (o 0)] : List Value).toArray s 0 0 (b_A B0) = Q
  have hn8 := hW.nb8
  have hn6 := hW.ns6
  obtain ⟨k1, k2, k3, k4, k5, k6, k7⟩ := hok
  refine lv_aload_n hx hb dX3_againstOrder_0 rfl (lv_at hl 0 rfl) ?_
  refine gf_X3_145_8 CX hM.o0 rfl dX3_againstOrder_1 ?_
  refine lv_bipush (v := nI 100) hx hb dX3_againstOrder_4 rfl ?_
  refine b_icmp_neN (tgt := 13) CX (by omega) (by omega) dX3_againstOrder_6 (by decide) (fun c_6 => ?_) (fun c_6 => ?_)
  · refine lv_iconst (v := nI 0) hx hb dX3_againstOrder_13 rfl ?_
    refine lv_istore_n (lv' := [(1, .int (nI 0)), (0, .ref (o 0))]) hx hb dX3_againstOrder_14 rfl hl (Nat.le_of_ble_eq_true rfl) rfl (fun ls hl => ?_)
    refine lv_iload_n hx hb dX3_againstOrder_15 rfl (lv_at hl 0 rfl) ?_
    refine lv_if_eq (tgt := 26) hx hb dX3_againstOrder_16 (by decide) (fun c_16 => ?_) (fun c_16 => ?_)
    · refine lv_aload_n hx hb dX3_againstOrder_26 rfl (lv_at hl 1 rfl) ?_
      refine gf_X3_151_8 CX hM.o0 rfl dX3_againstOrder_27 ?_
      refine lv_istore_n (lv' := [(2, .int (nI on)), (1, .int (nI 0)), (0, .ref (o 0))]) hx hb dX3_againstOrder_30 rfl hl (Nat.le_of_ble_eq_true rfl) rfl (fun ls hl => ?_)
      refine lv_iload_n hx hb dX3_againstOrder_31 rfl (lv_at hl 1 rfl) ?_
      refine lv_if_eq (tgt := 42) hx hb dX3_againstOrder_32 (by decide) (fun c_32 => ?_) (fun c_32 => ?_)
      · refine lv_aload_n hx hb dX3_againstOrder_42 rfl (lv_at hl 2 rfl) ?_
        refine gf_X3_157_8 CX hM.o0 rfl dX3_againstOrder_43 ?_
        refine lv_istore_n (lv' := [(3, .int (nI ot)), (2, .int (nI on)), (1, .int (nI 0)), (0, .ref (o 0))]) hx hb dX3_againstOrder_46 rfl hl (Nat.le_of_ble_eq_true rfl) rfl (fun ls hl => ?_)
        refine lv_aload_n hx hb dX3_againstOrder_47 rfl (lv_at hl 3 rfl) ?_
        refine lv_iload_n hx hb dX3_againstOrder_48 rfl (lv_at hl 1 rfl) ?_
        refine b_ci0 (cs_X3_92 (rest := []) CX hl.1 (m_X3_isShop_n l (x := on) hM hW (by omega)) rfl rfl rfl hM.o0 hS rfl ⟨rfl, rfl, Nat.le_of_ble_eq_true rfl, Nat.le_of_ble_eq_true rfl⟩ (Nat.le_of_ble_eq_true rfl) dX3_againstOrder_49 ⟨Nat.le_of_ble_eq_true rfl, Nat.le_of_ble_eq_true rfl⟩) hS (fun locs hS => ?_)
        refine b_ifeq (tgt := 72) CX dX3_againstOrder_52 (by decide) (fun c_52 => ?_) (fun c_52 => ?_)
        · refine lv_iconst (v := nI 4) hx hb dX3_againstOrder_72 rfl ?_
          rw [← hQ]
          exact b_iret CX hr hlk hS (Nat.le_of_ble_eq_true rfl) (Nat.le_of_ble_eq_true rfl) dX3_againstOrder_73 (⟨by first | (exfalso; omega) | (unfold o_why; repeat (first | rw [if_pos (by first | assumption | (constructor <;> omega) | omega)] | rw [if_neg (by first | assumption | omega)])), rfl⟩)
        · refine lv_aload_n hx hb dX3_againstOrder_55 rfl (lv_at hl 3 rfl) ?_
          refine gf_X3_145_8 CX hM.o0 rfl dX3_againstOrder_56 ?_
          refine lv_bipush (v := nI 99) hx hb dX3_againstOrder_59 rfl ?_
          refine b_icmp_eqN (tgt := 74) CX (by omega) (by omega) dX3_againstOrder_61 (by decide) (fun c_61 => ?_) (fun c_61 => ?_)
          · refine lv_aload_n hx hb dX3_againstOrder_74 rfl (lv_at hl 3 rfl) ?_
            refine gf_X3_145_8 CX hM.o0 rfl dX3_againstOrder_75 ?_
            by_cases cs_78_98 : lt = 98
            · refine lv_lookup (off := 75) (tgt := 153) hx hb dX3_againstOrder_78 (by decide) (by rw [cs_78_98]; decide) (by decide) ?_
              refine lv_aload_n hx hb dX3_againstOrder_153 rfl (lv_at hl 3 rfl) ?_
              refine lv_iload_n hx hb dX3_againstOrder_154 rfl (lv_at hl 1 rfl) ?_
              refine lv_iload_n hx hb dX3_againstOrder_155 rfl (lv_at hl 0 rfl) ?_
              refine lv_aload_n hx hb dX3_againstOrder_156 rfl (lv_at hl 3 rfl) ?_
              refine gf_X3_138_8 CX hM.o0 rfl dX3_againstOrder_157 ?_
              refine b_ci0 (cs_X3_114 (rest := []) CX hl.1 (m_X3_againstBreak l (s_ := on) (b := ot) (n_ := nI nu) hM (by omega) (by omega)) rfl rfl rfl hM.o0 hS rfl ⟨rfl, rfl, Nat.le_of_ble_eq_true rfl, Nat.le_of_ble_eq_true rfl⟩ (Nat.le_of_ble_eq_true rfl) dX3_againstOrder_160 ⟨Nat.le_of_ble_eq_true rfl, Nat.le_of_ble_eq_true rfl⟩) hS (fun locs hS => ?_)
              rw [← hQ]
              exact b_iret CX hr hlk hS (Nat.le_of_ble_eq_true rfl) (Nat.le_of_ble_eq_true rfl) dX3_againstOrder_163 (⟨by first | (exfalso; omega) | (unfold o_why; repeat (first | rw [if_pos (by first | assumption | (constructor <;> omega) | omega)] | rw [if_neg (by first | assumption | omega)])), rfl⟩)
            by_cases cs_78_100 : lt = 100
            · exact absurd cs_78_100 c_6
            by_cases cs_78_114 : lt = 114
            · refine lv_lookup (off := 64) (tgt := 142) hx hb dX3_againstOrder_78 (by decide) (by rw [cs_78_114]; decide) (by decide) ?_
              refine lv_aload_n hx hb dX3_againstOrder_142 rfl (lv_at hl 3 rfl) ?_
              refine lv_iload_n hx hb dX3_againstOrder_143 rfl (lv_at hl 1 rfl) ?_
              refine lv_iload_n hx hb dX3_againstOrder_144 rfl (lv_at hl 0 rfl) ?_
              refine lv_aload_n hx hb dX3_againstOrder_145 rfl (lv_at hl 3 rfl) ?_
              refine gf_X3_138_8 CX hM.o0 rfl dX3_againstOrder_146 ?_
              refine b_ci0 (cs_X3_108 (rest := []) CX hl.1 (m_X3_againstTakeBack l (s_ := on) (b := ot) (n_ := nI nu) hM hW (by omega) (by omega)) rfl rfl rfl hM.o0 hS rfl ⟨rfl, rfl, Nat.le_of_ble_eq_true rfl, Nat.le_of_ble_eq_true rfl⟩ (Nat.le_of_ble_eq_true rfl) dX3_againstOrder_149 ⟨Nat.le_of_ble_eq_true rfl, Nat.le_of_ble_eq_true rfl⟩) hS (fun locs hS => ?_)
              rw [← hQ]
              exact b_iret CX hr hlk hS (Nat.le_of_ble_eq_true rfl) (Nat.le_of_ble_eq_true rfl) dX3_againstOrder_152 (⟨by first | (exfalso; omega) | (unfold o_why; repeat (first | rw [if_pos (by first | assumption | (constructor <;> omega) | omega)] | rw [if_neg (by first | assumption | omega)])), rfl⟩)
            by_cases cs_78_115 : lt = 115
            · refine lv_lookup (off := 53) (tgt := 131) hx hb dX3_againstOrder_78 (by decide) (by rw [cs_78_115]; decide) (by decide) ?_
              refine lv_aload_n hx hb dX3_againstOrder_131 rfl (lv_at hl 3 rfl) ?_
              refine lv_iload_n hx hb dX3_againstOrder_132 rfl (lv_at hl 1 rfl) ?_
              refine lv_iload_n hx hb dX3_againstOrder_133 rfl (lv_at hl 0 rfl) ?_
              refine lv_aload_n hx hb dX3_againstOrder_134 rfl (lv_at hl 3 rfl) ?_
              refine gf_X3_138_8 CX hM.o0 rfl dX3_againstOrder_135 ?_
              refine b_ci0 (cs_X3_102 (rest := []) CX hl.1 (m_X3_againstSell l (s_ := on) (b := ot) (n_ := nI nu) hM (by omega) (by omega)) rfl rfl rfl hM.o0 hS rfl ⟨rfl, rfl, Nat.le_of_ble_eq_true rfl, Nat.le_of_ble_eq_true rfl⟩ (Nat.le_of_ble_eq_true rfl) dX3_againstOrder_138 ⟨Nat.le_of_ble_eq_true rfl, Nat.le_of_ble_eq_true rfl⟩) hS (fun locs hS => ?_)
              rw [← hQ]
              exact b_iret CX hr hlk hS (Nat.le_of_ble_eq_true rfl) (Nat.le_of_ble_eq_true rfl) dX3_againstOrder_141 (⟨by first | (exfalso; omega) | (unfold o_why; repeat (first | rw [if_pos (by first | assumption | (constructor <;> omega) | omega)] | rw [if_neg (by first | assumption | omega)])), rfl⟩)
            refine lv_lookup (off := 86) (tgt := 164) hx hb dX3_againstOrder_78 (by decide) ((lv_osw (k := nI 98) (fun q => absurd ((nI_eq (by omega) (by decide)).mp q) (by omega)) rfl).trans ((lv_osw (k := nI 100) (fun q => absurd ((nI_eq (by omega) (by decide)).mp q) (by omega)) rfl).trans ((lv_osw (k := nI 114) (fun q => absurd ((nI_eq (by omega) (by decide)).mp q) (by omega)) rfl).trans ((lv_osw (k := nI 115) (fun q => absurd ((nI_eq (by omega) (by decide)).mp q) (by omega)) rfl).trans rfl)))) (by decide) ?_
            refine lv_aload_n hx hb dX3_againstOrder_164 rfl (lv_at hl 3 rfl) ?_
            refine lv_iload_n hx hb dX3_againstOrder_165 rfl (lv_at hl 1 rfl) ?_
            refine lv_iload_n hx hb dX3_againstOrder_166 rfl (lv_at hl 0 rfl) ?_
            refine lv_aload_n hx hb dX3_againstOrder_167 rfl (lv_at hl 3 rfl) ?_
            refine gf_X3_138_8 CX hM.o0 rfl dX3_againstOrder_168 ?_
            refine b_ci0 (cs_X3_120 (rest := []) CX hl.1 (m_X3_againstCollect l (s_ := on) (k := ot) (c_ := nI nu) hM hW (by omega) (by omega)) rfl rfl rfl hM.o0 hS rfl ⟨rfl, rfl, Nat.le_of_ble_eq_true rfl, Nat.le_of_ble_eq_true rfl⟩ (Nat.le_of_ble_eq_true rfl) dX3_againstOrder_171 ⟨Nat.le_of_ble_eq_true rfl, Nat.le_of_ble_eq_true rfl⟩) hS (fun locs hS => ?_)
            rw [← hQ]
            exact b_iret CX hr hlk hS (Nat.le_of_ble_eq_true rfl) (Nat.le_of_ble_eq_true rfl) dX3_againstOrder_174 (⟨by first | (exfalso; omega) | (unfold o_why; repeat (first | rw [if_pos (by first | assumption | (constructor <;> omega) | omega)] | rw [if_neg (by first | assumption | omega)])), rfl⟩)
          · refine lv_aload_n hx hb dX3_againstOrder_64 rfl (lv_at hl 3 rfl) ?_
            refine lv_iload_n hx hb dX3_againstOrder_65 rfl (lv_at hl 0 rfl) ?_
            refine b_ci0 (cs_X3_85 (rest := []) CX hl.1 (m_X3_isBrand_n l (x := ot) hM hW (by omega)) rfl rfl rfl hM.o0 hS rfl ⟨rfl, rfl, Nat.le_of_ble_eq_true rfl, Nat.le_of_ble_eq_true rfl⟩ (Nat.le_of_ble_eq_true rfl) dX3_againstOrder_66 ⟨Nat.le_of_ble_eq_true rfl, Nat.le_of_ble_eq_true rfl⟩) hS (fun locs hS => ?_)
            refine b_ifne (tgt := 74) CX dX3_againstOrder_69 (by decide) (fun c_69 => ?_) (fun c_69 => ?_)
            · refine lv_aload_n hx hb dX3_againstOrder_74 rfl (lv_at hl 3 rfl) ?_
              refine gf_X3_145_8 CX hM.o0 rfl dX3_againstOrder_75 ?_
              by_cases cs_78_98 : lt = 98
              · refine lv_lookup (off := 75) (tgt := 153) hx hb dX3_againstOrder_78 (by decide) (by rw [cs_78_98]; decide) (by decide) ?_
                refine lv_aload_n hx hb dX3_againstOrder_153 rfl (lv_at hl 3 rfl) ?_
                refine lv_iload_n hx hb dX3_againstOrder_154 rfl (lv_at hl 1 rfl) ?_
                refine lv_iload_n hx hb dX3_againstOrder_155 rfl (lv_at hl 0 rfl) ?_
                refine lv_aload_n hx hb dX3_againstOrder_156 rfl (lv_at hl 3 rfl) ?_
                refine gf_X3_138_8 CX hM.o0 rfl dX3_againstOrder_157 ?_
                refine b_ci0 (cs_X3_114 (rest := []) CX hl.1 (m_X3_againstBreak l (s_ := on) (b := ot) (n_ := nI nu) hM (by omega) (by omega)) rfl rfl rfl hM.o0 hS rfl ⟨rfl, rfl, Nat.le_of_ble_eq_true rfl, Nat.le_of_ble_eq_true rfl⟩ (Nat.le_of_ble_eq_true rfl) dX3_againstOrder_160 ⟨Nat.le_of_ble_eq_true rfl, Nat.le_of_ble_eq_true rfl⟩) hS (fun locs hS => ?_)
                rw [← hQ]
                exact b_iret CX hr hlk hS (Nat.le_of_ble_eq_true rfl) (Nat.le_of_ble_eq_true rfl) dX3_againstOrder_163 (⟨by first | (exfalso; omega) | (unfold o_why; repeat (first | rw [if_pos (by first | assumption | (constructor <;> omega) | omega)] | rw [if_neg (by first | assumption | omega)])), rfl⟩)
              by_cases cs_78_100 : lt = 100
              · exact absurd cs_78_100 c_6
              by_cases cs_78_114 : lt = 114
              · refine lv_lookup (off := 64) (tgt := 142) hx hb dX3_againstOrder_78 (by decide) (by rw [cs_78_114]; decide) (by decide) ?_
                refine lv_aload_n hx hb dX3_againstOrder_142 rfl (lv_at hl 3 rfl) ?_
                refine lv_iload_n hx hb dX3_againstOrder_143 rfl (lv_at hl 1 rfl) ?_
                refine lv_iload_n hx hb dX3_againstOrder_144 rfl (lv_at hl 0 rfl) ?_
                refine lv_aload_n hx hb dX3_againstOrder_145 rfl (lv_at hl 3 rfl) ?_
                refine gf_X3_138_8 CX hM.o0 rfl dX3_againstOrder_146 ?_
                refine b_ci0 (cs_X3_108 (rest := []) CX hl.1 (m_X3_againstTakeBack l (s_ := on) (b := ot) (n_ := nI nu) hM hW (by omega) (by omega)) rfl rfl rfl hM.o0 hS rfl ⟨rfl, rfl, Nat.le_of_ble_eq_true rfl, Nat.le_of_ble_eq_true rfl⟩ (Nat.le_of_ble_eq_true rfl) dX3_againstOrder_149 ⟨Nat.le_of_ble_eq_true rfl, Nat.le_of_ble_eq_true rfl⟩) hS (fun locs hS => ?_)
                rw [← hQ]
                exact b_iret CX hr hlk hS (Nat.le_of_ble_eq_true rfl) (Nat.le_of_ble_eq_true rfl) dX3_againstOrder_152 (⟨by first | (exfalso; omega) | (unfold o_why; repeat (first | rw [if_pos (by first | assumption | (constructor <;> omega) | omega)] | rw [if_neg (by first | assumption | omega)])), rfl⟩)
              by_cases cs_78_115 : lt = 115
              · refine lv_lookup (off := 53) (tgt := 131) hx hb dX3_againstOrder_78 (by decide) (by rw [cs_78_115]; decide) (by decide) ?_
                refine lv_aload_n hx hb dX3_againstOrder_131 rfl (lv_at hl 3 rfl) ?_
                refine lv_iload_n hx hb dX3_againstOrder_132 rfl (lv_at hl 1 rfl) ?_
                refine lv_iload_n hx hb dX3_againstOrder_133 rfl (lv_at hl 0 rfl) ?_
                refine lv_aload_n hx hb dX3_againstOrder_134 rfl (lv_at hl 3 rfl) ?_
                refine gf_X3_138_8 CX hM.o0 rfl dX3_againstOrder_135 ?_
                refine b_ci0 (cs_X3_102 (rest := []) CX hl.1 (m_X3_againstSell l (s_ := on) (b := ot) (n_ := nI nu) hM (by omega) (by omega)) rfl rfl rfl hM.o0 hS rfl ⟨rfl, rfl, Nat.le_of_ble_eq_true rfl, Nat.le_of_ble_eq_true rfl⟩ (Nat.le_of_ble_eq_true rfl) dX3_againstOrder_138 ⟨Nat.le_of_ble_eq_true rfl, Nat.le_of_ble_eq_true rfl⟩) hS (fun locs hS => ?_)
                rw [← hQ]
                exact b_iret CX hr hlk hS (Nat.le_of_ble_eq_true rfl) (Nat.le_of_ble_eq_true rfl) dX3_againstOrder_141 (⟨by first | (exfalso; omega) | (unfold o_why; repeat (first | rw [if_pos (by first | assumption | (constructor <;> omega) | omega)] | rw [if_neg (by first | assumption | omega)])), rfl⟩)
              refine lv_lookup (off := 86) (tgt := 164) hx hb dX3_againstOrder_78 (by decide) ((lv_osw (k := nI 98) (fun q => absurd ((nI_eq (by omega) (by decide)).mp q) (by omega)) rfl).trans ((lv_osw (k := nI 100) (fun q => absurd ((nI_eq (by omega) (by decide)).mp q) (by omega)) rfl).trans ((lv_osw (k := nI 114) (fun q => absurd ((nI_eq (by omega) (by decide)).mp q) (by omega)) rfl).trans ((lv_osw (k := nI 115) (fun q => absurd ((nI_eq (by omega) (by decide)).mp q) (by omega)) rfl).trans rfl)))) (by decide) ?_
              refine lv_aload_n hx hb dX3_againstOrder_164 rfl (lv_at hl 3 rfl) ?_
              refine lv_iload_n hx hb dX3_againstOrder_165 rfl (lv_at hl 1 rfl) ?_
              refine lv_iload_n hx hb dX3_againstOrder_166 rfl (lv_at hl 0 rfl) ?_
              refine lv_aload_n hx hb dX3_againstOrder_167 rfl (lv_at hl 3 rfl) ?_
              refine gf_X3_138_8 CX hM.o0 rfl dX3_againstOrder_168 ?_
              refine b_ci0 (cs_X3_120 (rest := []) CX hl.1 (m_X3_againstCollect l (s_ := on) (k := ot) (c_ := nI nu) hM hW (by omega) (by omega)) rfl rfl rfl hM.o0 hS rfl ⟨rfl, rfl, Nat.le_of_ble_eq_true rfl, Nat.le_of_ble_eq_true rfl⟩ (Nat.le_of_ble_eq_true rfl) dX3_againstOrder_171 ⟨Nat.le_of_ble_eq_true rfl, Nat.le_of_ble_eq_true rfl⟩) hS (fun locs hS => ?_)
              rw [← hQ]
              exact b_iret CX hr hlk hS (Nat.le_of_ble_eq_true rfl) (Nat.le_of_ble_eq_true rfl) dX3_againstOrder_174 (⟨by first | (exfalso; omega) | (unfold o_why; repeat (first | rw [if_pos (by first | assumption | (constructor <;> omega) | omega)] | rw [if_neg (by first | assumption | omega)])), rfl⟩)
            · refine lv_iconst (v := nI 4) hx hb dX3_againstOrder_72 rfl ?_
              rw [← hQ]
              exact b_iret CX hr hlk hS (Nat.le_of_ble_eq_true rfl) (Nat.le_of_ble_eq_true rfl) dX3_againstOrder_73 (⟨by first | (exfalso; omega) | (unfold o_why; repeat (first | rw [if_pos (by first | assumption | (constructor <;> omega) | omega)] | rw [if_neg (by first | assumption | omega)])), rfl⟩)
      · exact absurd c_32 (by decide)
    · exact absurd c_16 (by decide)
  · obtain rfl : lt = 100 := c_6
    refine lv_iconst (v := nI 1) hx hb dX3_againstOrder_9 rfl ?_
    refine lv_goto (tgt := 14) hx hb dX3_againstOrder_10 (by decide) ?_
    refine lv_istore_n (lv' := [(1, .int (nI 1)), (0, .ref (o 0))]) hx hb dX3_againstOrder_14 rfl hl (Nat.le_of_ble_eq_true rfl) rfl (fun ls hl => ?_)
    refine lv_iload_n hx hb dX3_againstOrder_15 rfl (lv_at hl 0 rfl) ?_
    refine lv_if_eq (tgt := 26) hx hb dX3_againstOrder_16 (by decide) (fun c_16 => ?_) (fun c_16 => ?_)
    · exact absurd c_16 (by decide)
    · refine lv_aload_n hx hb dX3_againstOrder_19 rfl (lv_at hl 1 rfl) ?_
      refine gf_X3_157_8 CX hM.o0 rfl dX3_againstOrder_20 ?_
      refine lv_goto (tgt := 30) hx hb dX3_againstOrder_23 (by decide) ?_
      refine lv_istore_n (lv' := [(2, .int (nI ot)), (1, .int (nI 1)), (0, .ref (o 0))]) hx hb dX3_againstOrder_30 rfl hl (Nat.le_of_ble_eq_true rfl) rfl (fun ls hl => ?_)
      refine lv_iload_n hx hb dX3_againstOrder_31 rfl (lv_at hl 1 rfl) ?_
      refine lv_if_eq (tgt := 42) hx hb dX3_againstOrder_32 (by decide) (fun c_32 => ?_) (fun c_32 => ?_)
      · exact absurd c_32 (by decide)
      · refine lv_aload_n hx hb dX3_againstOrder_35 rfl (lv_at hl 2 rfl) ?_
        refine gf_X3_151_8 CX hM.o0 rfl dX3_againstOrder_36 ?_
        refine lv_goto (tgt := 46) hx hb dX3_againstOrder_39 (by decide) ?_
        refine lv_istore_n (lv' := [(3, .int (nI on)), (2, .int (nI ot)), (1, .int (nI 1)), (0, .ref (o 0))]) hx hb dX3_againstOrder_46 rfl hl (Nat.le_of_ble_eq_true rfl) rfl (fun ls hl => ?_)
        refine lv_aload_n hx hb dX3_againstOrder_47 rfl (lv_at hl 3 rfl) ?_
        refine lv_iload_n hx hb dX3_againstOrder_48 rfl (lv_at hl 1 rfl) ?_
        refine b_ci0 (cs_X3_92 (rest := []) CX hl.1 (m_X3_isShop_n l (x := ot) hM hW (by omega)) rfl rfl rfl hM.o0 hS rfl ⟨rfl, rfl, Nat.le_of_ble_eq_true rfl, Nat.le_of_ble_eq_true rfl⟩ (Nat.le_of_ble_eq_true rfl) dX3_againstOrder_49 ⟨Nat.le_of_ble_eq_true rfl, Nat.le_of_ble_eq_true rfl⟩) hS (fun locs hS => ?_)
        refine b_ifeq (tgt := 72) CX dX3_againstOrder_52 (by decide) (fun c_52 => ?_) (fun c_52 => ?_)
        · refine lv_iconst (v := nI 4) hx hb dX3_againstOrder_72 rfl ?_
          rw [← hQ]
          exact b_iret CX hr hlk hS (Nat.le_of_ble_eq_true rfl) (Nat.le_of_ble_eq_true rfl) dX3_againstOrder_73 (⟨by first | (exfalso; omega) | (unfold o_why; repeat (first | rw [if_pos (by first | assumption | (constructor <;> omega) | omega)] | rw [if_neg (by first | assumption | omega)])), rfl⟩)
        · refine lv_aload_n hx hb dX3_againstOrder_55 rfl (lv_at hl 3 rfl) ?_
          refine gf_X3_145_8 CX hM.o0 rfl dX3_againstOrder_56 ?_
          refine lv_bipush (v := nI 99) hx hb dX3_againstOrder_59 rfl ?_
          refine b_icmp_eqN (tgt := 74) CX (by omega) (by omega) dX3_againstOrder_61 (by decide) (fun c_61 => ?_) (fun c_61 => ?_)
          · exact absurd c_61 (by decide)
          · refine lv_aload_n hx hb dX3_againstOrder_64 rfl (lv_at hl 3 rfl) ?_
            refine lv_iload_n hx hb dX3_againstOrder_65 rfl (lv_at hl 0 rfl) ?_
            refine b_ci0 (cs_X3_85 (rest := []) CX hl.1 (m_X3_isBrand_n l (x := on) hM hW (by omega)) rfl rfl rfl hM.o0 hS rfl ⟨rfl, rfl, Nat.le_of_ble_eq_true rfl, Nat.le_of_ble_eq_true rfl⟩ (Nat.le_of_ble_eq_true rfl) dX3_againstOrder_66 ⟨Nat.le_of_ble_eq_true rfl, Nat.le_of_ble_eq_true rfl⟩) hS (fun locs hS => ?_)
            refine b_ifne (tgt := 74) CX dX3_againstOrder_69 (by decide) (fun c_69 => ?_) (fun c_69 => ?_)
            · refine lv_aload_n hx hb dX3_againstOrder_74 rfl (lv_at hl 3 rfl) ?_
              refine gf_X3_145_8 CX hM.o0 rfl dX3_againstOrder_75 ?_
              refine lv_lookup (off := 42) (tgt := 120) hx hb dX3_againstOrder_78 (by decide) (by decide) (by decide) ?_
              refine lv_aload_n hx hb dX3_againstOrder_120 rfl (lv_at hl 3 rfl) ?_
              refine lv_iload_n hx hb dX3_againstOrder_121 rfl (lv_at hl 0 rfl) ?_
              refine lv_iload_n hx hb dX3_againstOrder_122 rfl (lv_at hl 1 rfl) ?_
              refine lv_aload_n hx hb dX3_againstOrder_123 rfl (lv_at hl 3 rfl) ?_
              refine gf_X3_138_8 CX hM.o0 rfl dX3_againstOrder_124 ?_
              refine b_ci0 (cs_X3_95 (rest := []) CX hl.1 (m_X3_againstDeliver l (b := on) (s_ := ot) (c_ := nI nu) hM hW (by omega) (by omega)) rfl rfl rfl hM.o0 hS rfl ⟨rfl, rfl, Nat.le_of_ble_eq_true rfl, Nat.le_of_ble_eq_true rfl⟩ (Nat.le_of_ble_eq_true rfl) dX3_againstOrder_127 ⟨Nat.le_of_ble_eq_true rfl, Nat.le_of_ble_eq_true rfl⟩) hS (fun locs hS => ?_)
              rw [← hQ]
              exact b_iret CX hr hlk hS (Nat.le_of_ble_eq_true rfl) (Nat.le_of_ble_eq_true rfl) dX3_againstOrder_130 (⟨by first | (exfalso; omega) | (unfold o_why; repeat (first | rw [if_pos (by first | assumption | (constructor <;> omega) | omega)] | rw [if_neg (by first | assumption | omega)])), rfl⟩)
            · refine lv_iconst (v := nI 4) hx hb dX3_againstOrder_72 rfl ?_
              rw [← hQ]
              exact b_iret CX hr hlk hS (Nat.le_of_ble_eq_true rfl) (Nat.le_of_ble_eq_true rfl) dX3_againstOrder_73 (⟨by first | (exfalso; omega) | (unfold o_why; repeat (first | rw [if_pos (by first | assumption | (constructor <;> omega) | omega)] | rw [if_neg (by first | assumption | omega)])), rfl⟩)
theorem cs_X3_117 {p : Program} {l : Launch} {e : Env} {R : Room} {s : State} {m : MethodId} {args : Array Value} {below : List Frame} {meth : Method} {c : Code} {H : Heap} {locs : List Loc} {cells slots : Nat} {cc : ByteArray} {pc nL a : Nat} {ls : Array Slot} {rest : List Value} {G : b_G} {B0 : Nat} (CX : b_Cx p s m args c cc nL RX3 G B0) (hls : ls.size = nL) {rm : Room} {mc ms : Nat} {As st0 : List Value} {Qc : Array Value → State → Outcome → State → Prop} (hM : Met l yX3_breaksThem (ws_ yX3_breaksThem cX3_breaksThem 6 (Option.some Jvm.ClassFile.FieldType.int)) rm (b_Pc G B0 H (.ref a :: As)) Qc mc ms (b_A B0)) (hn : As.length = 3) {fs : List Value} {ci : Nat} {qc : vw_C} (hc : b_cl[ci]? = some qc) (hq : qc.1 = RX3) (hP : b_at G a (.inr (ci, fs)) H) (hS : va_S (b_A B0) s.heap H locs) (hst : st0 = As.reverse ++ .ref a :: rest) (hr : rm.cells = mc ∧ rm.slots = ms ∧ rm.frames + 1 ≤ R.frames ∧ 8 + (6 + 11) + rm.locals ≤ R.locals) (hw : (rest.map fun v => v.category).sum ≤ 8) (hdg : decode cc pc = .ok (.invokevirtual 117, 3)) (hf : cells + mc ≤ R.cells ∧ slots + ms ≤ R.slots) : va_Run p l e R s m args below meth c H locs cells slots mc ms (F0 m pc ls st0) rest (Qc (Value.ref a :: As).toArray) (b_A B0) := va_runV CX.fix hM (cwV 3 CX.ts (lw_V q2021 q2023 qs56 q88 q2024) rfl hr.1 hr.2.1 (by decide +kernel) ⟨hr.2.2.1, hr.2.2.2⟩) ⟨b_blind G B0 H _, by have h9 := b_recv CX.K hc hP; rw [hq] at h9; exact h9, b_pre _ CX.K hS⟩ rfl hn hls hst (lv_room hw) hdg hf
theorem cs_X3_99 {p : Program} {l : Launch} {e : Env} {R : Room} {s : State} {m : MethodId} {args : Array Value} {below : List Frame} {meth : Method} {c : Code} {H : Heap} {locs : List Loc} {cells slots : Nat} {cc : ByteArray} {pc nL a : Nat} {ls : Array Slot} {rest : List Value} {G : b_G} {B0 : Nat} (CX : b_Cx p s m args c cc nL RX3 G B0) (hls : ls.size = nL) {rm : Room} {mc ms : Nat} {As st0 : List Value} {Qc : Array Value → State → Outcome → State → Prop} (hM : Met l yX3_delivers (ws_ yX3_delivers cX3_delivers 6 (Option.some Jvm.ClassFile.FieldType.int)) rm (b_Pc G B0 H (.ref a :: As)) Qc mc ms (b_A B0)) (hn : As.length = 3) {fs : List Value} {ci : Nat} {qc : vw_C} (hc : b_cl[ci]? = some qc) (hq : qc.1 = RX3) (hP : b_at G a (.inr (ci, fs)) H) (hS : va_S (b_A B0) s.heap H locs) (hst : st0 = As.reverse ++ .ref a :: rest) (hr : rm.cells = mc ∧ rm.slots = ms ∧ rm.frames + 1 ≤ R.frames ∧ 8 + (6 + 11) + rm.locals ≤ R.locals) (hw : (rest.map fun v => v.category).sum ≤ 8) (hdg : decode cc pc = .ok (.invokevirtual 99, 3)) (hf : cells + mc ≤ R.cells ∧ slots + ms ≤ R.slots) : va_Run p l e R s m args below meth c H locs cells slots mc ms (F0 m pc ls st0) rest (Qc (Value.ref a :: As).toArray) (b_A B0) := va_runV CX.fix hM (cwV 3 CX.ts (lw_V q1981 q1983 qs49 q88 q1984) rfl hr.1 hr.2.1 (by decide +kernel) ⟨hr.2.2.1, hr.2.2.2⟩) ⟨b_blind G B0 H _, by have h9 := b_recv CX.K hc hP; rw [hq] at h9; exact h9, b_pre _ CX.K hS⟩ rfl hn hls hst (lv_room hw) hdg hf
theorem cs_X3_111 {p : Program} {l : Launch} {e : Env} {R : Room} {s : State} {m : MethodId} {args : Array Value} {below : List Frame} {meth : Method} {c : Code} {H : Heap} {locs : List Loc} {cells slots : Nat} {cc : ByteArray} {pc nL a : Nat} {ls : Array Slot} {rest : List Value} {G : b_G} {B0 : Nat} (CX : b_Cx p s m args c cc nL RX3 G B0) (hls : ls.size = nL) {rm : Room} {mc ms : Nat} {As st0 : List Value} {Qc : Array Value → State → Outcome → State → Prop} (hM : Met l yX3_takesBack (ws_ yX3_takesBack cX3_takesBack 4 (Option.some Jvm.ClassFile.FieldType.int)) rm (b_Pc G B0 H (.ref a :: As)) Qc mc ms (b_A B0)) (hn : As.length = 3) {fs : List Value} {ci : Nat} {qc : vw_C} (hc : b_cl[ci]? = some qc) (hq : qc.1 = RX3) (hP : b_at G a (.inr (ci, fs)) H) (hS : va_S (b_A B0) s.heap H locs) (hst : st0 = As.reverse ++ .ref a :: rest) (hr : rm.cells = mc ∧ rm.slots = ms ∧ rm.frames + 1 ≤ R.frames ∧ 8 + (4 + 11) + rm.locals ≤ R.locals) (hw : (rest.map fun v => v.category).sum ≤ 8) (hdg : decode cc pc = .ok (.invokevirtual 111, 3)) (hf : cells + mc ≤ R.cells ∧ slots + ms ≤ R.slots) : va_Run p l e R s m args below meth c H locs cells slots mc ms (F0 m pc ls st0) rest (Qc (Value.ref a :: As).toArray) (b_A B0) := va_runV CX.fix hM (cwV 3 CX.ts (lw_V q2009 q2011 qs54 q88 q2012) rfl hr.1 hr.2.1 (by decide +kernel) ⟨hr.2.2.1, hr.2.2.2⟩) ⟨b_blind G B0 H _, by have h9 := b_recv CX.K hc hP; rw [hq] at h9; exact h9, b_pre _ CX.K hS⟩ rfl hn hls hst (lv_room hw) hdg hf
theorem cs_X3_105 {p : Program} {l : Launch} {e : Env} {R : Room} {s : State} {m : MethodId} {args : Array Value} {below : List Frame} {meth : Method} {c : Code} {H : Heap} {locs : List Loc} {cells slots : Nat} {cc : ByteArray} {pc nL a : Nat} {ls : Array Slot} {rest : List Value} {G : b_G} {B0 : Nat} (CX : b_Cx p s m args c cc nL RX3 G B0) (hls : ls.size = nL) {rm : Room} {mc ms : Nat} {As st0 : List Value} {Qc : Array Value → State → Outcome → State → Prop} (hM : Met l yX3_sells (ws_ yX3_sells cX3_sells 4 (Option.some Jvm.ClassFile.FieldType.int)) rm (b_Pc G B0 H (.ref a :: As)) Qc mc ms (b_A B0)) (hn : As.length = 3) {fs : List Value} {ci : Nat} {qc : vw_C} (hc : b_cl[ci]? = some qc) (hq : qc.1 = RX3) (hP : b_at G a (.inr (ci, fs)) H) (hS : va_S (b_A B0) s.heap H locs) (hst : st0 = As.reverse ++ .ref a :: rest) (hr : rm.cells = mc ∧ rm.slots = ms ∧ rm.frames + 1 ≤ R.frames ∧ 8 + (4 + 11) + rm.locals ≤ R.locals) (hw : (rest.map fun v => v.category).sum ≤ 8) (hdg : decode cc pc = .ok (.invokevirtual 105, 3)) (hf : cells + mc ≤ R.cells ∧ slots + ms ≤ R.slots) : va_Run p l e R s m args below meth c H locs cells slots mc ms (F0 m pc ls st0) rest (Qc (Value.ref a :: As).toArray) (b_A B0) := va_runV CX.fix hM (cwV 3 CX.ts (lw_V q1993 q1995 qs51 q88 q1996) rfl hr.1 hr.2.1 (by decide +kernel) ⟨hr.2.2.1, hr.2.2.2⟩) ⟨b_blind G B0 H _, by have h9 := b_recv CX.K hc hP; rw [hq] at h9; exact h9, b_pre _ CX.K hS⟩ rfl hn hls hst (lv_room hw) hdg hf
theorem cs_X3_123 {p : Program} {l : Launch} {e : Env} {R : Room} {s : State} {m : MethodId} {args : Array Value} {below : List Frame} {meth : Method} {c : Code} {H : Heap} {locs : List Loc} {cells slots : Nat} {cc : ByteArray} {pc nL a : Nat} {ls : Array Slot} {rest : List Value} {G : b_G} {B0 : Nat} (CX : b_Cx p s m args c cc nL RX3 G B0) (hls : ls.size = nL) {rm : Room} {mc ms : Nat} {As st0 : List Value} {Qc : Array Value → State → Outcome → State → Prop} (hM : Met l yX3_collects (ws_ yX3_collects cX3_collects 6 (Option.some Jvm.ClassFile.FieldType.int)) rm (b_Pc G B0 H (.ref a :: As)) Qc mc ms (b_A B0)) (hn : As.length = 3) {fs : List Value} {ci : Nat} {qc : vw_C} (hc : b_cl[ci]? = some qc) (hq : qc.1 = RX3) (hP : b_at G a (.inr (ci, fs)) H) (hS : va_S (b_A B0) s.heap H locs) (hst : st0 = As.reverse ++ .ref a :: rest) (hr : rm.cells = mc ∧ rm.slots = ms ∧ rm.frames + 1 ≤ R.frames ∧ 8 + (6 + 11) + rm.locals ≤ R.locals) (hw : (rest.map fun v => v.category).sum ≤ 8) (hdg : decode cc pc = .ok (.invokevirtual 123, 3)) (hf : cells + mc ≤ R.cells ∧ slots + ms ≤ R.slots) : va_Run p l e R s m args below meth c H locs cells slots mc ms (F0 m pc ls st0) rest (Qc (Value.ref a :: As).toArray) (b_A B0) := va_runV CX.fix hM (cwV 3 CX.ts (lw_V q2044 q2046 qs59 q88 q2047) rfl hr.1 hr.2.1 (by decide +kernel) ⟨hr.2.2.1, hr.2.2.2⟩) ⟨b_blind G B0 H _, by have h9 := b_recv CX.K hc hP; rw [hq] at h9; exact h9, b_pre _ CX.K hS⟩ rfl hn hls hst (lv_room hw) hdg hf
set_option maxHeartbeats 2000000 in
set_option maxRecDepth 100000 in
theorem m_X3_doOrder (l : Launch) {G : b_G} {B0 : Nat} {o : Nat → Nat} {Hr H : Heap} {S : b_St} {sp sv tx : Nat → Int32} {lt on ot nu : Nat} {sa le th pl iw di : Int32} (hM : MW G B0 o Hr H (enc S) sp sv tx sa le th pl iw (nI lt) (nI on) (nI ot) (nI nu) di) (hW : b_WF S) (hok : o_ok lt on ot nu) (h1 : lt = 100 → on < 8 ∧ ot < 6) (h2 : ¬ lt = 100 → on < 6 ∧ ot < 8) (h3 : lt = 99 → p_picks S on ot nu) : Met l yX3_doOrder (ws_ yX3_doOrder cX3_doOrder 1 (Option.none)) ({ frames := 4, cells := 0, slots := 0, locals := 93 } : Room) (b_Pc G B0 H [.ref (o 0)]) (b_Qv B0 (fun H1 => MW G B0 o H H1 (enc ((o_do S lt on ot nu))) sp sv tx sa le th pl iw (nI lt) (nI on) (nI ot) (nI nu) di)) 0 0 (b_A B0) := by
  refine b_of (by decide) (Nat.le_of_ble_eq_true rfl) ?_
  intro p e s m below meth c CX hr hlk hnm hS ls hl
  have CX : b_Cx p s m _ c cX3_doOrder 1 RX3 G B0 := CX
  have hx := CX.hx
  have hb := CX.hb
  have hl : lv_has ls 1 [(0, .ref (o 0))] := hl
  generalize hQ : MQ below (b_Qv B0 (fun H1 => MW G B0 o H H1 (enc ((o_do S lt on ot nu))) sp sv tx sa le th pl iw (nI lt) (nI on) (nI ot) (nI nu) di)) ([.ref (o 0)] : List Value).toArray s 0 0 (b_A B0) = Q
  have hM := hM.re
  have hn8 := hW.nb8
  have hn6 := hW.ns6
  obtain ⟨k1, k2, k3, k4, k5, k6, k7⟩ := hok
  refine lv_aload_n hx hb dX3_doOrder_0 rfl (lv_at hl 0 rfl) ?_
  refine gf_X3_145_8 CX hM.o0 rfl dX3_doOrder_1 ?_
  by_cases cs_4_98 : lt = 98
  · have h9 := h2 (by omega)
    refine lv_lookup (off := 104) (tgt := 108) hx hb dX3_doOrder_4 (by decide) (by rw [cs_4_98]; decide) (by decide) ?_
    refine lv_aload_n hx hb dX3_doOrder_108 rfl (lv_at hl 0 rfl) ?_
    refine lv_aload_n hx hb dX3_doOrder_109 rfl (lv_at hl 0 rfl) ?_
    refine gf_X3_151_8 CX hM.o0 rfl dX3_doOrder_110 ?_
    refine lv_aload_n hx hb dX3_doOrder_113 rfl (lv_at hl 0 rfl) ?_
    refine gf_X3_157_8 CX hM.o0 rfl dX3_doOrder_114 ?_
    refine lv_aload_n hx hb dX3_doOrder_117 rfl (lv_at hl 0 rfl) ?_
    refine gf_X3_138_8 CX hM.o0 rfl dX3_doOrder_118 ?_
    refine b_ci (cs_X3_117 (rest := []) CX hl.1 (m_X3_breaksThem l (s_ := on) (b := ot) (n_ := nI nu) hM hW (by omega) (by omega)) rfl rfl rfl hM.o0 hS rfl ⟨rfl, rfl, Nat.le_of_ble_eq_true rfl, Nat.le_of_ble_eq_true rfl⟩ (Nat.le_of_ble_eq_true rfl) dX3_doOrder_121 ⟨Nat.le_of_ble_eq_true rfl, Nat.le_of_ble_eq_true rfl⟩) hS (fun r H1 locs hp hS => ?_)
    obtain ⟨rfl, hM9⟩ := hp
    have hM : MW G B0 o H H1 (enc ((s_break S on ot (nI nu)))) sp sv tx sa le th pl iw (nI lt) (nI on) (nI ot) (nI nu) di := hM.tr hM9
    refine lv_pop hx hb dX3_doOrder_124 rfl ?_
    refine lv_goto (tgt := 145) hx hb dX3_doOrder_125 (by decide) ?_
    rw [← hQ]
    exact b_vret CX hr hlk hS (Nat.le_of_ble_eq_true rfl) (Nat.le_of_ble_eq_true rfl) dX3_doOrder_145 ((by have e9 : o_do S lt on ot nu = (s_break S on ot (nI nu)) := (by unfold o_do; repeat (first | rw [if_pos (by omega)] | rw [if_neg (by omega)])); rw [e9]; exact hM))
  by_cases cs_4_100 : lt = 100
  · have h9 := h1 cs_4_100
    refine lv_lookup (off := 44) (tgt := 48) hx hb dX3_doOrder_4 (by decide) (by rw [cs_4_100]; decide) (by decide) ?_
    refine lv_aload_n hx hb dX3_doOrder_48 rfl (lv_at hl 0 rfl) ?_
    refine lv_aload_n hx hb dX3_doOrder_49 rfl (lv_at hl 0 rfl) ?_
    refine gf_X3_151_8 CX hM.o0 rfl dX3_doOrder_50 ?_
    refine lv_aload_n hx hb dX3_doOrder_53 rfl (lv_at hl 0 rfl) ?_
    refine gf_X3_157_8 CX hM.o0 rfl dX3_doOrder_54 ?_
    refine lv_aload_n hx hb dX3_doOrder_57 rfl (lv_at hl 0 rfl) ?_
    refine gf_X3_138_8 CX hM.o0 rfl dX3_doOrder_58 ?_
    refine b_ci (cs_X3_99 (rest := []) CX hl.1 (m_X3_delivers l (b := on) (s_ := ot) (c_ := nI nu) hM hW (by omega) (by omega)) rfl rfl rfl hM.o0 hS rfl ⟨rfl, rfl, Nat.le_of_ble_eq_true rfl, Nat.le_of_ble_eq_true rfl⟩ (Nat.le_of_ble_eq_true rfl) dX3_doOrder_61 ⟨Nat.le_of_ble_eq_true rfl, Nat.le_of_ble_eq_true rfl⟩) hS (fun r H2 locs hp hS => ?_)
    obtain ⟨rfl, hM9⟩ := hp
    have hM : MW G B0 o H H2 (enc ((s_deliver S on ot (nI nu)))) sp sv tx sa le th pl iw (nI lt) (nI on) (nI ot) (nI nu) di := hM.tr hM9
    refine lv_pop hx hb dX3_doOrder_64 rfl ?_
    refine lv_goto (tgt := 145) hx hb dX3_doOrder_65 (by decide) ?_
    rw [← hQ]
    exact b_vret CX hr hlk hS (Nat.le_of_ble_eq_true rfl) (Nat.le_of_ble_eq_true rfl) dX3_doOrder_145 ((by have e9 : o_do S lt on ot nu = (s_deliver S on ot (nI nu)) := (by unfold o_do; repeat (first | rw [if_pos (by omega)] | rw [if_neg (by omega)])); rw [e9]; exact hM))
  by_cases cs_4_114 : lt = 114
  · have h9 := h2 (by omega)
    refine lv_lookup (off := 84) (tgt := 88) hx hb dX3_doOrder_4 (by decide) (by rw [cs_4_114]; decide) (by decide) ?_
    refine lv_aload_n hx hb dX3_doOrder_88 rfl (lv_at hl 0 rfl) ?_
    refine lv_aload_n hx hb dX3_doOrder_89 rfl (lv_at hl 0 rfl) ?_
    refine gf_X3_151_8 CX hM.o0 rfl dX3_doOrder_90 ?_
    refine lv_aload_n hx hb dX3_doOrder_93 rfl (lv_at hl 0 rfl) ?_
    refine gf_X3_157_8 CX hM.o0 rfl dX3_doOrder_94 ?_
    refine lv_aload_n hx hb dX3_doOrder_97 rfl (lv_at hl 0 rfl) ?_
    refine gf_X3_138_8 CX hM.o0 rfl dX3_doOrder_98 ?_
    refine b_ci (cs_X3_111 (rest := []) CX hl.1 (m_X3_takesBack l (s_ := on) (b := ot) (n_ := nI nu) hM hW (by omega) (by omega)) rfl rfl rfl hM.o0 hS rfl ⟨rfl, rfl, Nat.le_of_ble_eq_true rfl, Nat.le_of_ble_eq_true rfl⟩ (Nat.le_of_ble_eq_true rfl) dX3_doOrder_101 ⟨Nat.le_of_ble_eq_true rfl, Nat.le_of_ble_eq_true rfl⟩) hS (fun r H3 locs hp hS => ?_)
    obtain ⟨rfl, hM9⟩ := hp
    have hM : MW G B0 o H H3 (enc ((s_take S on ot (nI nu)))) sp sv tx sa le th pl iw (nI lt) (nI on) (nI ot) (nI nu) di := hM.tr hM9
    refine lv_pop hx hb dX3_doOrder_104 rfl ?_
    refine lv_goto (tgt := 145) hx hb dX3_doOrder_105 (by decide) ?_
    rw [← hQ]
    exact b_vret CX hr hlk hS (Nat.le_of_ble_eq_true rfl) (Nat.le_of_ble_eq_true rfl) dX3_doOrder_145 ((by have e9 : o_do S lt on ot nu = (s_take S on ot (nI nu)) := (by unfold o_do; repeat (first | rw [if_pos (by omega)] | rw [if_neg (by omega)])); rw [e9]; exact hM))
  by_cases cs_4_115 : lt = 115
  · have h9 := h2 (by omega)
    refine lv_lookup (off := 64) (tgt := 68) hx hb dX3_doOrder_4 (by decide) (by rw [cs_4_115]; decide) (by decide) ?_
    refine lv_aload_n hx hb dX3_doOrder_68 rfl (lv_at hl 0 rfl) ?_
    refine lv_aload_n hx hb dX3_doOrder_69 rfl (lv_at hl 0 rfl) ?_
    refine gf_X3_151_8 CX hM.o0 rfl dX3_doOrder_70 ?_
    refine lv_aload_n hx hb dX3_doOrder_73 rfl (lv_at hl 0 rfl) ?_
    refine gf_X3_157_8 CX hM.o0 rfl dX3_doOrder_74 ?_
    refine lv_aload_n hx hb dX3_doOrder_77 rfl (lv_at hl 0 rfl) ?_
    refine gf_X3_138_8 CX hM.o0 rfl dX3_doOrder_78 ?_
    refine b_ci (cs_X3_105 (rest := []) CX hl.1 (m_X3_sells l (s_ := on) (b := ot) (n_ := nI nu) hM hW (by omega) (by omega)) rfl rfl rfl hM.o0 hS rfl ⟨rfl, rfl, Nat.le_of_ble_eq_true rfl, Nat.le_of_ble_eq_true rfl⟩ (Nat.le_of_ble_eq_true rfl) dX3_doOrder_81 ⟨Nat.le_of_ble_eq_true rfl, Nat.le_of_ble_eq_true rfl⟩) hS (fun r H4 locs hp hS => ?_)
    obtain ⟨rfl, hM9⟩ := hp
    have hM : MW G B0 o H H4 (enc ((s_sell S on ot (nI nu)))) sp sv tx sa le th pl iw (nI lt) (nI on) (nI ot) (nI nu) di := hM.tr hM9
    refine lv_pop hx hb dX3_doOrder_84 rfl ?_
    refine lv_goto (tgt := 145) hx hb dX3_doOrder_85 (by decide) ?_
    rw [← hQ]
    exact b_vret CX hr hlk hS (Nat.le_of_ble_eq_true rfl) (Nat.le_of_ble_eq_true rfl) dX3_doOrder_145 ((by have e9 : o_do S lt on ot nu = (s_sell S on ot (nI nu)) := (by unfold o_do; repeat (first | rw [if_pos (by omega)] | rw [if_neg (by omega)])); rw [e9]; exact hM))
  have h9 := h2 (by omega)
  have hpk := h3 (by omega)
  refine lv_lookup (off := 124) (tgt := 128) hx hb dX3_doOrder_4 (by decide) ((lv_osw (k := nI 98) (fun q => absurd ((nI_eq (by omega) (by decide)).mp q) (by omega)) rfl).trans ((lv_osw (k := nI 100) (fun q => absurd ((nI_eq (by omega) (by decide)).mp q) (by omega)) rfl).trans ((lv_osw (k := nI 114) (fun q => absurd ((nI_eq (by omega) (by decide)).mp q) (by omega)) rfl).trans ((lv_osw (k := nI 115) (fun q => absurd ((nI_eq (by omega) (by decide)).mp q) (by omega)) rfl).trans rfl)))) (by decide) ?_
  refine lv_aload_n hx hb dX3_doOrder_128 rfl (lv_at hl 0 rfl) ?_
  refine lv_aload_n hx hb dX3_doOrder_129 rfl (lv_at hl 0 rfl) ?_
  refine gf_X3_151_8 CX hM.o0 rfl dX3_doOrder_130 ?_
  refine lv_aload_n hx hb dX3_doOrder_133 rfl (lv_at hl 0 rfl) ?_
  refine gf_X3_157_8 CX hM.o0 rfl dX3_doOrder_134 ?_
  refine lv_aload_n hx hb dX3_doOrder_137 rfl (lv_at hl 0 rfl) ?_
  refine gf_X3_138_8 CX hM.o0 rfl dX3_doOrder_138 ?_
  refine b_ci (cs_X3_123 (rest := []) CX hl.1 (m_X3_collects l (s_ := on) (k := ot) (c_ := nu) hM hW (by omega) (by omega) (by omega) hpk) rfl rfl rfl hM.o0 hS rfl ⟨rfl, rfl, Nat.le_of_ble_eq_true rfl, Nat.le_of_ble_eq_true rfl⟩ (Nat.le_of_ble_eq_true rfl) dX3_doOrder_141 ⟨Nat.le_of_ble_eq_true rfl, Nat.le_of_ble_eq_true rfl⟩) hS (fun r H5 locs hp hS => ?_)
  obtain ⟨rfl, hM9⟩ := hp
  have hM : MW G B0 o H H5 (enc ((s_collect S on ot nu))) sp sv tx sa le th pl iw (nI lt) (nI on) (nI ot) (nI nu) di := hM.tr hM9
  refine lv_pop hx hb dX3_doOrder_144 rfl ?_
  rw [← hQ]
  exact b_vret CX hr hlk hS (Nat.le_of_ble_eq_true rfl) (Nat.le_of_ble_eq_true rfl) dX3_doOrder_145 ((by have e9 : o_do S lt on ot nu = (s_collect S on ot nu) := (by unfold o_do; repeat (first | rw [if_pos (by omega)] | rw [if_neg (by omega)])); rw [e9]; exact hM))
