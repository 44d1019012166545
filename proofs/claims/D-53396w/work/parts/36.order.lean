/-! orders, a row of them -/
set_option maxRecDepth 100000
theorem q_ord_h {t : Nat → Nat} {n p ha sep hc hi : Nat} :
    (if p + 1 < n ∧ 48 ≤ t (p + 1) ∧ t (p + 1) ≤ 48 + ha then
      if p + 1 + 1 < n ∧ t (p + 1 + 1) = sep then
        if p + 1 + 1 + 1 < n ∧ 48 ≤ t (p + 1 + 1 + 1) ∧ t (p + 1 + 1 + 1) ≤ 48 + hc then
          if p + 1 + 1 + 1 + 1 < n ∧ t (p + 1 + 1 + 1 + 1) = 42 then
            if 0 < (q_num t n hi (n - (p + 1 + 1 + 1 + 1 + 1)) (p + 1 + 1 + 1 + 1 + 1) 0).2 then
              ((q_num t n hi (n - (p + 1 + 1 + 1 + 1 + 1)) (p + 1 + 1 + 1 + 1 + 1) 0).1, some (t p, t (p + 1) - 48, t (p + 1 + 1 + 1) - 48, (q_num t n hi (n - (p + 1 + 1 + 1 + 1 + 1)) (p + 1 + 1 + 1 + 1 + 1) 0).2))
            else ((q_num t n hi (n - (p + 1 + 1 + 1 + 1 + 1)) (p + 1 + 1 + 1 + 1 + 1) 0).1, none)
          else (p + 1 + 1 + 1 + 1, none)
        else (p + 1 + 1 + 1, none)
      else (p + 1 + 1, none)
    else (p + 1, none)) = ((q_rest t n (p + 1) ha sep hc hi).1, (q_rest t n (p + 1) ha sep hc hi).2.map (fun y => (t p, y))) := by
  unfold q_rest
  by_cases c1 : p + 1 < n ∧ 48 ≤ t (p + 1) ∧ t (p + 1) ≤ 48 + ha
  · rw [if_pos c1, if_pos c1]
    by_cases c2 : p + 1 + 1 < n ∧ t (p + 1 + 1) = sep
    · rw [if_pos c2, if_pos c2]
      by_cases c3 : p + 1 + 1 + 1 < n ∧ 48 ≤ t (p + 1 + 1 + 1) ∧ t (p + 1 + 1 + 1) ≤ 48 + hc
      · rw [if_pos c3, if_pos c3]
        by_cases c4 : p + 1 + 1 + 1 + 1 < n ∧ t (p + 1 + 1 + 1 + 1) = 42
        · rw [if_pos c4, if_pos c4]
          by_cases c5 : (q_num t n hi (n - (p + 1 + 1 + 1 + 1 + 1)) (p + 1 + 1 + 1 + 1 + 1) 0).2 = 0
          · rw [if_neg (fun h => absurd c5 (Nat.ne_of_gt h)), if_pos c5]
            rfl
          · rw [if_pos (Nat.pos_of_ne_zero c5), if_neg c5]
            rfl
        · rw [if_neg c4, if_neg c4]
          rfl
      · rw [if_neg c3, if_neg c3]
        rfl
    · rw [if_neg c2, if_neg c2]
      rfl
  · rw [if_neg c1, if_neg c1]
    rfl
theorem q_ord_g {t : Nat → Nat} {n p : Nat} (h : p < n ∧ (t p = 100 ∨ t p = 115 ∨ t p = 114 ∨ t p = 98 ∨ t p = 99)) :
    q_ord t n p = ((q_rest t n (p + 1) (if t p = 100 then 7 else 5) (if t p = 100 then 62 else 58) (if t p = 100 then 5 else if t p = 99 then 2 else 7) (if t p = 100 ∨ t p = 99 then 50 else 500)).1, (q_rest t n (p + 1) (if t p = 100 then 7 else 5) (if t p = 100 then 62 else 58) (if t p = 100 then 5 else if t p = 99 then 2 else 7) (if t p = 100 ∨ t p = 99 then 50 else 500)).2.map (fun y => (t p, y))) := by
  unfold q_ord
  rw [if_pos h]
  exact q_ord_h
theorem q_ord_no {t : Nat → Nat} {n p : Nat} (h : ¬ (p < n ∧ (t p = 100 ∨ t p = 115 ∨ t p = 114 ∨ t p = 98 ∨ t p = 99))) : q_ord t n p = (p, none) := if_neg h
theorem q_ord_d {t : Nat → Nat} {n p : Nat} (h : p < n ∧ t p = 100) : q_ord t n p = ((q_rest t n (p + 1) 7 62 5 50).1, (q_rest t n (p + 1) 7 62 5 50).2.map (fun y => (t p, y))) := by
  rw [q_ord_g ⟨h.1, Or.inl h.2⟩]
  rw [if_pos h.2, if_pos h.2, if_pos h.2, if_pos (Or.inl h.2)]
theorem q_ord_c {t : Nat → Nat} {n p : Nat} (h : p < n ∧ t p = 99) : q_ord t n p = ((q_rest t n (p + 1) 5 58 2 50).1, (q_rest t n (p + 1) 5 58 2 50).2.map (fun y => (t p, y))) := by
  have h1 : ¬ t p = 100 := by omega
  rw [q_ord_g ⟨h.1, by omega⟩]
  rw [if_neg h1, if_neg h1, if_neg h1, if_pos h.2, if_pos (Or.inr h.2)]
theorem q_ord_s {t : Nat → Nat} {n p : Nat} (h : p < n ∧ (t p = 115 ∨ t p = 114 ∨ t p = 98)) : q_ord t n p = ((q_rest t n (p + 1) 5 58 7 500).1, (q_rest t n (p + 1) 5 58 7 500).2.map (fun y => (t p, y))) := by
  have h1 : ¬ t p = 100 := by omega
  have h2 : ¬ t p = 99 := by omega
  rw [q_ord_g ⟨h.1, by omega⟩]
  rw [if_neg h1, if_neg h1, if_neg h1, if_neg h2, if_neg (by omega)]
theorem q_ord_le {t : Nat → Nat} {n p : Nat} (hp : p ≤ n) : (q_ord t n p).1 ≤ n := by
  unfold q_ord
  (repeat' split) <;> (try dsimp only) <;> first | exact q_num_p _ _ _ (by omega) | omega
/-- a row so far: what is read, the place behind the last order -/
def q_st (t : Nat → Nat) (n f : Nat) (l : List (Nat × Nat × Nat × Nat)) (p : Nat) : List (Nat × Nat × Nat × Nat) × Nat × Nat :=
  if p < n ∧ t p = 59 then (l ++ (q_all t n f (p + 1)).1, (q_all t n f (p + 1)).2) else (l, p, 1)
theorem q_st_0 {t : Nat → Nat} {n f p p9 : Nat} {x : Nat × Nat × Nat × Nat} (h : q_ord t n p = (p9, some x)) : q_all t n (f + 1) p = q_st t n f [x] p9 := by
  unfold q_st
  by_cases c : p9 < n ∧ t p9 = 59
  · rw [if_pos c, q_all_s h c]
    rfl
  · rw [if_neg c, q_all_e h c]
theorem q_st_s {t : Nat → Nat} {n f p p9 : Nat} {l : List (Nat × Nat × Nat × Nat)} {x : Nat × Nat × Nat × Nat} (h1 : p < n ∧ t p = 59) (h : q_ord t n (p + 1) = (p9, some x)) : q_st t n (f + 1) l p = q_st t n f (l ++ [x]) p9 := by
  unfold q_st
  rw [if_pos h1, q_st_0 h]
  unfold q_st
  by_cases c : p9 < n ∧ t p9 = 59
  · rw [if_pos c, if_pos c]
    simp
  · rw [if_neg c, if_neg c]
theorem q_st_n {t : Nat → Nat} {n f p p9 : Nat} {l : List (Nat × Nat × Nat × Nat)} (h1 : p < n ∧ t p = 59) (h : q_ord t n (p + 1) = (p9, none)) : q_st t n (f + 1) l p = (l, p9, 0) := by
  unfold q_st
  rw [if_pos h1, q_all_n h]
  simp
theorem q_st_e {t : Nat → Nat} {n f p : Nat} {l : List (Nat × Nat × Nat × Nat)} (h1 : ¬ (p < n ∧ t p = 59)) : q_st t n f l p = (l, p, 1) := if_neg h1
theorem q_pair {α β : Type} {x : α × β} {a : α} {b : β} (h1 : x.1 = a) (h2 : x.2 = b) : x = (a, b) := by cases x; simp_all
theorem cs_X20_67 {p : Program} {l : Launch} {e : Env} {R : Room} {s : State} {m : MethodId} {args : Array Value} {below : List Frame} {meth : Method} {c : Code} {H : Heap} {locs : List Loc} {cells slots : Nat} {cc : ByteArray} {pc nL a : Nat} {ls : Array Slot} {rest : List Value} {G : b_G} {B0 : Nat} (CX : b_Cx p s m args c cc nL RX20 G B0) (hls : ls.size = nL) {rm : Room} {mc ms : Nat} {As st0 : List Value} {Qc : Array Value → State → Outcome → State → Prop} (hM : Met l yX20_rest (ws_ yX20_rest cX20_rest 9 (Option.some Jvm.ClassFile.FieldType.boolean)) rm (b_Pc G B0 H (.ref a :: As)) Qc mc ms (b_A B0)) (hn : As.length = 5) {fs : List Value} {ci : Nat} {qc : vw_C} (hc : b_cl[ci]? = some qc) (hq : qc.1 = RX20) (hP : b_at G a (.inr (ci, fs)) H) (hS : va_S (b_A B0) s.heap H locs) (hst : st0 = As.reverse ++ .ref a :: rest) (hr : rm.cells = mc ∧ rm.slots = ms ∧ rm.frames + 1 ≤ R.frames ∧ 8 + (9 + 11) + rm.locals ≤ R.locals) (hw : (rest.map fun v => v.category).sum ≤ 8) (hdg : decode cc pc = .ok (.invokevirtual 67, 3)) (hf : cells + mc ≤ R.cells ∧ slots + ms ≤ R.slots) : va_Run p l e R s m args below meth c H locs cells slots mc ms (F0 m pc ls st0) rest (Qc (Value.ref a :: As).toArray) (b_A B0) := va_runV CX.fix hM (cwV 5 CX.ts (lw_V q685 q687 qs4 q122 q688) rfl hr.1 hr.2.1 (by decide +kernel) ⟨hr.2.2.1, hr.2.2.2⟩) ⟨b_blind G B0 H _, by have h9 := b_recv CX.K hc hP; rw [hq] at h9; exact h9, b_pre _ CX.K hS⟩ rfl hn hls hst (lv_room hw) hdg hf
set_option maxHeartbeats 2000000 in
set_option maxRecDepth 100000 in
theorem m_X20_order (l : Launch) {G : b_G} {B0 : Nat} {H : Heap} {τ : b_T} {t : Nat → Nat} {lo9 : List (Nat × Nat × Nat × Nat)} {rr : Nat} {ro : Nat} {pp : Nat} {a : Nat} {f0 : Nat} {asv : Nat} {atx : Nat} {atk : Nat} {hs : Int64} {va : Nat} {ml : Int32} {tn : Nat} {bt : Nat → Int32} (hc_rd : b_tt G B0 τ H rr 110 (.inr (6, [.ref ro, .int (nI pp), .ref a]))) (hc_X : b_tt G B0 τ H a 0 (.inr (0, [.ref f0, .ref asv, .ref atx, .ref atk, .long hs]))) (hc_tx : b_tt G B0 τ H atx 3 (.inr (3, [.ref va, .int (nI 0), .int ml, .int (nI tn)]))) (hc_tb : b_tt G B0 τ H va 4 (.inl (G.2.1 1, 60, .inl bt))) (hbt : ∀ j, j < tn → bt j = nI (t j)) (ht : ∀ j, t j < 128) (htn : tn ≤ 60) (hpl : pp ≤ tn) (hRO : RO G B0 τ H ro lo9) (hll : lo9.length < 9) : Met l yX20_order (ws_ yX20_order cX20_order 2 (Option.some Jvm.ClassFile.FieldType.boolean)) ({ frames := 7, cells := 2, slots := 14, locals := 159 } : Room) (b_Pc G B0 H [.ref rr]) (b_Qi B0 (fun r H1 => ∃ τ1 : b_T, b_Ag τ τ1 H ∧ b_Fr τ (fun t => 110 ≤ t ∧ t < 200) H H1 ∧ b_tt G B0 τ1 H1 rr 110 (.inr (6, [.ref ro, .int (nI (q_ord t tn pp).1), .ref a])) ∧ ((∃ x, (q_ord t tn pp).2 = some x ∧ r = nI 1 ∧ RO G B0 τ1 H1 ro (lo9 ++ [x])) ∨ ((q_ord t tn pp).2 = none ∧ r = nI 0)))) 2 14 (b_A B0) := by
  refine b_of (by decide) (Nat.le_of_ble_eq_true rfl) ?_
  intro p e s m below meth c CX hr hlk hnm hS ls hl
  have CX : b_Cx p s m _ c cX20_order 2 RX20 G B0 := CX
  have hx := CX.hx
  have hb := CX.hb
  have hl : lv_has ls 2 [(0, .ref rr)] := hl
  generalize hQ : MQ below (b_Qi B0 (fun r H1 => ∃ τ1 : b_T, b_Ag τ τ1 H ∧ b_Fr τ (fun t => 110 ≤ t ∧ t < 200) H H1 ∧ b_tt G B0 τ1 H1 rr 110 (.inr (6, [.ref ro, .int (nI (q_ord t tn pp).1), .ref a])) ∧ ((∃ x, (q_ord t tn pp).2 = some x ∧ r = nI 1 ∧ RO G B0 τ1 H1 ro (lo9 ++ [x])) ∨ ((q_ord t tn pp).2 = none ∧ r = nI 0)))) ([.ref rr] : List Value).toArray s 2 14 (b_A B0) = Q
  have hF : b_Fr τ (fun t => 110 ≤ t ∧ t < 200) H H := b_Fr.rf
  have hA : b_Ag τ τ H := b_Ag.rf
  have hq8 := q_nx_lt ht (n := tn) (p := pp)
  refine lv_aload_n hx hb dX20_order_0 rfl (lv_at hl 0 rfl) ?_
  refine b_ci0 (cs_X20_40 (rest := []) CX hl.1 (m_X20_next l (rr := rr) (ro := ro) (pp := pp) (a := a) (f0 := f0) (asv := asv) (atx := atx) (va := va) (bt := bt) (ml := ml) (tn := tn) (atk := atk) (hs := hs) hc_rd hc_X hc_tx hc_tb hbt ht (by omega) (by omega)) rfl rfl rfl hc_rd.at hS rfl ⟨rfl, rfl, Nat.le_of_ble_eq_true rfl, Nat.le_of_ble_eq_true rfl⟩ (Nat.le_of_ble_eq_true rfl) dX20_order_1 ⟨Nat.le_of_ble_eq_true rfl, Nat.le_of_ble_eq_true rfl⟩) hS (fun locs hS => ?_)
  refine lv_istore_n (lv' := [(1, .int (nI (q_nx t tn pp))), (0, .ref rr)]) hx hb dX20_order_4 rfl hl (Nat.le_of_ble_eq_true rfl) rfl (fun ls hl => ?_)
  refine lv_aload_n hx hb dX20_order_5 rfl (lv_at hl 1 rfl) ?_
  refine lv_bipush (v := nI 100) hx hb dX20_order_6 rfl ?_
  refine b_ci (cs_X20_51 (rest := []) CX hl.1 (m_X20_takes l (rr := rr) (ro := ro) (pp := pp) (a := a) (f0 := f0) (asv := asv) (atx := atx) (va := va) (bt := bt) (ml := ml) (tn := tn) (atk := atk) (hs := hs) (ch := 100) hc_rd hc_X hc_tx hc_tb hbt ht (by omega) (by omega) (by omega) (by omega)) rfl rfl rfl hc_rd.at hS rfl ⟨rfl, rfl, Nat.le_of_ble_eq_true rfl, Nat.le_of_ble_eq_true rfl⟩ (Nat.le_of_ble_eq_true rfl) dX20_order_8 ⟨Nat.le_of_ble_eq_true rfl, Nat.le_of_ble_eq_true rfl⟩) hS (fun r H2 locs hp hS => ?_)
  obtain ⟨rfl, hF9, hx0⟩ := hp
  have hc_X := hc_X.fr hF9 (show ¬ (0 = 110) by omega)
  have hc_tx := hc_tx.fr hF9 (show ¬ (3 = 110) by omega)
  have hc_tb := hc_tb.fr hF9 (show ¬ (4 = 110) by omega)
  have hRO := hRO.fr hF9 (fun i9 hi9 => show ¬ (i9 = 110) by omega)
  have hz9 := hF.1
  have hF0 := hF.tr hA hF9 (fun q9 hq9 x9 => by have x8 : τ q9 = 110 := x9; show 110 ≤ τ q9 ∧ τ q9 < 200; omega)
  have hF := hF0
  have hc_rd : b_tt G B0 τ H2 rr 110 (.inr (6, [.ref ro, .int (nI ((if pp < tn ∧ t pp = 100 then pp + 1 else pp))), .ref a])) := hx0
  by_cases cq_8 : pp < tn ∧ t pp = 100
  · refine b_top (x := bI (pp < tn ∧ t pp = 100)) (y := nI 1) (bI_t cq_8) ?_
    have hc_rd : b_tt G B0 τ H2 rr 110 (.inr (6, [.ref ro, .int (nI (pp + 1)), .ref a])) := hc_rd.cg (by rw [if_pos cq_8] <;> rfl)
    refine lv_if_eq (tgt := 27) hx hb dX20_order_11 (by decide) (fun c_11 => ?_) (fun c_11 => ?_)
    · exact absurd c_11 (by decide)
    · refine lv_aload_n hx hb dX20_order_14 rfl (lv_at hl 1 rfl) ?_
      refine lv_iload_n hx hb dX20_order_15 rfl (lv_at hl 0 rfl) ?_
      refine lv_bipush (v := nI 7) hx hb dX20_order_16 rfl ?_
      refine lv_bipush (v := nI 62) hx hb dX20_order_18 rfl ?_
      refine lv_iconst (v := nI 5) hx hb dX20_order_20 rfl ?_
      refine lv_bipush (v := nI 50) hx hb dX20_order_21 rfl ?_
      refine b_ci (cs_X20_67 (rest := []) CX hl.1 (m_X20_rest l (rr := rr) (ro := ro) (pp := pp + 1) (a := a) (f0 := f0) (asv := asv) (atx := atx) (va := va) (bt := bt) (ml := ml) (tn := tn) (atk := atk) (hs := hs) (sg := q_nx t tn pp) (ha := 7) (sep := 62) (hcc := 5) (hi := 50) hc_rd hc_X hc_tx hc_tb hbt ht (by omega) (by omega) hRO (by first | omega | (simp only [List.length_nil]; decide)) (by omega) (by omega) (by omega) (by omega) (by omega)) rfl rfl rfl hc_rd.at hS rfl ⟨rfl, rfl, Nat.le_of_ble_eq_true rfl, Nat.le_of_ble_eq_true rfl⟩ (Nat.le_of_ble_eq_true rfl) dX20_order_23 ⟨Nat.le_of_ble_eq_true rfl, Nat.le_of_ble_eq_true rfl⟩) hS (fun r H3 locs hp hS => ?_)
      obtain ⟨τ3, hA9, hF9, hrd, hor⟩ := hp
      have hc_X := hc_X.ca hF9 hA9 (show ¬ (110 ≤ 0 ∧ 0 < 200) by omega)
      have hc_tx := hc_tx.ca hF9 hA9 (show ¬ (110 ≤ 3 ∧ 3 < 200) by omega)
      have hc_tb := hc_tb.ca hF9 hA9 (show ¬ (110 ≤ 4 ∧ 4 < 200) by omega)
      have hF0 := hF.tr hA hF9 (fun q9 hq9 x9 => by have x8 : 110 ≤ τ q9 ∧ τ q9 < 200 := x9; show 110 ≤ τ q9 ∧ τ q9 < 200; omega)
      have hA := hA.tr hA9 hF.1
      have hF := hF0
      have hc_rd : b_tt G B0 τ3 H3 rr 110 (.inr (6, [.ref ro, .int (nI ((q_rest t tn (pp + 1) 7 62 5 50).1)), .ref a])) := hrd
      rcases hor with ⟨x3, hq_23, rfl, hRO⟩ | ⟨hq_23, rfl⟩
      · have hRO : RO G B0 τ3 H3 ro ((lo9 ++ [(q_nx t tn pp, x3)])) := hRO
        have hqo := q_ord_d (t := t) (n := tn) (p := pp) (by omega)
        rw [← hQ]
        exact b_zret CX hr hlk hS (Nat.le_of_ble_eq_true rfl) (Nat.le_of_ble_eq_true rfl) rfl dX20_order_26 (⟨_, hA, hF, (by rw [hqo]; exact hc_rd), Or.inl ⟨(t pp, x3), (by rw [hqo, hq_23]; rfl), rfl, (by rw [q_nx_v (by omega)] at hRO; exact hRO)⟩⟩)
      · have hqo := q_ord_d (t := t) (n := tn) (p := pp) (by omega)
        rw [← hQ]
        exact b_zret CX hr hlk hS (Nat.le_of_ble_eq_true rfl) (Nat.le_of_ble_eq_true rfl) rfl dX20_order_26 (⟨_, hA, hF, (by rw [hqo]; exact hc_rd), Or.inr ⟨(by rw [hqo, hq_23]; rfl), rfl⟩⟩)
  · refine b_top (x := bI (pp < tn ∧ t pp = 100)) (y := nI 0) (bI_f cq_8) ?_
    have hc_rd : b_tt G B0 τ H2 rr 110 (.inr (6, [.ref ro, .int (nI pp), .ref a])) := hc_rd.cg (by rw [if_neg cq_8] <;> rfl)
    refine lv_if_eq (tgt := 27) hx hb dX20_order_11 (by decide) (fun c_11 => ?_) (fun c_11 => ?_)
    · refine lv_aload_n hx hb dX20_order_27 rfl (lv_at hl 1 rfl) ?_
      refine lv_bipush (v := nI 99) hx hb dX20_order_28 rfl ?_
      refine b_ci (cs_X20_51 (rest := []) CX hl.1 (m_X20_takes l (rr := rr) (ro := ro) (pp := pp) (a := a) (f0 := f0) (asv := asv) (atx := atx) (va := va) (bt := bt) (ml := ml) (tn := tn) (atk := atk) (hs := hs) (ch := 99) hc_rd hc_X hc_tx hc_tb hbt ht (by omega) (by omega) (by omega) (by omega)) rfl rfl rfl hc_rd.at hS rfl ⟨rfl, rfl, Nat.le_of_ble_eq_true rfl, Nat.le_of_ble_eq_true rfl⟩ (Nat.le_of_ble_eq_true rfl) dX20_order_30 ⟨Nat.le_of_ble_eq_true rfl, Nat.le_of_ble_eq_true rfl⟩) hS (fun r H4 locs hp hS => ?_)
      obtain ⟨rfl, hF9, hx0⟩ := hp
      have hc_X := hc_X.fr hF9 (show ¬ (0 = 110) by omega)
      have hc_tx := hc_tx.fr hF9 (show ¬ (3 = 110) by omega)
      have hc_tb := hc_tb.fr hF9 (show ¬ (4 = 110) by omega)
      have hRO := hRO.fr hF9 (fun i9 hi9 => show ¬ (i9 = 110) by omega)
      have hz9 := hF.1
      have hF0 := hF.tr hA hF9 (fun q9 hq9 x9 => by have x8 : τ q9 = 110 := x9; show 110 ≤ τ q9 ∧ τ q9 < 200; omega)
      have hF := hF0
      have hc_rd : b_tt G B0 τ H4 rr 110 (.inr (6, [.ref ro, .int (nI ((if pp < tn ∧ t pp = 99 then pp + 1 else pp))), .ref a])) := hx0
      by_cases cq_30 : pp < tn ∧ t pp = 99
      · refine b_top (x := bI (pp < tn ∧ t pp = 99)) (y := nI 1) (bI_t cq_30) ?_
        have hc_rd : b_tt G B0 τ H4 rr 110 (.inr (6, [.ref ro, .int (nI (pp + 1)), .ref a])) := hc_rd.cg (by rw [if_pos cq_30] <;> rfl)
        refine lv_if_eq (tgt := 48) hx hb dX20_order_33 (by decide) (fun c_33 => ?_) (fun c_33 => ?_)
        · exact absurd c_33 (by decide)
        · refine lv_aload_n hx hb dX20_order_36 rfl (lv_at hl 1 rfl) ?_
          refine lv_iload_n hx hb dX20_order_37 rfl (lv_at hl 0 rfl) ?_
          refine lv_iconst (v := nI 5) hx hb dX20_order_38 rfl ?_
          refine lv_bipush (v := nI 58) hx hb dX20_order_39 rfl ?_
          refine lv_iconst (v := nI 2) hx hb dX20_order_41 rfl ?_
          refine lv_bipush (v := nI 50) hx hb dX20_order_42 rfl ?_
          refine b_ci (cs_X20_67 (rest := []) CX hl.1 (m_X20_rest l (rr := rr) (ro := ro) (pp := pp + 1) (a := a) (f0 := f0) (asv := asv) (atx := atx) (va := va) (bt := bt) (ml := ml) (tn := tn) (atk := atk) (hs := hs) (sg := q_nx t tn pp) (ha := 5) (sep := 58) (hcc := 2) (hi := 50) hc_rd hc_X hc_tx hc_tb hbt ht (by omega) (by omega) hRO (by first | omega | (simp only [List.length_nil]; decide)) (by omega) (by omega) (by omega) (by omega) (by omega)) rfl rfl rfl hc_rd.at hS rfl ⟨rfl, rfl, Nat.le_of_ble_eq_true rfl, Nat.le_of_ble_eq_true rfl⟩ (Nat.le_of_ble_eq_true rfl) dX20_order_44 ⟨Nat.le_of_ble_eq_true rfl, Nat.le_of_ble_eq_true rfl⟩) hS (fun r H5 locs hp hS => ?_)
          obtain ⟨τ5, hA9, hF9, hrd, hor⟩ := hp
          have hc_X := hc_X.ca hF9 hA9 (show ¬ (110 ≤ 0 ∧ 0 < 200) by omega)
          have hc_tx := hc_tx.ca hF9 hA9 (show ¬ (110 ≤ 3 ∧ 3 < 200) by omega)
          have hc_tb := hc_tb.ca hF9 hA9 (show ¬ (110 ≤ 4 ∧ 4 < 200) by omega)
          have hF0 := hF.tr hA hF9 (fun q9 hq9 x9 => by have x8 : 110 ≤ τ q9 ∧ τ q9 < 200 := x9; show 110 ≤ τ q9 ∧ τ q9 < 200; omega)
          have hA := hA.tr hA9 hF.1
          have hF := hF0
          have hc_rd : b_tt G B0 τ5 H5 rr 110 (.inr (6, [.ref ro, .int (nI ((q_rest t tn (pp + 1) 5 58 2 50).1)), .ref a])) := hrd
          rcases hor with ⟨x5, hq_44, rfl, hRO⟩ | ⟨hq_44, rfl⟩
          · have hRO : RO G B0 τ5 H5 ro ((lo9 ++ [(q_nx t tn pp, x5)])) := hRO
            have hqo := q_ord_c (t := t) (n := tn) (p := pp) (by omega)
            rw [← hQ]
            exact b_zret CX hr hlk hS (Nat.le_of_ble_eq_true rfl) (Nat.le_of_ble_eq_true rfl) rfl dX20_order_47 (⟨_, hA, hF, (by rw [hqo]; exact hc_rd), Or.inl ⟨(t pp, x5), (by rw [hqo, hq_44]; rfl), rfl, (by rw [q_nx_v (by omega)] at hRO; exact hRO)⟩⟩)
          · have hqo := q_ord_c (t := t) (n := tn) (p := pp) (by omega)
            rw [← hQ]
            exact b_zret CX hr hlk hS (Nat.le_of_ble_eq_true rfl) (Nat.le_of_ble_eq_true rfl) rfl dX20_order_47 (⟨_, hA, hF, (by rw [hqo]; exact hc_rd), Or.inr ⟨(by rw [hqo, hq_44]; rfl), rfl⟩⟩)
      · refine b_top (x := bI (pp < tn ∧ t pp = 99)) (y := nI 0) (bI_f cq_30) ?_
        have hc_rd : b_tt G B0 τ H4 rr 110 (.inr (6, [.ref ro, .int (nI pp), .ref a])) := hc_rd.cg (by rw [if_neg cq_30] <;> rfl)
        refine lv_if_eq (tgt := 48) hx hb dX20_order_33 (by decide) (fun c_33 => ?_) (fun c_33 => ?_)
        · refine lv_aload_n hx hb dX20_order_48 rfl (lv_at hl 1 rfl) ?_
          refine lv_bipush (v := nI 115) hx hb dX20_order_49 rfl ?_
          refine b_ci (cs_X20_51 (rest := []) CX hl.1 (m_X20_takes l (rr := rr) (ro := ro) (pp := pp) (a := a) (f0 := f0) (asv := asv) (atx := atx) (va := va) (bt := bt) (ml := ml) (tn := tn) (atk := atk) (hs := hs) (ch := 115) hc_rd hc_X hc_tx hc_tb hbt ht (by omega) (by omega) (by omega) (by omega)) rfl rfl rfl hc_rd.at hS rfl ⟨rfl, rfl, Nat.le_of_ble_eq_true rfl, Nat.le_of_ble_eq_true rfl⟩ (Nat.le_of_ble_eq_true rfl) dX20_order_51 ⟨Nat.le_of_ble_eq_true rfl, Nat.le_of_ble_eq_true rfl⟩) hS (fun r H6 locs hp hS => ?_)
          obtain ⟨rfl, hF9, hx0⟩ := hp
          have hc_X := hc_X.fr hF9 (show ¬ (0 = 110) by omega)
          have hc_tx := hc_tx.fr hF9 (show ¬ (3 = 110) by omega)
          have hc_tb := hc_tb.fr hF9 (show ¬ (4 = 110) by omega)
          have hRO := hRO.fr hF9 (fun i9 hi9 => show ¬ (i9 = 110) by omega)
          have hz9 := hF.1
          have hF0 := hF.tr hA hF9 (fun q9 hq9 x9 => by have x8 : τ q9 = 110 := x9; show 110 ≤ τ q9 ∧ τ q9 < 200; omega)
          have hF := hF0
          have hc_rd : b_tt G B0 τ H6 rr 110 (.inr (6, [.ref ro, .int (nI ((if pp < tn ∧ t pp = 115 then pp + 1 else pp))), .ref a])) := hx0
          by_cases cq_51 : pp < tn ∧ t pp = 115
          · refine b_top (x := bI (pp < tn ∧ t pp = 115)) (y := nI 1) (bI_t cq_51) ?_
            have hc_rd : b_tt G B0 τ H6 rr 110 (.inr (6, [.ref ro, .int (nI (pp + 1)), .ref a])) := hc_rd.cg (by rw [if_pos cq_51] <;> rfl)
            refine lv_if_ne (tgt := 75) hx hb dX20_order_54 (by decide) (fun c_54 => ?_) (fun c_54 => ?_)
            · refine lv_aload_n hx hb dX20_order_75 rfl (lv_at hl 1 rfl) ?_
              refine lv_iload_n hx hb dX20_order_76 rfl (lv_at hl 0 rfl) ?_
              refine lv_iconst (v := nI 5) hx hb dX20_order_77 rfl ?_
              refine lv_bipush (v := nI 58) hx hb dX20_order_78 rfl ?_
              refine lv_bipush (v := nI 7) hx hb dX20_order_80 rfl ?_
              refine lv_sipush (v := nI 500) hx hb dX20_order_82 rfl ?_
              refine b_ci (cs_X20_67 (rest := []) CX hl.1 (m_X20_rest l (rr := rr) (ro := ro) (pp := pp + 1) (a := a) (f0 := f0) (asv := asv) (atx := atx) (va := va) (bt := bt) (ml := ml) (tn := tn) (atk := atk) (hs := hs) (sg := q_nx t tn pp) (ha := 5) (sep := 58) (hcc := 7) (hi := 500) hc_rd hc_X hc_tx hc_tb hbt ht (by omega) (by omega) hRO (by first | omega | (simp only [List.length_nil]; decide)) (by omega) (by omega) (by omega) (by omega) (by omega)) rfl rfl rfl hc_rd.at hS rfl ⟨rfl, rfl, Nat.le_of_ble_eq_true rfl, Nat.le_of_ble_eq_true rfl⟩ (Nat.le_of_ble_eq_true rfl) dX20_order_85 ⟨Nat.le_of_ble_eq_true rfl, Nat.le_of_ble_eq_true rfl⟩) hS (fun r H7 locs hp hS => ?_)
              obtain ⟨τ7, hA9, hF9, hrd, hor⟩ := hp
              have hc_X := hc_X.ca hF9 hA9 (show ¬ (110 ≤ 0 ∧ 0 < 200) by omega)
              have hc_tx := hc_tx.ca hF9 hA9 (show ¬ (110 ≤ 3 ∧ 3 < 200) by omega)
              have hc_tb := hc_tb.ca hF9 hA9 (show ¬ (110 ≤ 4 ∧ 4 < 200) by omega)
              have hF0 := hF.tr hA hF9 (fun q9 hq9 x9 => by have x8 : 110 ≤ τ q9 ∧ τ q9 < 200 := x9; show 110 ≤ τ q9 ∧ τ q9 < 200; omega)
              have hA := hA.tr hA9 hF.1
              have hF := hF0
              have hc_rd : b_tt G B0 τ7 H7 rr 110 (.inr (6, [.ref ro, .int (nI ((q_rest t tn (pp + 1) 5 58 7 500).1)), .ref a])) := hrd
              rcases hor with ⟨x7, hq_85, rfl, hRO⟩ | ⟨hq_85, rfl⟩
              · have hRO : RO G B0 τ7 H7 ro ((lo9 ++ [(q_nx t tn pp, x7)])) := hRO
                refine lv_if_eq (tgt := 95) hx hb dX20_order_88 (by decide) (fun c_88 => ?_) (fun c_88 => ?_)
                · exact absurd c_88 (by decide)
                · refine lv_iconst (v := nI 1) hx hb dX20_order_91 rfl ?_
                  refine lv_goto (tgt := 96) hx hb dX20_order_92 (by decide) ?_
                  have hqo := q_ord_s (t := t) (n := tn) (p := pp) (by omega)
                  rw [← hQ]
                  exact b_zret CX hr hlk hS (Nat.le_of_ble_eq_true rfl) (Nat.le_of_ble_eq_true rfl) rfl dX20_order_96 (⟨_, hA, hF, (by rw [hqo]; exact hc_rd), Or.inl ⟨(t pp, x7), (by rw [hqo, hq_85]; rfl), rfl, (by rw [q_nx_v (by omega)] at hRO; exact hRO)⟩⟩)
              · refine lv_if_eq (tgt := 95) hx hb dX20_order_88 (by decide) (fun c_88 => ?_) (fun c_88 => ?_)
                · refine lv_iconst (v := nI 0) hx hb dX20_order_95 rfl ?_
                  have hqo := q_ord_s (t := t) (n := tn) (p := pp) (by omega)
                  rw [← hQ]
                  exact b_zret CX hr hlk hS (Nat.le_of_ble_eq_true rfl) (Nat.le_of_ble_eq_true rfl) rfl dX20_order_96 (⟨_, hA, hF, (by rw [hqo]; exact hc_rd), Or.inr ⟨(by rw [hqo, hq_85]; rfl), rfl⟩⟩)
                · exact absurd c_88 (by decide)
            · exact absurd c_54 (by decide)
          · refine b_top (x := bI (pp < tn ∧ t pp = 115)) (y := nI 0) (bI_f cq_51) ?_
            have hc_rd : b_tt G B0 τ H6 rr 110 (.inr (6, [.ref ro, .int (nI pp), .ref a])) := hc_rd.cg (by rw [if_neg cq_51] <;> rfl)
            refine lv_if_ne (tgt := 75) hx hb dX20_order_54 (by decide) (fun c_54 => ?_) (fun c_54 => ?_)
            · exact absurd c_54 (by decide)
            · refine lv_aload_n hx hb dX20_order_57 rfl (lv_at hl 1 rfl) ?_
              refine lv_bipush (v := nI 114) hx hb dX20_order_58 rfl ?_
              refine b_ci (cs_X20_51 (rest := []) CX hl.1 (m_X20_takes l (rr := rr) (ro := ro) (pp := pp) (a := a) (f0 := f0) (asv := asv) (atx := atx) (va := va) (bt := bt) (ml := ml) (tn := tn) (atk := atk) (hs := hs) (ch := 114) hc_rd hc_X hc_tx hc_tb hbt ht (by omega) (by omega) (by omega) (by omega)) rfl rfl rfl hc_rd.at hS rfl ⟨rfl, rfl, Nat.le_of_ble_eq_true rfl, Nat.le_of_ble_eq_true rfl⟩ (Nat.le_of_ble_eq_true rfl) dX20_order_60 ⟨Nat.le_of_ble_eq_true rfl, Nat.le_of_ble_eq_true rfl⟩) hS (fun r H8 locs hp hS => ?_)
              obtain ⟨rfl, hF9, hx0⟩ := hp
              have hc_X := hc_X.fr hF9 (show ¬ (0 = 110) by omega)
              have hc_tx := hc_tx.fr hF9 (show ¬ (3 = 110) by omega)
              have hc_tb := hc_tb.fr hF9 (show ¬ (4 = 110) by omega)
              have hRO := hRO.fr hF9 (fun i9 hi9 => show ¬ (i9 = 110) by omega)
              have hz9 := hF.1
              have hF0 := hF.tr hA hF9 (fun q9 hq9 x9 => by have x8 : τ q9 = 110 := x9; show 110 ≤ τ q9 ∧ τ q9 < 200; omega)
              have hF := hF0
              have hc_rd : b_tt G B0 τ H8 rr 110 (.inr (6, [.ref ro, .int (nI ((if pp < tn ∧ t pp = 114 then pp + 1 else pp))), .ref a])) := hx0
              by_cases cq_60 : pp < tn ∧ t pp = 114
              · refine b_top (x := bI (pp < tn ∧ t pp = 114)) (y := nI 1) (bI_t cq_60) ?_
                have hc_rd : b_tt G B0 τ H8 rr 110 (.inr (6, [.ref ro, .int (nI (pp + 1)), .ref a])) := hc_rd.cg (by rw [if_pos cq_60] <;> rfl)
                refine lv_if_ne (tgt := 75) hx hb dX20_order_63 (by decide) (fun c_63 => ?_) (fun c_63 => ?_)
                · refine lv_aload_n hx hb dX20_order_75 rfl (lv_at hl 1 rfl) ?_
                  refine lv_iload_n hx hb dX20_order_76 rfl (lv_at hl 0 rfl) ?_
                  refine lv_iconst (v := nI 5) hx hb dX20_order_77 rfl ?_
                  refine lv_bipush (v := nI 58) hx hb dX20_order_78 rfl ?_
                  refine lv_bipush (v := nI 7) hx hb dX20_order_80 rfl ?_
                  refine lv_sipush (v := nI 500) hx hb dX20_order_82 rfl ?_
                  refine b_ci (cs_X20_67 (rest := []) CX hl.1 (m_X20_rest l (rr := rr) (ro := ro) (pp := pp + 1) (a := a) (f0 := f0) (asv := asv) (atx := atx) (va := va) (bt := bt) (ml := ml) (tn := tn) (atk := atk) (hs := hs) (sg := q_nx t tn pp) (ha := 5) (sep := 58) (hcc := 7) (hi := 500) hc_rd hc_X hc_tx hc_tb hbt ht (by omega) (by omega) hRO (by first | omega | (simp only [List.length_nil]; decide)) (by omega) (by omega) (by omega) (by omega) (by omega)) rfl rfl rfl hc_rd.at hS rfl ⟨rfl, rfl, Nat.le_of_ble_eq_true rfl, Nat.le_of_ble_eq_true rfl⟩ (Nat.le_of_ble_eq_true rfl) dX20_order_85 ⟨Nat.le_of_ble_eq_true rfl, Nat.le_of_ble_eq_true rfl⟩) hS (fun r H9 locs hp hS => ?_)
                  obtain ⟨τ9, hA9, hF9, hrd, hor⟩ := hp
                  have hc_X := hc_X.ca hF9 hA9 (show ¬ (110 ≤ 0 ∧ 0 < 200) by omega)
                  have hc_tx := hc_tx.ca hF9 hA9 (show ¬ (110 ≤ 3 ∧ 3 < 200) by omega)
                  have hc_tb := hc_tb.ca hF9 hA9 (show ¬ (110 ≤ 4 ∧ 4 < 200) by omega)
                  have hF0 := hF.tr hA hF9 (fun q9 hq9 x9 => by have x8 : 110 ≤ τ q9 ∧ τ q9 < 200 := x9; show 110 ≤ τ q9 ∧ τ q9 < 200; omega)
                  have hA := hA.tr hA9 hF.1
                  have hF := hF0
                  have hc_rd : b_tt G B0 τ9 H9 rr 110 (.inr (6, [.ref ro, .int (nI ((q_rest t tn (pp + 1) 5 58 7 500).1)), .ref a])) := hrd
                  rcases hor with ⟨x9, hq_85, rfl, hRO⟩ | ⟨hq_85, rfl⟩
                  · have hRO : RO G B0 τ9 H9 ro ((lo9 ++ [(q_nx t tn pp, x9)])) := hRO
                    refine lv_if_eq (tgt := 95) hx hb dX20_order_88 (by decide) (fun c_88 => ?_) (fun c_88 => ?_)
                    · exact absurd c_88 (by decide)
                    · refine lv_iconst (v := nI 1) hx hb dX20_order_91 rfl ?_
                      refine lv_goto (tgt := 96) hx hb dX20_order_92 (by decide) ?_
                      have hqo := q_ord_s (t := t) (n := tn) (p := pp) (by omega)
                      rw [← hQ]
                      exact b_zret CX hr hlk hS (Nat.le_of_ble_eq_true rfl) (Nat.le_of_ble_eq_true rfl) rfl dX20_order_96 (⟨_, hA, hF, (by rw [hqo]; exact hc_rd), Or.inl ⟨(t pp, x9), (by rw [hqo, hq_85]; rfl), rfl, (by rw [q_nx_v (by omega)] at hRO; exact hRO)⟩⟩)
                  · refine lv_if_eq (tgt := 95) hx hb dX20_order_88 (by decide) (fun c_88 => ?_) (fun c_88 => ?_)
                    · refine lv_iconst (v := nI 0) hx hb dX20_order_95 rfl ?_
                      have hqo := q_ord_s (t := t) (n := tn) (p := pp) (by omega)
                      rw [← hQ]
                      exact b_zret CX hr hlk hS (Nat.le_of_ble_eq_true rfl) (Nat.le_of_ble_eq_true rfl) rfl dX20_order_96 (⟨_, hA, hF, (by rw [hqo]; exact hc_rd), Or.inr ⟨(by rw [hqo, hq_85]; rfl), rfl⟩⟩)
                    · exact absurd c_88 (by decide)
                · exact absurd c_63 (by decide)
              · refine b_top (x := bI (pp < tn ∧ t pp = 114)) (y := nI 0) (bI_f cq_60) ?_
                have hc_rd : b_tt G B0 τ H8 rr 110 (.inr (6, [.ref ro, .int (nI pp), .ref a])) := hc_rd.cg (by rw [if_neg cq_60] <;> rfl)
                refine lv_if_ne (tgt := 75) hx hb dX20_order_63 (by decide) (fun c_63 => ?_) (fun c_63 => ?_)
                · exact absurd c_63 (by decide)
                · refine lv_aload_n hx hb dX20_order_66 rfl (lv_at hl 1 rfl) ?_
                  refine lv_bipush (v := nI 98) hx hb dX20_order_67 rfl ?_
                  refine b_ci (cs_X20_51 (rest := []) CX hl.1 (m_X20_takes l (rr := rr) (ro := ro) (pp := pp) (a := a) (f0 := f0) (asv := asv) (atx := atx) (va := va) (bt := bt) (ml := ml) (tn := tn) (atk := atk) (hs := hs) (ch := 98) hc_rd hc_X hc_tx hc_tb hbt ht (by omega) (by omega) (by omega) (by omega)) rfl rfl rfl hc_rd.at hS rfl ⟨rfl, rfl, Nat.le_of_ble_eq_true rfl, Nat.le_of_ble_eq_true rfl⟩ (Nat.le_of_ble_eq_true rfl) dX20_order_69 ⟨Nat.le_of_ble_eq_true rfl, Nat.le_of_ble_eq_true rfl⟩) hS (fun r H10 locs hp hS => ?_)
                  obtain ⟨rfl, hF9, hx0⟩ := hp
                  have hc_X := hc_X.fr hF9 (show ¬ (0 = 110) by omega)
                  have hc_tx := hc_tx.fr hF9 (show ¬ (3 = 110) by omega)
                  have hc_tb := hc_tb.fr hF9 (show ¬ (4 = 110) by omega)
                  have hRO := hRO.fr hF9 (fun i9 hi9 => show ¬ (i9 = 110) by omega)
                  have hz9 := hF.1
                  have hF0 := hF.tr hA hF9 (fun q9 hq9 x9 => by have x8 : τ q9 = 110 := x9; show 110 ≤ τ q9 ∧ τ q9 < 200; omega)
                  have hF := hF0
                  have hc_rd : b_tt G B0 τ H10 rr 110 (.inr (6, [.ref ro, .int (nI ((if pp < tn ∧ t pp = 98 then pp + 1 else pp))), .ref a])) := hx0
                  by_cases cq_69 : pp < tn ∧ t pp = 98
                  · refine b_top (x := bI (pp < tn ∧ t pp = 98)) (y := nI 1) (bI_t cq_69) ?_
                    have hc_rd : b_tt G B0 τ H10 rr 110 (.inr (6, [.ref ro, .int (nI (pp + 1)), .ref a])) := hc_rd.cg (by rw [if_pos cq_69] <;> rfl)
                    refine lv_if_eq (tgt := 95) hx hb dX20_order_72 (by decide) (fun c_72 => ?_) (fun c_72 => ?_)
                    · exact absurd c_72 (by decide)
                    · refine lv_aload_n hx hb dX20_order_75 rfl (lv_at hl 1 rfl) ?_
                      refine lv_iload_n hx hb dX20_order_76 rfl (lv_at hl 0 rfl) ?_
                      refine lv_iconst (v := nI 5) hx hb dX20_order_77 rfl ?_
                      refine lv_bipush (v := nI 58) hx hb dX20_order_78 rfl ?_
                      refine lv_bipush (v := nI 7) hx hb dX20_order_80 rfl ?_
                      refine lv_sipush (v := nI 500) hx hb dX20_order_82 rfl ?_
                      refine b_ci (cs_X20_67 (rest := []) CX hl.1 (m_X20_rest l (rr := rr) (ro := ro) (pp := pp + 1) (a := a) (f0 := f0) (asv := asv) (atx := atx) (va := va) (bt := bt) (ml := ml) (tn := tn) (atk := atk) (hs := hs) (sg := q_nx t tn pp) (ha := 5) (sep := 58) (hcc := 7) (hi := 500) hc_rd hc_X hc_tx hc_tb hbt ht (by omega) (by omega) hRO (by first | omega | (simp only [List.length_nil]; decide)) (by omega) (by omega) (by omega) (by omega) (by omega)) rfl rfl rfl hc_rd.at hS rfl ⟨rfl, rfl, Nat.le_of_ble_eq_true rfl, Nat.le_of_ble_eq_true rfl⟩ (Nat.le_of_ble_eq_true rfl) dX20_order_85 ⟨Nat.le_of_ble_eq_true rfl, Nat.le_of_ble_eq_true rfl⟩) hS (fun r H11 locs hp hS => ?_)
                      obtain ⟨τ11, hA9, hF9, hrd, hor⟩ := hp
                      have hc_X := hc_X.ca hF9 hA9 (show ¬ (110 ≤ 0 ∧ 0 < 200) by omega)
                      have hc_tx := hc_tx.ca hF9 hA9 (show ¬ (110 ≤ 3 ∧ 3 < 200) by omega)
                      have hc_tb := hc_tb.ca hF9 hA9 (show ¬ (110 ≤ 4 ∧ 4 < 200) by omega)
                      have hF0 := hF.tr hA hF9 (fun q9 hq9 x9 => by have x8 : 110 ≤ τ q9 ∧ τ q9 < 200 := x9; show 110 ≤ τ q9 ∧ τ q9 < 200; omega)
                      have hA := hA.tr hA9 hF.1
                      have hF := hF0
                      have hc_rd : b_tt G B0 τ11 H11 rr 110 (.inr (6, [.ref ro, .int (nI ((q_rest t tn (pp + 1) 5 58 7 500).1)), .ref a])) := hrd
                      rcases hor with ⟨x11, hq_85, rfl, hRO⟩ | ⟨hq_85, rfl⟩
                      · have hRO : RO G B0 τ11 H11 ro ((lo9 ++ [(q_nx t tn pp, x11)])) := hRO
                        refine lv_if_eq (tgt := 95) hx hb dX20_order_88 (by decide) (fun c_88 => ?_) (fun c_88 => ?_)
                        · exact absurd c_88 (by decide)
                        · refine lv_iconst (v := nI 1) hx hb dX20_order_91 rfl ?_
                          refine lv_goto (tgt := 96) hx hb dX20_order_92 (by decide) ?_
                          have hqo := q_ord_s (t := t) (n := tn) (p := pp) (by omega)
                          rw [← hQ]
                          exact b_zret CX hr hlk hS (Nat.le_of_ble_eq_true rfl) (Nat.le_of_ble_eq_true rfl) rfl dX20_order_96 (⟨_, hA, hF, (by rw [hqo]; exact hc_rd), Or.inl ⟨(t pp, x11), (by rw [hqo, hq_85]; rfl), rfl, (by rw [q_nx_v (by omega)] at hRO; exact hRO)⟩⟩)
                      · refine lv_if_eq (tgt := 95) hx hb dX20_order_88 (by decide) (fun c_88 => ?_) (fun c_88 => ?_)
                        · refine lv_iconst (v := nI 0) hx hb dX20_order_95 rfl ?_
                          have hqo := q_ord_s (t := t) (n := tn) (p := pp) (by omega)
                          rw [← hQ]
                          exact b_zret CX hr hlk hS (Nat.le_of_ble_eq_true rfl) (Nat.le_of_ble_eq_true rfl) rfl dX20_order_96 (⟨_, hA, hF, (by rw [hqo]; exact hc_rd), Or.inr ⟨(by rw [hqo, hq_85]; rfl), rfl⟩⟩)
                        · exact absurd c_88 (by decide)
                  · refine b_top (x := bI (pp < tn ∧ t pp = 98)) (y := nI 0) (bI_f cq_69) ?_
                    have hc_rd : b_tt G B0 τ H10 rr 110 (.inr (6, [.ref ro, .int (nI pp), .ref a])) := hc_rd.cg (by rw [if_neg cq_69] <;> rfl)
                    refine lv_if_eq (tgt := 95) hx hb dX20_order_72 (by decide) (fun c_72 => ?_) (fun c_72 => ?_)
                    · refine lv_iconst (v := nI 0) hx hb dX20_order_95 rfl ?_
                      have hqo : q_ord t tn pp = (pp, none) := q_ord_no (by omega)
                      rw [← hQ]
                      exact b_zret CX hr hlk hS (Nat.le_of_ble_eq_true rfl) (Nat.le_of_ble_eq_true rfl) rfl dX20_order_96 (⟨_, hA, hF, (by rw [hqo]; exact hc_rd), Or.inr ⟨congrArg Prod.snd hqo, rfl⟩⟩)
                    · exact absurd c_72 (by decide)
        · exact absurd c_33 (by decide)
    · exact absurd c_11 (by decide)
theorem q_num_ge {t : Nat → Nat} {n hi : Nat} : ∀ (f p v : Nat), p ≤ (q_num t n hi f p v).1
  | 0, p, v => Nat.le_refl _
  | f + 1, p, v => by
    rw [q_num]
    by_cases c : p < n ∧ (if v = 0 then 49 else 48) ≤ t p ∧ t p ≤ 57 ∧ 10 * v + t p - 48 ≤ hi
    · rw [if_pos c]
      exact Nat.le_trans (Nat.le_succ p) (q_num_ge f _ _)
    · rw [if_neg c]
      exact Nat.le_refl _
theorem q_num_adv {t : Nat → Nat} {n hi : Nat} : ∀ (f p : Nat), 0 < (q_num t n hi f p 0).2 → p < (q_num t n hi f p 0).1
  | 0, p, h => absurd h (Nat.lt_irrefl 0)
  | f + 1, p, h => by
    rw [q_num] at h ⊢
    by_cases c : p < n ∧ (if 0 = 0 then 49 else 48) ≤ t p ∧ t p ≤ 57 ∧ 10 * 0 + t p - 48 ≤ hi
    · rw [if_pos c]
      exact q_num_ge f _ _
    · rw [if_neg c] at h
      exact absurd h (Nat.lt_irrefl 0)
theorem q_ord_len {t : Nat → Nat} {n p : Nat} {x : Nat × Nat × Nat × Nat} (h : (q_ord t n p).2 = some x) : p + 6 ≤ (q_ord t n p).1 := by
  revert h
  unfold q_ord
  by_cases c1 : p < n ∧ (t p = 100 ∨ t p = 115 ∨ t p = 114 ∨ t p = 98 ∨ t p = 99)
  · rw [if_pos c1]
    generalize (if t p = 100 then 7 else 5) = ha
    generalize (if t p = 100 then 62 else 58) = sep
    generalize (if t p = 100 then 5 else if t p = 99 then 2 else 7) = hc
    generalize (if t p = 100 ∨ t p = 99 then 50 else 500) = hi
    (repeat' split) <;> intro h <;> first | (exfalso; simp at h; done) | (have h9 := q_num_adv (t := t) (n := n) (hi := hi) _ _ (by assumption); dsimp only; omega)
  · rw [if_neg c1]
    intro h
    simp at h
theorem cs_X20_71 {p : Program} {l : Launch} {e : Env} {R : Room} {s : State} {m : MethodId} {args : Array Value} {below : List Frame} {meth : Method} {c : Code} {H : Heap} {locs : List Loc} {cells slots : Nat} {cc : ByteArray} {pc nL a : Nat} {ls : Array Slot} {rest : List Value} {G : b_G} {B0 : Nat} (CX : b_Cx p s m args c cc nL RX20 G B0) (hls : ls.size = nL) {rm : Room} {mc ms : Nat} {As st0 : List Value} {Qc : Array Value → State → Outcome → State → Prop} (hM : Met l yX20_order (ws_ yX20_order cX20_order 2 (Option.some Jvm.ClassFile.FieldType.boolean)) rm (b_Pc G B0 H (.ref a :: As)) Qc mc ms (b_A B0)) (hn : As.length = 0) {fs : List Value} {ci : Nat} {qc : vw_C} (hc : b_cl[ci]? = some qc) (hq : qc.1 = RX20) (hP : b_at G a (.inr (ci, fs)) H) (hS : va_S (b_A B0) s.heap H locs) (hst : st0 = As.reverse ++ .ref a :: rest) (hr : rm.cells = mc ∧ rm.slots = ms ∧ rm.frames + 1 ≤ R.frames ∧ 8 + (2 + 11) + rm.locals ≤ R.locals) (hw : (rest.map fun v => v.category).sum ≤ 8) (hdg : decode cc pc = .ok (.invokevirtual 71, 3)) (hf : cells + mc ≤ R.cells ∧ slots + ms ≤ R.slots) : va_Run p l e R s m args below meth c H locs cells slots mc ms (F0 m pc ls st0) rest (Qc (Value.ref a :: As).toArray) (b_A B0) := va_runV CX.fix hM (cwV 0 CX.ts (lw_V q657 q659 qs1 q122 q660) rfl hr.1 hr.2.1 (by decide +kernel) ⟨hr.2.2.1, hr.2.2.2⟩) ⟨b_blind G B0 H _, by have h9 := b_recv CX.K hc hP; rw [hq] at h9; exact h9, b_pre _ CX.K hS⟩ rfl hn hls hst (lv_room hw) hdg hf
set_option maxHeartbeats 2000000 in
set_option maxRecDepth 100000 in
theorem m_X20_isRow (l : Launch) {G : b_G} {B0 : Nat} {H : Heap} {τ : b_T} {t : Nat → Nat} {rr : Nat} {ro : Nat} {a : Nat} {f0 : Nat} {asv : Nat} {atx : Nat} {atk : Nat} {hs : Int64} {va : Nat} {ml : Int32} {tn : Nat} {bt : Nat → Int32} (hc_rd : b_tt G B0 τ H rr 110 (.inr (6, [.ref ro, .int (nI 0), .ref a]))) (hc_X : b_tt G B0 τ H a 0 (.inr (0, [.ref f0, .ref asv, .ref atx, .ref atk, .long hs]))) (hc_tx : b_tt G B0 τ H atx 3 (.inr (3, [.ref va, .int (nI 0), .int ml, .int (nI tn)]))) (hc_tb : b_tt G B0 τ H va 4 (.inl (G.2.1 1, 60, .inl bt))) (hbt : ∀ j, j < tn → bt j = nI (t j)) (ht : ∀ j, t j < 128) (htn : tn ≤ 60) (hRO : RO G B0 τ H ro ([] : List (Nat × Nat × Nat × Nat))) : Met l yX20_isRow (ws_ yX20_isRow cX20_isRow 2 (Option.some Jvm.ClassFile.FieldType.boolean)) ({ frames := 8, cells := 130, slots := 900, locals := 180 } : Room) (b_Pc G B0 H [.ref rr]) (b_Qi B0 (fun r H1 => ∃ τ1 : b_T, b_Ag τ τ1 H ∧ b_Fr τ (fun t => 110 ≤ t ∧ t < 200) H H1 ∧ b_tt G B0 τ1 H1 rr 110 (.inr (6, [.ref ro, .int (nI (q_all t tn (tn + 1) 0).2.1), .ref a])) ∧ (((q_all t tn (tn + 1) 0).2 = (tn, 1) ∧ r = nI 1 ∧ RO G B0 τ1 H1 ro (q_all t tn (tn + 1) 0).1) ∨ (¬ (q_all t tn (tn + 1) 0).2 = (tn, 1) ∧ r = nI 0)))) 130 900 (b_A B0) := by
  refine b_of (by decide) (Nat.le_of_ble_eq_true rfl) ?_
  intro p e s m below meth c CX hr hlk hnm hS ls hl
  have CX : b_Cx p s m _ c cX20_isRow 2 RX20 G B0 := CX
  have hx := CX.hx
  have hb := CX.hb
  have hl : lv_has ls 2 [(0, .ref rr)] := hl
  generalize hQ : MQ below (b_Qi B0 (fun r H1 => ∃ τ1 : b_T, b_Ag τ τ1 H ∧ b_Fr τ (fun t => 110 ≤ t ∧ t < 200) H H1 ∧ b_tt G B0 τ1 H1 rr 110 (.inr (6, [.ref ro, .int (nI (q_all t tn (tn + 1) 0).2.1), .ref a])) ∧ (((q_all t tn (tn + 1) 0).2 = (tn, 1) ∧ r = nI 1 ∧ RO G B0 τ1 H1 ro (q_all t tn (tn + 1) 0).1) ∨ (¬ (q_all t tn (tn + 1) 0).2 = (tn, 1) ∧ r = nI 0)))) ([.ref rr] : List Value).toArray s 130 900 (b_A B0) = Q
  have hF : b_Fr τ (fun t => 110 ≤ t ∧ t < 200) H H := b_Fr.rf
  have hA : b_Ag τ τ H := b_Ag.rf
  refine lv_aload_n hx hb dX20_isRow_0 rfl (lv_at hl 0 rfl) ?_
  refine b_ci (cs_X20_71 (rest := []) CX hl.1 (m_X20_order l (rr := rr) (ro := ro) (pp := 0) (a := a) (f0 := f0) (asv := asv) (atx := atx) (va := va) (bt := bt) (ml := ml) (tn := tn) (atk := atk) (hs := hs) hc_rd hc_X hc_tx hc_tb hbt ht (by omega) (by omega) hRO (by first | omega | (simp only [List.length_nil]; decide))) rfl rfl rfl hc_rd.at hS rfl ⟨rfl, rfl, Nat.le_of_ble_eq_true rfl, Nat.le_of_ble_eq_true rfl⟩ (Nat.le_of_ble_eq_true rfl) dX20_isRow_1 ⟨Nat.le_of_ble_eq_true rfl, Nat.le_of_ble_eq_true rfl⟩) hS (fun r H1 locs hp hS => ?_)
  obtain ⟨τ1, hA9, hF9, hrd, hor⟩ := hp
  have hc_X := hc_X.ca hF9 hA9 (show ¬ (110 ≤ 0 ∧ 0 < 200) by omega)
  have hc_tx := hc_tx.ca hF9 hA9 (show ¬ (110 ≤ 3 ∧ 3 < 200) by omega)
  have hc_tb := hc_tb.ca hF9 hA9 (show ¬ (110 ≤ 4 ∧ 4 < 200) by omega)
  have hF0 := hF.tr hA hF9 (fun q9 hq9 x9 => by have x8 : 110 ≤ τ q9 ∧ τ q9 < 200 := x9; show 110 ≤ τ q9 ∧ τ q9 < 200; omega)
  have hA := hA.tr hA9 hF.1
  have hF := hF0
  have hc_rd : b_tt G B0 τ1 H1 rr 110 (.inr (6, [.ref ro, .int (nI ((q_ord t tn 0).1)), .ref a])) := hrd
  rcases hor with ⟨x1, hq_1, rfl, hRO⟩ | ⟨hq_1, rfl⟩
  · have hRO : RO G B0 τ1 H1 ro ((([] : List (Nat × Nat × Nat × Nat)) ++ [x1])) := hRO
    refine lv_istore_n (lv' := [(1, .int (nI 1)), (0, .ref rr)]) hx hb dX20_isRow_4 rfl hl (Nat.le_of_ble_eq_true rfl) rfl (fun ls hl => ?_)
    have lp5_2 : ∀ (n_ : Nat) (f : Nat) (i : Nat) (l9 : List (Nat × Nat × Nat × Nat)), i ≤ tn → tn < f + i + 1 → q_all t tn (tn + 1) 0 = q_st t tn f l9 i → 7 * l9.length ≤ i + 1 → tn - i < n_ → ∀ (H3 : Heap) (τ1 : b_T), b_tt G B0 τ1 H3 rr 110 (.inr (6, [.ref ro, .int (nI i), .ref a])) → b_tt G B0 τ1 H3 a 0 (.inr (0, [.ref f0, .ref asv, .ref atx, .ref atk, .long hs])) → b_tt G B0 τ1 H3 atx 3 (.inr (3, [.ref va, .int (nI 0), .int ml, .int (nI tn)])) → b_tt G B0 τ1 H3 va 4 (.inl (G.2.1 1, 60, .inl bt)) → RO G B0 τ1 H3 ro l9 → b_Fr τ (fun t => 110 ≤ t ∧ t < 200) H H3 → b_Ag τ τ1 H → ∀ (locs : List Loc), va_S (b_A B0) s.heap H3 locs → ∀ ls : Array Slot, lv_has ls 2 [(1, .int (nI 1)), (0, .ref rr)] → W p l e ({ frames := 8, cells := 130, slots := 900, locals := 180 } : Room) s m ([.ref rr] : List Value).toArray below meth c H3 locs (4 + 2 * i) (28 + 14 * i) Q (F0 m 5 ls []) := by
      intro n_
      induction n_ with
      | zero => intro f i l9 hi hf2 hst hl9 hlt H3 τ1 hc_rd hc_X hc_tx hc_tb hRO hF hA locs hS ls hl; exact absurd hlt (Nat.not_lt_zero _)
      | succ n_ ih5 =>
        intro f i l9 hi hf2 hst hl9 hlt H3 τ1 hc_rd hc_X hc_tx hc_tb hRO hF hA locs hS ls hl
        refine lv_iload_n hx hb dX20_isRow_5 rfl (lv_at hl 0 rfl) ?_
        refine lv_if_eq (tgt := 26) hx hb dX20_isRow_6 (by decide) (fun c_6 => ?_) (fun c_6 => ?_)
        · exact absurd c_6 (by decide)
        · refine lv_aload_n hx hb dX20_isRow_9 rfl (lv_at hl 1 rfl) ?_
          refine lv_bipush (v := nI 59) hx hb dX20_isRow_10 rfl ?_
          refine b_ci (cs_X20_51 (rest := []) CX hl.1 (m_X20_takes l (rr := rr) (ro := ro) (pp := i) (a := a) (f0 := f0) (asv := asv) (atx := atx) (va := va) (bt := bt) (ml := ml) (tn := tn) (atk := atk) (hs := hs) (ch := 59) hc_rd hc_X hc_tx hc_tb hbt ht (by omega) (by omega) (by omega) (by omega)) rfl rfl rfl hc_rd.at hS rfl ⟨rfl, rfl, Nat.le_of_ble_eq_true rfl, Nat.le_of_ble_eq_true rfl⟩ (Nat.le_of_ble_eq_true rfl) dX20_isRow_12 ⟨by show _ ≤ 130; omega, by show _ ≤ 900; omega⟩) hS (fun r H4 locs hp hS => ?_)
          obtain ⟨rfl, hF9, hx0⟩ := hp
          have hc_X := hc_X.fr hF9 (show ¬ (0 = 110) by omega)
          have hc_tx := hc_tx.fr hF9 (show ¬ (3 = 110) by omega)
          have hc_tb := hc_tb.fr hF9 (show ¬ (4 = 110) by omega)
          have hRO := hRO.fr hF9 (fun i9 hi9 => show ¬ (i9 = 110) by omega)
          have hz9 := hF.1
          have hF0 := hF.tr hA hF9 (fun q9 hq9 x9 => by have x8 : τ q9 = 110 := x9; show 110 ≤ τ q9 ∧ τ q9 < 200; omega)
          have hF := hF0
          have hc_rd : b_tt G B0 τ1 H4 rr 110 (.inr (6, [.ref ro, .int (nI ((if i < tn ∧ t i = 59 then i + 1 else i))), .ref a])) := hx0
          by_cases cq_12 : i < tn ∧ t i = 59
          · refine b_top (x := bI (i < tn ∧ t i = 59)) (y := nI 1) (bI_t cq_12) ?_
            have hc_rd : b_tt G B0 τ1 H4 rr 110 (.inr (6, [.ref ro, .int (nI (i + 1)), .ref a])) := hc_rd.cg (by rw [if_pos cq_12] <;> rfl)
            refine lv_if_eq (tgt := 26) hx hb dX20_isRow_15 (by decide) (fun c_15 => ?_) (fun c_15 => ?_)
            · exact absurd c_15 (by decide)
            · refine lv_aload_n hx hb dX20_isRow_18 rfl (lv_at hl 1 rfl) ?_
              refine b_ci (cs_X20_71 (rest := []) CX hl.1 (m_X20_order l (rr := rr) (ro := ro) (pp := i + 1) (a := a) (f0 := f0) (asv := asv) (atx := atx) (va := va) (bt := bt) (ml := ml) (tn := tn) (atk := atk) (hs := hs) hc_rd hc_X hc_tx hc_tb hbt ht (by omega) (by omega) hRO (by first | omega | (simp only [List.length_nil]; decide))) rfl rfl rfl hc_rd.at hS rfl ⟨rfl, rfl, Nat.le_of_ble_eq_true rfl, Nat.le_of_ble_eq_true rfl⟩ (Nat.le_of_ble_eq_true rfl) dX20_isRow_19 ⟨by show _ ≤ 130; omega, by show _ ≤ 900; omega⟩) hS (fun r H5 locs hp hS => ?_)
              obtain ⟨τ5, hA9, hF9, hrd, hor⟩ := hp
              have hc_X := hc_X.ca hF9 hA9 (show ¬ (110 ≤ 0 ∧ 0 < 200) by omega)
              have hc_tx := hc_tx.ca hF9 hA9 (show ¬ (110 ≤ 3 ∧ 3 < 200) by omega)
              have hc_tb := hc_tb.ca hF9 hA9 (show ¬ (110 ≤ 4 ∧ 4 < 200) by omega)
              have hF0 := hF.tr hA hF9 (fun q9 hq9 x9 => by have x8 : 110 ≤ τ q9 ∧ τ q9 < 200 := x9; show 110 ≤ τ q9 ∧ τ q9 < 200; omega)
              have hA := hA.tr hA9 hF.1
              have hF := hF0
              have hc_rd : b_tt G B0 τ5 H5 rr 110 (.inr (6, [.ref ro, .int (nI ((q_ord t tn (i + 1)).1)), .ref a])) := hrd
              rcases hor with ⟨x5, hq_19, rfl, hRO⟩ | ⟨hq_19, rfl⟩
              · have hRO : RO G B0 τ5 H5 ro ((l9 ++ [x5])) := hRO
                refine lv_istore_n (lv' := [(1, .int (nI 1)), (0, .ref rr)]) hx hb dX20_isRow_22 rfl hl (Nat.le_of_ble_eq_true rfl) rfl (fun ls hl => ?_)
                refine lv_goto (tgt := 5) hx hb dX20_isRow_23 (by decide) ?_
                have h9l := q_ord_len hq_19
                refine W.widen (k := 4 + 2 * (q_ord t tn (i + 1)).1) (n := 28 + 14 * (q_ord t tn (i + 1)).1) (by omega) (by omega) ?_
                exact ih5 (f - 1) ((q_ord t tn (i + 1)).1) ((l9 ++ [x5])) (q_ord_le (by omega)) (by have h9 := q_ord_len hq_19; omega) (hst.trans ((congrArg (fun z => q_st t tn z l9 i) (show f = f - 1 + 1 by omega)).trans (q_st_s cq_12 (q_pair rfl hq_19)))) (by have h9 := q_ord_len hq_19; rw [List.length_append, List.length_singleton]; omega) (by have h9 := q_ord_len hq_19; omega) H5 _ hc_rd hc_X hc_tx hc_tb hRO hF hA _ hS ls (lv_sub hl [0, 1] rfl)
              · refine lv_istore_n (lv' := [(1, .int (nI 0)), (0, .ref rr)]) hx hb dX20_isRow_22 rfl hl (Nat.le_of_ble_eq_true rfl) rfl (fun ls hl => ?_)
                refine lv_goto (tgt := 5) hx hb dX20_isRow_23 (by decide) ?_
                refine lv_iload_n hx hb dX20_isRow_5 rfl (lv_at hl 0 rfl) ?_
                refine lv_if_eq (tgt := 26) hx hb dX20_isRow_6 (by decide) (fun c_6 => ?_) (fun c_6 => ?_)
                · have hfin : q_all t tn (tn + 1) 0 = (l9, (q_ord t tn (i + 1)).1, 0) := hst.trans ((congrArg (fun z => q_st t tn z l9 i) (show f = f - 1 + 1 by omega)).trans (q_st_n cq_12 (q_pair rfl hq_19)))
                  refine lv_iload_n hx hb dX20_isRow_26 rfl (lv_at hl 0 rfl) ?_
                  refine lv_if_eq (tgt := 51) hx hb dX20_isRow_27 (by decide) (fun c_27 => ?_) (fun c_27 => ?_)
                  · refine lv_iconst (v := nI 0) hx hb dX20_isRow_51 rfl ?_
                    rw [← hQ]
                    exact b_zret CX hr hlk hS (by omega) (by omega) rfl dX20_isRow_52 (⟨_, hA, hF, (by rw [hfin]; exact hc_rd), Or.inr ⟨(by rw [hfin]; exact fun q => Nat.zero_ne_one (congrArg Prod.snd q)), rfl⟩⟩)
                  · exact absurd c_27 (by decide)
                · exact absurd c_6 (by decide)
          · refine b_top (x := bI (i < tn ∧ t i = 59)) (y := nI 0) (bI_f cq_12) ?_
            have hc_rd : b_tt G B0 τ1 H4 rr 110 (.inr (6, [.ref ro, .int (nI i), .ref a])) := hc_rd.cg (by rw [if_neg cq_12] <;> rfl)
            refine lv_if_eq (tgt := 26) hx hb dX20_isRow_15 (by decide) (fun c_15 => ?_) (fun c_15 => ?_)
            · have hfin : q_all t tn (tn + 1) 0 = (l9, i, 1) := hst.trans (q_st_e cq_12)
              refine lv_iload_n hx hb dX20_isRow_26 rfl (lv_at hl 0 rfl) ?_
              refine lv_if_eq (tgt := 51) hx hb dX20_isRow_27 (by decide) (fun c_27 => ?_) (fun c_27 => ?_)
              · exact absurd c_27 (by decide)
              · refine lv_aload_n hx hb dX20_isRow_30 rfl (lv_at hl 1 rfl) ?_
                refine gf_X20_22_6 CX hc_rd.at rfl dX20_isRow_31 ?_
                refine lv_aload_n hx hb dX20_isRow_34 rfl (lv_at hl 1 rfl) ?_
                refine gf_X20_3_6 CX hc_rd.at rfl dX20_isRow_35 ?_
                refine gf_X20_26_0 CX hc_X.at rfl dX20_isRow_38 ?_
                refine b_ci0 (cs_X20_30 (rest := [.int (nI i)]) CX hl.1 (m_J4_length l (a := atx) (ta := 3) (va := va) (tv := 4) (f := bt) (ml := ml) (n := tn) hc_tx hc_tb) rfl rfl rfl hc_tx.at hS rfl ⟨rfl, rfl, Nat.le_of_ble_eq_true rfl, Nat.le_of_ble_eq_true rfl⟩ (Nat.le_of_ble_eq_true rfl) dX20_isRow_41 ⟨by show _ ≤ 130; omega, by show _ ≤ 900; omega⟩) hS (fun locs hS => ?_)
                refine b_icmp_neN (tgt := 51) CX (by omega) (by omega) dX20_isRow_44 (by decide) (fun c_44 => ?_) (fun c_44 => ?_)
                · refine lv_iconst (v := nI 0) hx hb dX20_isRow_51 rfl ?_
                  rw [← hQ]
                  exact b_zret CX hr hlk hS (by omega) (by omega) rfl dX20_isRow_52 (⟨_, hA, hF, (by rw [hfin]; exact hc_rd), Or.inr ⟨(by rw [hfin]; exact fun q => c_44 (congrArg Prod.fst q)), rfl⟩⟩)
                · refine lv_iconst (v := nI 1) hx hb dX20_isRow_47 rfl ?_
                  refine lv_goto (tgt := 52) hx hb dX20_isRow_48 (by decide) ?_
                  rw [← hQ]
                  exact b_zret CX hr hlk hS (by omega) (by omega) rfl dX20_isRow_52 (⟨_, hA, hF, (by rw [hfin]; exact hc_rd), Or.inl ⟨(by rw [hfin]; exact congrArg (fun z => (z, 1)) c_44), rfl, (by rw [hfin]; exact hRO)⟩⟩)
            · exact absurd c_15 (by decide)
    refine W.widen (k := 4 + 2 * (q_ord t tn 0).1) (n := 28 + 14 * (q_ord t tn 0).1) (by omega) (by omega) ?_
    exact lp5_2 _ tn ((q_ord t tn 0).1) ([x1]) (q_ord_le (Nat.zero_le _)) (by omega) (q_st_0 (q_pair rfl hq_1)) (by have h9 := q_ord_len hq_1; simp only [List.length_singleton]; omega) (Nat.lt_succ_self _) H1 _ hc_rd hc_X hc_tx hc_tb hRO hF hA _ hS ls (lv_sub hl [0, 1] rfl)
  · refine lv_istore_n (lv' := [(1, .int (nI 0)), (0, .ref rr)]) hx hb dX20_isRow_4 rfl hl (Nat.le_of_ble_eq_true rfl) rfl (fun ls hl => ?_)
    refine lv_iload_n hx hb dX20_isRow_5 rfl (lv_at hl 0 rfl) ?_
    refine lv_if_eq (tgt := 26) hx hb dX20_isRow_6 (by decide) (fun c_6 => ?_) (fun c_6 => ?_)
    · have hfin : q_all t tn (tn + 1) 0 = ([], (q_ord t tn 0).1, 0) := q_all_n (q_pair rfl hq_1)
      refine lv_iload_n hx hb dX20_isRow_26 rfl (lv_at hl 0 rfl) ?_
      refine lv_if_eq (tgt := 51) hx hb dX20_isRow_27 (by decide) (fun c_27 => ?_) (fun c_27 => ?_)
      · refine lv_iconst (v := nI 0) hx hb dX20_isRow_51 rfl ?_
        rw [← hQ]
        exact b_zret CX hr hlk hS (Nat.le_of_ble_eq_true rfl) (Nat.le_of_ble_eq_true rfl) rfl dX20_isRow_52 (⟨_, hA, hF, (by rw [hfin]; exact hc_rd), Or.inr ⟨(by rw [hfin]; exact fun q => Nat.zero_ne_one (congrArg Prod.snd q)), rfl⟩⟩)
      · exact absurd c_27 (by decide)
    · exact absurd c_6 (by decide)
