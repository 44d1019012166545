/-! the reference: its reader -/
set_option maxRecDepth 100000
/-! the text's orders, read: t the letters, n how many, p the place -/
def q_num (t : Nat → Nat) (n hi : Nat) : Nat → Nat → Nat → Nat × Nat
  | 0, p, v => (p, v)
  | f + 1, p, v => if p < n ∧ (if v = 0 then 49 else 48) ≤ t p ∧ t p ≤ 57 ∧ 10 * v + t p - 48 ≤ hi then q_num t n hi f (p + 1) (10 * v + t p - 48) else (p, v)
theorem q_num_s {t : Nat → Nat} {n hi p v : Nat} (h : p < n) (h1 : (if v = 0 then 49 else 48) ≤ t p) (h2 : t p ≤ 57) (h3 : 10 * v + t p - 48 ≤ hi) : q_num t n hi (n - (p + 1)) (p + 1) (10 * v + t p - 48) = q_num t n hi (n - p) p v := by
  rw [show n - p = (n - (p + 1)) + 1 by omega]
  exact (if_pos ⟨h, h1, h2, h3⟩).symm
theorem q_num_e {t : Nat → Nat} {n hi p v : Nat} (h : ¬ (p < n ∧ (if v = 0 then 49 else 48) ≤ t p ∧ t p ≤ 57 ∧ 10 * v + t p - 48 ≤ hi)) : q_num t n hi (n - p) p v = (p, v) := by
  cases hk : n - p with
  | zero => rfl
  | succ k => exact if_neg h
theorem q_num_p {t : Nat → Nat} {n hi : Nat} : ∀ (f p v : Nat), p ≤ n → (q_num t n hi f p v).1 ≤ n
  | 0, p, v, h => h
  | f + 1, p, v, h => by
    rw [q_num]
    by_cases hq : p < n ∧ (if v = 0 then 49 else 48) ≤ t p ∧ t p ≤ 57 ∧ 10 * v + t p - 48 ≤ hi
    · rw [if_pos hq]
      exact q_num_p f _ _ (by omega)
    · rw [if_neg hq]
      exact h
theorem q_num_v {t : Nat → Nat} {n hi : Nat} : ∀ (f p v : Nat), v ≤ hi → (q_num t n hi f p v).2 ≤ hi
  | 0, p, v, h => h
  | f + 1, p, v, h => by
    rw [q_num]
    by_cases hq : p < n ∧ (if v = 0 then 49 else 48) ≤ t p ∧ t p ≤ 57 ∧ 10 * v + t p - 48 ≤ hi
    · rw [if_pos hq]
      exact q_num_v f _ _ hq.2.2.2
    · rw [if_neg hq]
      exact h
/-- a digit up to h at the place p -/
def q_dg (t : Nat → Nat) (n p h : Nat) : Prop := p < n ∧ 48 ≤ t p ∧ t p ≤ 48 + h
theorem q_dg_in {x h : Nat} (hx : x < 128) (hh : h < 10) : (nI 0 ≤ nI x - nI 48 ∧ nI x - nI 48 ≤ nI h) ↔ (48 ≤ x ∧ x ≤ 48 + h) := by
  have e1 : (nI x - nI 48).toInt = (x : Int) - 48 := pk_sub_toInt (by omega) (by omega)
  rw [Int32.le_iff_toInt_le, Int32.le_iff_toInt_le, e1, nI_toInt (n := h) (by omega), nI_toInt (n := 0) (by omega)]
  omega
/-- one order from the place p on: the place behind it, and what it says if it is whole -/
def q_ord (t : Nat → Nat) (n p : Nat) : Nat × Option (Nat × Nat × Nat × Nat) :=
  if p < n ∧ (t p = 100 ∨ t p = 115 ∨ t p = 114 ∨ t p = 98 ∨ t p = 99) then
    if p + 1 < n ∧ 48 ≤ t (p + 1) ∧ t (p + 1) ≤ 48 + (if t p = 100 then 7 else 5) then
      if p + 1 + 1 < n ∧ t (p + 1 + 1) = (if t p = 100 then 62 else 58) then
        if p + 1 + 1 + 1 < n ∧ 48 ≤ t (p + 1 + 1 + 1) ∧ t (p + 1 + 1 + 1) ≤ 48 + (if t p = 100 then 5 else if t p = 99 then 2 else 7) then
          if p + 1 + 1 + 1 + 1 < n ∧ t (p + 1 + 1 + 1 + 1) = 42 then
            if 0 < (q_num t n (if t p = 100 ∨ t p = 99 then 50 else 500) (n - (p + 1 + 1 + 1 + 1 + 1)) (p + 1 + 1 + 1 + 1 + 1) 0).2 then
              ((q_num t n (if t p = 100 ∨ t p = 99 then 50 else 500) (n - (p + 1 + 1 + 1 + 1 + 1)) (p + 1 + 1 + 1 + 1 + 1) 0).1, some (t p, t (p + 1) - 48, t (p + 1 + 1 + 1) - 48, (q_num t n (if t p = 100 ∨ t p = 99 then 50 else 500) (n - (p + 1 + 1 + 1 + 1 + 1)) (p + 1 + 1 + 1 + 1 + 1) 0).2))
            else ((q_num t n (if t p = 100 ∨ t p = 99 then 50 else 500) (n - (p + 1 + 1 + 1 + 1 + 1)) (p + 1 + 1 + 1 + 1 + 1) 0).1, none)
          else (p + 1 + 1 + 1 + 1, none)
        else (p + 1 + 1 + 1, none)
      else (p + 1 + 1, none)
    else (p + 1, none)
  else (p, none)
set_option maxHeartbeats 2000000 in
set_option maxRecDepth 100000 in
theorem m_X3_in_n (l : Launch) {G : b_G} {B0 : Nat} {H : Heap} {x : Nat} {lo : Nat} {hi : Nat} (h1 : x < 2147483648) (h2 : lo < 2147483648) (h3 : hi < 2147483648) : Met l yX3_in (ws_ yX3_in cX3_in 3 (Option.some Jvm.ClassFile.FieldType.boolean)) ({ frames := 0, cells := 0, slots := 0, locals := 0 } : Room) (b_Pc G B0 H [.int (nI x), .int (nI lo), .int (nI hi)]) (b_Qi B0 (fun r H1 => r = bI (lo ≤ x ∧ x ≤ hi) ∧ H1 = H)) 0 0 (b_A B0) := by
  refine b_of (by decide) (Nat.le_of_ble_eq_true rfl) ?_
  intro p e s m below meth c CX hr hlk hnm hS ls hl
  have CX : b_Cx p s m _ c cX3_in 3 RX3 G B0 := CX
  have hx := CX.hx
  have hb := CX.hb
  have hl : lv_has ls 3 [(0, .int (nI x)), (1, .int (nI lo)), (2, .int (nI hi))] := hl
  generalize hQ : MQ below (b_Qi B0 (fun r H1 => r = bI (lo ≤ x ∧ x ≤ hi) ∧ H1 = H)) ([.int (nI x), .int (nI lo), .int (nI hi)] : List Value).toArray s 0 0 (b_A B0) = Q
  refine lv_iload_n hx hb dX3_in_0 rfl (lv_at hl 0 rfl) ?_
  refine lv_iload_n hx hb dX3_in_1 rfl (lv_at hl 1 rfl) ?_
  refine b_icmp_ltN (tgt := 14) CX (by omega) (by omega) dX3_in_2 (by decide) (fun c_2 => ?_) (fun c_2 => ?_)
  · refine lv_iconst (v := nI 0) hx hb dX3_in_14 rfl ?_
    rw [← hQ]
    exact b_zret CX hr hlk hS (Nat.le_of_ble_eq_true rfl) (Nat.le_of_ble_eq_true rfl) rfl dX3_in_15 (⟨by first | exact (bI_t ⟨by omega, by omega⟩).symm | exact (bI_f (by omega)).symm, rfl⟩)
  · refine lv_iload_n hx hb dX3_in_5 rfl (lv_at hl 0 rfl) ?_
    refine lv_iload_n hx hb dX3_in_6 rfl (lv_at hl 2 rfl) ?_
    refine b_icmp_gtN (tgt := 14) CX (by omega) (by omega) dX3_in_7 (by decide) (fun c_7 => ?_) (fun c_7 => ?_)
    · refine lv_iconst (v := nI 0) hx hb dX3_in_14 rfl ?_
      rw [← hQ]
      exact b_zret CX hr hlk hS (Nat.le_of_ble_eq_true rfl) (Nat.le_of_ble_eq_true rfl) rfl dX3_in_15 (⟨by first | exact (bI_t ⟨by omega, by omega⟩).symm | exact (bI_f (by omega)).symm, rfl⟩)
    · refine lv_iconst (v := nI 1) hx hb dX3_in_10 rfl ?_
      refine lv_goto (tgt := 15) hx hb dX3_in_11 (by decide) ?_
      rw [← hQ]
      exact b_zret CX hr hlk hS (Nat.le_of_ble_eq_true rfl) (Nat.le_of_ble_eq_true rfl) rfl dX3_in_15 (⟨by first | exact (bI_t ⟨by omega, by omega⟩).symm | exact (bI_f (by omega)).symm, rfl⟩)
theorem gf_X3_132_8 {p : Program} {l : Launch} {e : Env} {R : Room} {s : State} {m : MethodId} {args : Array Value} {below : List Frame} {meth : Method} {c : Code} {H : Heap} {locs : List Loc} {cells slots : Nat} {Q : State → Prop} {cc : ByteArray} {pc nL a : Nat} {ls : Array Slot} {rest : List Value} {G : b_G} {B0 : Nat} (CX : b_Cx p s m args c cc nL RX3 G B0) {fs : List Value} (hP : b_at G a (.inr (8, fs)) H) {v : Value} (hv : fs[9]? = some v) (hdg : decode cc pc = .ok (.getfield 132, 3)) (kk : W p l e R s m args below meth c H locs cells slots Q (F0 m (pc + 3) ls (v :: rest))) : W p l e R s m args below meth c H locs cells slots Q (F0 m pc ls (.ref a :: rest)) := b_get CX in_X3 rfl 9 (by decide) q1855 (Or.inl rfl) hP hv hdg kk
theorem gf_X3_129_8 {p : Program} {l : Launch} {e : Env} {R : Room} {s : State} {m : MethodId} {args : Array Value} {below : List Frame} {meth : Method} {c : Code} {H : Heap} {locs : List Loc} {cells slots : Nat} {Q : State → Prop} {cc : ByteArray} {pc nL a : Nat} {ls : Array Slot} {rest : List Value} {G : b_G} {B0 : Nat} (CX : b_Cx p s m args c cc nL RX3 G B0) {fs : List Value} (hP : b_at G a (.inr (8, fs)) H) {v : Value} (hv : fs[5]? = some v) (hdg : decode cc pc = .ok (.getfield 129, 3)) (kk : W p l e R s m args below meth c H locs cells slots Q (F0 m (pc + 3) ls (v :: rest))) : W p l e R s m args below meth c H locs cells slots Q (F0 m pc ls (.ref a :: rest)) := b_get CX in_X3 rfl 5 (by decide) q1851 (Or.inl rfl) hP hv hdg kk
theorem pf_X3_132_8 {p : Program} {l : Launch} {e : Env} {R : Room} {s : State} {m : MethodId} {args : Array Value} {below : List Frame} {meth : Method} {c : Code} {H : Heap} {locs : List Loc} {cells slots : Nat} {Q : State → Prop} {cc : ByteArray} {pc nL a : Nat} {ls : Array Slot} {rest : List Value} {G : b_G} {B0 : Nat} (CX : b_Cx p s m args c cc nL RX3 G B0) {fs : List Value} (hP : b_at G a (.inr (8, fs)) H) (hS : va_S (b_A B0) s.heap H locs) (ha : B0 ≤ a) {v : Value} (hn : narrow (tyX3 9) v = v) (hfit : fits (tyX3 9) v = true) (hl : 9 < fs.length) (hdg : decode cc pc = .ok (.putfield 132, 3)) (kk : ∀ (H1 : Heap) (locs1 : List Loc), b_at G a (.inr (8, fs.set 9 v)) H1 → b_Up a H H1 → va_S (b_A B0) s.heap H1 locs1 → W p l e R s m args below meth c H1 locs1 cells slots Q (F0 m (pc + 3) ls rest)) : W p l e R s m args below meth c H locs cells slots Q (F0 m pc ls (v :: .ref a :: rest)) := b_put CX in_X3 tyX3 tyX3_ok rfl 9 (by decide) (by decide +kernel) q1855 (Or.inl rfl) rfl hP hS ha hn hfit hl hdg kk
theorem gf_X3_19_8 {p : Program} {l : Launch} {e : Env} {R : Room} {s : State} {m : MethodId} {args : Array Value} {below : List Frame} {meth : Method} {c : Code} {H : Heap} {locs : List Loc} {cells slots : Nat} {Q : State → Prop} {cc : ByteArray} {pc nL a : Nat} {ls : Array Slot} {rest : List Value} {G : b_G} {B0 : Nat} (CX : b_Cx p s m args c cc nL RX3 G B0) {fs : List Value} (hP : b_at G a (.inr (8, fs)) H) {v : Value} (hv : fs[4]? = some v) (hdg : decode cc pc = .ok (.getfield 19, 3)) (kk : W p l e R s m args below meth c H locs cells slots Q (F0 m (pc + 3) ls (v :: rest))) : W p l e R s m args below meth c H locs cells slots Q (F0 m pc ls (.ref a :: rest)) := b_get CX in_X3 rfl 4 (by decide) q1850 (Or.inl rfl) hP hv hdg kk
set_option maxHeartbeats 2000000 in
set_option maxRecDepth 100000 in
theorem m_X3_sign (l : Launch) {G : b_G} {B0 : Nat} {o : Nat → Nat} {Hr H : Heap} {S : b_St} {sp sv : Nat → Int32} {t : Nat → Nat} {tn pp : Nat} {sa th iw lt on ot nu di : Int32} {x : Nat} (hM : MW G B0 o Hr H (enc S) sp sv (fun j => nI (t j)) sa (nI tn) th (nI pp) iw lt on ot nu di) (ht : ∀ j, t j < 128) (hn : tn ≤ 60) (hp : pp ≤ tn) (hx : x < 128) : Met l yX3_sign (ws_ yX3_sign cX3_sign 3 (Option.some Jvm.ClassFile.FieldType.boolean)) ({ frames := 0, cells := 0, slots := 0, locals := 0 } : Room) (b_Pc G B0 H [.ref (o 0), .int (nI x)]) (b_Qi B0 (fun r H1 => (((pp < tn ∧ t pp = x)) ∧ r = nI 1 ∧ MW G B0 o H H1 (enc S) sp sv (fun j => nI (t j)) sa (nI tn) th (nI (pp + 1)) iw lt on ot nu di) ∨ (((¬ (pp < tn ∧ t pp = x))) ∧ r = nI 0 ∧ MW G B0 o H H1 (enc S) sp sv (fun j => nI (t j)) sa (nI tn) th (nI pp) iw lt on ot nu di))) 0 0 (b_A B0) := by
  refine b_of (by decide) (Nat.le_of_ble_eq_true rfl) ?_
  intro p e s m below meth c CX hr hlk hnm hS ls hl
  have CX : b_Cx p s m _ c cX3_sign 3 RX3 G B0 := CX
  have hx := CX.hx
  have hb := CX.hb
  have hl : lv_has ls 3 [(0, .ref (o 0)), (1, .int (nI x))] := hl
  generalize hQ : MQ below (b_Qi B0 (fun r H1 => (((pp < tn ∧ t pp = x)) ∧ r = nI 1 ∧ MW G B0 o H H1 (enc S) sp sv (fun j => nI (t j)) sa (nI tn) th (nI (pp + 1)) iw lt on ot nu di) ∨ (((¬ (pp < tn ∧ t pp = x))) ∧ r = nI 0 ∧ MW G B0 o H H1 (enc S) sp sv (fun j => nI (t j)) sa (nI tn) th (nI pp) iw lt on ot nu di))) ([.ref (o 0), .int (nI x)] : List Value).toArray s 0 0 (b_A B0) = Q
  have hM := hM.re
  refine lv_aload_n hx hb dX3_sign_0 rfl (lv_at hl 0 rfl) ?_
  refine gf_X3_132_8 CX hM.o0 rfl dX3_sign_1 ?_
  refine lv_aload_n hx hb dX3_sign_4 rfl (lv_at hl 0 rfl) ?_
  refine gf_X3_129_8 CX hM.o0 rfl dX3_sign_5 ?_
  refine b_icmp_geN (tgt := 28) CX (by omega) (by omega) dX3_sign_8 (by decide) (fun c_8 => ?_) (fun c_8 => ?_)
  · refine lv_iconst (v := nI 0) hx hb dX3_sign_28 rfl ?_
    refine lv_istore_n (lv' := [(2, .int (nI 0)), (0, .ref (o 0)), (1, .int (nI x))]) hx hb dX3_sign_29 rfl hl (Nat.le_of_ble_eq_true rfl) rfl (fun ls hl => ?_)
    refine lv_aload_n hx hb dX3_sign_30 rfl (lv_at hl 1 rfl) ?_
    refine lv_dup hx hb dX3_sign_31 rfl ?_
    refine gf_X3_132_8 CX hM.o0 rfl dX3_sign_32 ?_
    refine lv_iload_n hx hb dX3_sign_35 rfl (lv_at hl 0 rfl) ?_
    refine lv_if_eq (tgt := 43) hx hb dX3_sign_36 (by decide) (fun c_36 => ?_) (fun c_36 => ?_)
    · refine lv_iconst (v := nI 0) hx hb dX3_sign_43 rfl ?_
      refine b_iaddN CX dX3_sign_44 ?_
      refine b_top (x := nI (pp + 0)) (y := nI pp) (rfl) ?_
      refine pf_X3_132_8 CX hM.o0 hS (hM.B (by decide)) rfl rfl (Nat.le_of_ble_eq_true rfl) dX3_sign_45 (fun H1 locs hat hu hS => ?_)
      have hM : MW G B0 o H H1 (enc S) sp sv (fun j => nI (t j)) sa (nI tn) th (nI pp) iw lt on ot nu di := hM.set0 hat hu
      refine lv_iload_n hx hb dX3_sign_48 rfl (lv_at hl 0 rfl) ?_
      rw [← hQ]
      exact b_zret CX hr hlk hS (Nat.le_of_ble_eq_true rfl) (Nat.le_of_ble_eq_true rfl) rfl dX3_sign_49 (Or.inr (⟨(by omega), rfl, hM⟩))
    · exact absurd c_36 (by decide)
  · refine lv_aload_n hx hb dX3_sign_11 rfl (lv_at hl 0 rfl) ?_
    refine gf_X3_19_8 CX hM.o0 rfl dX3_sign_12 ?_
    refine lv_aload_n hx hb dX3_sign_15 rfl (lv_at hl 0 rfl) ?_
    refine gf_X3_132_8 CX hM.o0 rfl dX3_sign_16 ?_
    have ht_2 := ht pp
    refine b_ild CX hM.o4 (x := nI (t pp)) (vp_in_nI (by omega) (by omega)) (b_at_nI (f := fun j => nI (t j)) (n := pp) (by omega) rfl) dX3_sign_19 ?_
    refine lv_iload_n hx hb dX3_sign_20 rfl (lv_at hl 1 rfl) ?_
    refine b_icmp_neN (tgt := 28) CX (by omega) (by omega) dX3_sign_21 (by decide) (fun c_21 => ?_) (fun c_21 => ?_)
    · refine lv_iconst (v := nI 0) hx hb dX3_sign_28 rfl ?_
      refine lv_istore_n (lv' := [(2, .int (nI 0)), (0, .ref (o 0)), (1, .int (nI x))]) hx hb dX3_sign_29 rfl hl (Nat.le_of_ble_eq_true rfl) rfl (fun ls hl => ?_)
      refine lv_aload_n hx hb dX3_sign_30 rfl (lv_at hl 1 rfl) ?_
      refine lv_dup hx hb dX3_sign_31 rfl ?_
      refine gf_X3_132_8 CX hM.o0 rfl dX3_sign_32 ?_
      refine lv_iload_n hx hb dX3_sign_35 rfl (lv_at hl 0 rfl) ?_
      refine lv_if_eq (tgt := 43) hx hb dX3_sign_36 (by decide) (fun c_36 => ?_) (fun c_36 => ?_)
      · refine lv_iconst (v := nI 0) hx hb dX3_sign_43 rfl ?_
        refine b_iaddN CX dX3_sign_44 ?_
        refine b_top (x := nI (pp + 0)) (y := nI pp) (rfl) ?_
        refine pf_X3_132_8 CX hM.o0 hS (hM.B (by decide)) rfl rfl (Nat.le_of_ble_eq_true rfl) dX3_sign_45 (fun H3 locs hat hu hS => ?_)
        have hM : MW G B0 o H H3 (enc S) sp sv (fun j => nI (t j)) sa (nI tn) th (nI pp) iw lt on ot nu di := hM.set0 hat hu
        refine lv_iload_n hx hb dX3_sign_48 rfl (lv_at hl 0 rfl) ?_
        rw [← hQ]
        exact b_zret CX hr hlk hS (Nat.le_of_ble_eq_true rfl) (Nat.le_of_ble_eq_true rfl) rfl dX3_sign_49 (Or.inr (⟨(by omega), rfl, hM⟩))
      · exact absurd c_36 (by decide)
    · refine lv_iconst (v := nI 1) hx hb dX3_sign_24 rfl ?_
      refine lv_goto (tgt := 29) hx hb dX3_sign_25 (by decide) ?_
      refine lv_istore_n (lv' := [(2, .int (nI 1)), (0, .ref (o 0)), (1, .int (nI x))]) hx hb dX3_sign_29 rfl hl (Nat.le_of_ble_eq_true rfl) rfl (fun ls hl => ?_)
      refine lv_aload_n hx hb dX3_sign_30 rfl (lv_at hl 1 rfl) ?_
      refine lv_dup hx hb dX3_sign_31 rfl ?_
      refine gf_X3_132_8 CX hM.o0 rfl dX3_sign_32 ?_
      refine lv_iload_n hx hb dX3_sign_35 rfl (lv_at hl 0 rfl) ?_
      refine lv_if_eq (tgt := 43) hx hb dX3_sign_36 (by decide) (fun c_36 => ?_) (fun c_36 => ?_)
      · exact absurd c_36 (by decide)
      · refine lv_iconst (v := nI 1) hx hb dX3_sign_39 rfl ?_
        refine lv_goto (tgt := 44) hx hb dX3_sign_40 (by decide) ?_
        refine b_iaddN CX dX3_sign_44 ?_
        refine pf_X3_132_8 CX hM.o0 hS (hM.B (by decide)) rfl rfl (Nat.le_of_ble_eq_true rfl) dX3_sign_45 (fun H4 locs hat hu hS => ?_)
        have hM : MW G B0 o H H4 (enc S) sp sv (fun j => nI (t j)) sa (nI tn) th (nI (pp + 1)) iw lt on ot nu di := hM.set0 hat hu
        refine lv_iload_n hx hb dX3_sign_48 rfl (lv_at hl 0 rfl) ?_
        rw [← hQ]
        exact b_zret CX hr hlk hS (Nat.le_of_ble_eq_true rfl) (Nat.le_of_ble_eq_true rfl) rfl dX3_sign_49 (Or.inl ⟨⟨by omega, by assumption⟩, rfl, hM⟩)
theorem pf_X3_135_8 {p : Program} {l : Launch} {e : Env} {R : Room} {s : State} {m : MethodId} {args : Array Value} {below : List Frame} {meth : Method} {c : Code} {H : Heap} {locs : List Loc} {cells slots : Nat} {Q : State → Prop} {cc : ByteArray} {pc nL a : Nat} {ls : Array Slot} {rest : List Value} {G : b_G} {B0 : Nat} (CX : b_Cx p s m args c cc nL RX3 G B0) {fs : List Value} (hP : b_at G a (.inr (8, fs)) H) (hS : va_S (b_A B0) s.heap H locs) (ha : B0 ≤ a) {v : Value} (hn : narrow (tyX3 15) v = v) (hfit : fits (tyX3 15) v = true) (hl : 15 < fs.length) (hdg : decode cc pc = .ok (.putfield 135, 3)) (kk : ∀ (H1 : Heap) (locs1 : List Loc), b_at G a (.inr (8, fs.set 15 v)) H1 → b_Up a H H1 → va_S (b_A B0) s.heap H1 locs1 → W p l e R s m args below meth c H1 locs1 cells slots Q (F0 m (pc + 3) ls rest)) : W p l e R s m args below meth c H locs cells slots Q (F0 m pc ls (v :: .ref a :: rest)) := b_put CX in_X3 tyX3 tyX3_ok rfl 15 (by decide) (by decide +kernel) q1861 (Or.inl rfl) rfl hP hS ha hn hfit hl hdg kk
theorem gf_X3_135_8 {p : Program} {l : Launch} {e : Env} {R : Room} {s : State} {m : MethodId} {args : Array Value} {below : List Frame} {meth : Method} {c : Code} {H : Heap} {locs : List Loc} {cells slots : Nat} {Q : State → Prop} {cc : ByteArray} {pc nL a : Nat} {ls : Array Slot} {rest : List Value} {G : b_G} {B0 : Nat} (CX : b_Cx p s m args c cc nL RX3 G B0) {fs : List Value} (hP : b_at G a (.inr (8, fs)) H) {v : Value} (hv : fs[15]? = some v) (hdg : decode cc pc = .ok (.getfield 135, 3)) (kk : W p l e R s m args below meth c H locs cells slots Q (F0 m (pc + 3) ls (v :: rest))) : W p l e R s m args below meth c H locs cells slots Q (F0 m pc ls (.ref a :: rest)) := b_get CX in_X3 rfl 15 (by decide) q1861 (Or.inl rfl) hP hv hdg kk
set_option maxHeartbeats 2000000 in
set_option maxRecDepth 100000 in
theorem m_X3_digitTo (l : Launch) {G : b_G} {B0 : Nat} {o : Nat → Nat} {Hr H : Heap} {S : b_St} {sp sv : Nat → Int32} {t : Nat → Nat} {tn pp : Nat} {sa th iw lt on ot nu di : Int32} {hi : Nat} (hM : MW G B0 o Hr H (enc S) sp sv (fun j => nI (t j)) sa (nI tn) th (nI pp) iw lt on ot nu di) (ht : ∀ j, t j < 128) (hn : tn ≤ 60) (hp : pp ≤ tn) (hhi : hi < 10) : Met l yX3_digitTo (ws_ yX3_digitTo cX3_digitTo 3 (Option.some Jvm.ClassFile.FieldType.boolean)) ({ frames := 1, cells := 0, slots := 0, locals := 22 } : Room) (b_Pc G B0 H [.ref (o 0), .int (nI hi)]) (b_Qi B0 (fun r H1 => (((pp < tn ∧ 48 ≤ t pp ∧ t pp ≤ 48 + hi)) ∧ r = nI 1 ∧ MW G B0 o H H1 (enc S) sp sv (fun j => nI (t j)) sa (nI tn) th (nI (pp + 1)) iw lt on ot nu (nI ((t pp) - 48))) ∨ (∃ di9 : Int32, ((¬ (pp < tn ∧ 48 ≤ t pp ∧ t pp ≤ 48 + hi))) ∧ r = nI 0 ∧ MW G B0 o H H1 (enc S) sp sv (fun j => nI (t j)) sa (nI tn) th (nI pp) iw lt on ot nu di9))) 0 0 (b_A B0) := by
  refine b_of (by decide) (Nat.le_of_ble_eq_true rfl) ?_
  intro p e s m below meth c CX hr hlk hnm hS ls hl
  have CX : b_Cx p s m _ c cX3_digitTo 3 RX3 G B0 := CX
  have hx := CX.hx
  have hb := CX.hb
  have hl : lv_has ls 3 [(0, .ref (o 0)), (1, .int (nI hi))] := hl
  generalize hQ : MQ below (b_Qi B0 (fun r H1 => (((pp < tn ∧ 48 ≤ t pp ∧ t pp ≤ 48 + hi)) ∧ r = nI 1 ∧ MW G B0 o H H1 (enc S) sp sv (fun j => nI (t j)) sa (nI tn) th (nI (pp + 1)) iw lt on ot nu (nI ((t pp) - 48))) ∨ (∃ di9 : Int32, ((¬ (pp < tn ∧ 48 ≤ t pp ∧ t pp ≤ 48 + hi))) ∧ r = nI 0 ∧ MW G B0 o H H1 (enc S) sp sv (fun j => nI (t j)) sa (nI tn) th (nI pp) iw lt on ot nu di9))) ([.ref (o 0), .int (nI hi)] : List Value).toArray s 0 0 (b_A B0) = Q
  have hM := hM.re
  refine lv_aload_n hx hb dX3_digitTo_0 rfl (lv_at hl 0 rfl) ?_
  refine lv_aload_n hx hb dX3_digitTo_1 rfl (lv_at hl 0 rfl) ?_
  refine gf_X3_132_8 CX hM.o0 rfl dX3_digitTo_2 ?_
  refine lv_aload_n hx hb dX3_digitTo_5 rfl (lv_at hl 0 rfl) ?_
  refine gf_X3_129_8 CX hM.o0 rfl dX3_digitTo_6 ?_
  refine b_icmp_geN (tgt := 27) CX (by omega) (by omega) dX3_digitTo_9 (by decide) (fun c_9 => ?_) (fun c_9 => ?_)
  · refine lv_iconst (v := -1) hx hb dX3_digitTo_27 rfl ?_
    refine pf_X3_135_8 CX hM.o0 hS (hM.B (by decide)) rfl rfl (Nat.le_of_ble_eq_true rfl) dX3_digitTo_28 (fun H1 locs hat hu hS => ?_)
    have hM : MW G B0 o H H1 (enc S) sp sv (fun j => nI (t j)) sa (nI tn) th (nI pp) iw lt on ot nu (-1) := hM.set0 hat hu
    refine lv_aload_n hx hb dX3_digitTo_31 rfl (lv_at hl 0 rfl) ?_
    refine gf_X3_135_8 CX hM.o0 rfl dX3_digitTo_32 ?_
    refine lv_iconst (v := nI 0) hx hb dX3_digitTo_35 rfl ?_
    refine lv_iload_n hx hb dX3_digitTo_36 rfl (lv_at hl 1 rfl) ?_
    refine b_ci0 (cs_X3_35 (rest := []) CX hl.1 (m_X3_in l (x := -1) (lo := nI 0) (hi := nI hi)  ) rfl hS rfl ⟨rfl, rfl, Nat.le_of_ble_eq_true rfl, Nat.le_of_ble_eq_true rfl⟩ (Nat.le_of_ble_eq_true rfl) dX3_digitTo_37 ⟨Nat.le_of_ble_eq_true rfl, Nat.le_of_ble_eq_true rfl⟩) hS (fun locs hS => ?_)
    refine b_top (x := bI ((nI 0) ≤ (-1) ∧ (-1) ≤ (nI hi))) (y := nI 0) (bI_f (fun q => absurd q.1 (by decide))) ?_
    refine lv_istore_n (lv' := [(2, .int (nI 0)), (0, .ref (o 0)), (1, .int (nI hi))]) hx hb dX3_digitTo_40 rfl hl (Nat.le_of_ble_eq_true rfl) rfl (fun ls hl => ?_)
    refine lv_aload_n hx hb dX3_digitTo_41 rfl (lv_at hl 1 rfl) ?_
    refine lv_dup hx hb dX3_digitTo_42 rfl ?_
    refine gf_X3_132_8 CX hM.o0 rfl dX3_digitTo_43 ?_
    refine lv_iload_n hx hb dX3_digitTo_46 rfl (lv_at hl 0 rfl) ?_
    refine lv_if_eq (tgt := 54) hx hb dX3_digitTo_47 (by decide) (fun c_47 => ?_) (fun c_47 => ?_)
    · refine lv_iconst (v := nI 0) hx hb dX3_digitTo_54 rfl ?_
      refine b_iaddN CX dX3_digitTo_55 ?_
      refine pf_X3_132_8 CX hM.o0 hS (hM.B (by decide)) rfl rfl (Nat.le_of_ble_eq_true rfl) dX3_digitTo_56 (fun H2 locs hat hu hS => ?_)
      have hM : MW G B0 o H H2 (enc S) sp sv (fun j => nI (t j)) sa (nI tn) th (nI (pp + 0)) iw lt on ot nu (-1) := hM.set0 hat hu
      refine lv_iload_n hx hb dX3_digitTo_59 rfl (lv_at hl 0 rfl) ?_
      rw [← hQ]
      exact b_zret CX hr hlk hS (Nat.le_of_ble_eq_true rfl) (Nat.le_of_ble_eq_true rfl) rfl dX3_digitTo_60 (Or.inr (⟨_, (by omega), rfl, hM⟩))
    · exact absurd c_47 (by decide)
  · refine lv_aload_n hx hb dX3_digitTo_12 rfl (lv_at hl 0 rfl) ?_
    refine gf_X3_19_8 CX hM.o0 rfl dX3_digitTo_13 ?_
    refine lv_aload_n hx hb dX3_digitTo_16 rfl (lv_at hl 0 rfl) ?_
    refine gf_X3_132_8 CX hM.o0 rfl dX3_digitTo_17 ?_
    have ht_3 := ht pp
    refine b_ild CX hM.o4 (x := nI (t pp)) (vp_in_nI (by omega) (by omega)) (b_at_nI (f := fun j => nI (t j)) (n := pp) (by omega) rfl) dX3_digitTo_20 ?_
    refine lv_bipush (v := nI 48) hx hb dX3_digitTo_21 rfl ?_
    refine lv_isub hx hb dX3_digitTo_23 ?_
    refine lv_goto (tgt := 28) hx hb dX3_digitTo_24 (by decide) ?_
    refine pf_X3_135_8 CX hM.o0 hS (hM.B (by decide)) rfl rfl (Nat.le_of_ble_eq_true rfl) dX3_digitTo_28 (fun H4 locs hat hu hS => ?_)
    have hM : MW G B0 o H H4 (enc S) sp sv (fun j => nI (t j)) sa (nI tn) th (nI pp) iw lt on ot nu ((nI (t pp)) - (nI 48)) := hM.set0 hat hu
    refine lv_aload_n hx hb dX3_digitTo_31 rfl (lv_at hl 0 rfl) ?_
    refine gf_X3_135_8 CX hM.o0 rfl dX3_digitTo_32 ?_
    refine lv_iconst (v := nI 0) hx hb dX3_digitTo_35 rfl ?_
    refine lv_iload_n hx hb dX3_digitTo_36 rfl (lv_at hl 1 rfl) ?_
    refine b_ci0 (cs_X3_35 (rest := []) CX hl.1 (m_X3_in l (x := (nI (t pp)) - (nI 48)) (lo := nI 0) (hi := nI hi)  ) rfl hS rfl ⟨rfl, rfl, Nat.le_of_ble_eq_true rfl, Nat.le_of_ble_eq_true rfl⟩ (Nat.le_of_ble_eq_true rfl) dX3_digitTo_37 ⟨Nat.le_of_ble_eq_true rfl, Nat.le_of_ble_eq_true rfl⟩) hS (fun locs hS => ?_)
    refine b_top (x := bI ((nI 0) ≤ ((nI (t pp)) - (nI 48)) ∧ ((nI (t pp)) - (nI 48)) ≤ (nI hi))) (y := bI (48 ≤ t pp ∧ t pp ≤ 48 + hi)) (by unfold bI; simp only [q_dg_in (ht pp) hhi]) ?_
    refine lv_istore_n (lv' := [(2, .int (bI (48 ≤ t pp ∧ t pp ≤ 48 + hi))), (0, .ref (o 0)), (1, .int (nI hi))]) hx hb dX3_digitTo_40 rfl hl (Nat.le_of_ble_eq_true rfl) rfl (fun ls hl => ?_)
    refine lv_aload_n hx hb dX3_digitTo_41 rfl (lv_at hl 1 rfl) ?_
    refine lv_dup hx hb dX3_digitTo_42 rfl ?_
    refine gf_X3_132_8 CX hM.o0 rfl dX3_digitTo_43 ?_
    refine lv_iload_n hx hb dX3_digitTo_46 rfl (lv_at hl 0 rfl) ?_
    refine b_ifeq (tgt := 54) CX dX3_digitTo_47 (by decide) (fun c_47 => ?_) (fun c_47 => ?_)
    · rw [bI_f c_47] at hl
      refine lv_iconst (v := nI 0) hx hb dX3_digitTo_54 rfl ?_
      refine b_iaddN CX dX3_digitTo_55 ?_
      refine pf_X3_132_8 CX hM.o0 hS (hM.B (by decide)) rfl rfl (Nat.le_of_ble_eq_true rfl) dX3_digitTo_56 (fun H5 locs hat hu hS => ?_)
      have hM : MW G B0 o H H5 (enc S) sp sv (fun j => nI (t j)) sa (nI tn) th (nI (pp + 0)) iw lt on ot nu ((nI (t pp)) - (nI 48)) := hM.set0 hat hu
      refine lv_iload_n hx hb dX3_digitTo_59 rfl (lv_at hl 0 rfl) ?_
      rw [← hQ]
      exact b_zret CX hr hlk hS (Nat.le_of_ble_eq_true rfl) (Nat.le_of_ble_eq_true rfl) rfl dX3_digitTo_60 (Or.inr (⟨_, (by omega), rfl, hM⟩))
    · rw [bI_t c_47] at hl
      rw [pk_sub (a := t pp) (b := 48) c_47.1] at hM
      refine lv_iconst (v := nI 1) hx hb dX3_digitTo_50 rfl ?_
      refine lv_goto (tgt := 55) hx hb dX3_digitTo_51 (by decide) ?_
      refine b_iaddN CX dX3_digitTo_55 ?_
      refine pf_X3_132_8 CX hM.o0 hS (hM.B (by decide)) rfl rfl (Nat.le_of_ble_eq_true rfl) dX3_digitTo_56 (fun H6 locs hat hu hS => ?_)
      have hM : MW G B0 o H H6 (enc S) sp sv (fun j => nI (t j)) sa (nI tn) th (nI (pp + 1)) iw lt on ot nu (nI ((t pp) - 48)) := hM.set0 hat hu
      refine lv_iload_n hx hb dX3_digitTo_59 rfl (lv_at hl 0 rfl) ?_
      rw [← hQ]
      exact b_zret CX hr hlk hS (Nat.le_of_ble_eq_true rfl) (Nat.le_of_ble_eq_true rfl) rfl dX3_digitTo_60 (Or.inl ⟨⟨by omega, by omega, by omega⟩, rfl, hM⟩)
theorem pf_X3_138_8 {p : Program} {l : Launch} {e : Env} {R : Room} {s : State} {m : MethodId} {args : Array Value} {below : List Frame} {meth : Method} {c : Code} {H : Heap} {locs : List Loc} {cells slots : Nat} {Q : State → Prop} {cc : ByteArray} {pc nL a : Nat} {ls : Array Slot} {rest : List Value} {G : b_G} {B0 : Nat} (CX : b_Cx p s m args c cc nL RX3 G B0) {fs : List Value} (hP : b_at G a (.inr (8, fs)) H) (hS : va_S (b_A B0) s.heap H locs) (ha : B0 ≤ a) {v : Value} (hn : narrow (tyX3 14) v = v) (hfit : fits (tyX3 14) v = true) (hl : 14 < fs.length) (hdg : decode cc pc = .ok (.putfield 138, 3)) (kk : ∀ (H1 : Heap) (locs1 : List Loc), b_at G a (.inr (8, fs.set 14 v)) H1 → b_Up a H H1 → va_S (b_A B0) s.heap H1 locs1 → W p l e R s m args below meth c H1 locs1 cells slots Q (F0 m (pc + 3) ls rest)) : W p l e R s m args below meth c H locs cells slots Q (F0 m pc ls (v :: .ref a :: rest)) := b_put CX in_X3 tyX3 tyX3_ok rfl 14 (by decide) (by decide +kernel) q1860 (Or.inl rfl) rfl hP hS ha hn hfit hl hdg kk
theorem gf_X3_138_8 {p : Program} {l : Launch} {e : Env} {R : Room} {s : State} {m : MethodId} {args : Array Value} {below : List Frame} {meth : Method} {c : Code} {H : Heap} {locs : List Loc} {cells slots : Nat} {Q : State → Prop} {cc : ByteArray} {pc nL a : Nat} {ls : Array Slot} {rest : List Value} {G : b_G} {B0 : Nat} (CX : b_Cx p s m args c cc nL RX3 G B0) {fs : List Value} (hP : b_at G a (.inr (8, fs)) H) {v : Value} (hv : fs[14]? = some v) (hdg : decode cc pc = .ok (.getfield 138, 3)) (kk : W p l e R s m args below meth c H locs cells slots Q (F0 m (pc + 3) ls (v :: rest))) : W p l e R s m args below meth c H locs cells slots Q (F0 m pc ls (.ref a :: rest)) := b_get CX in_X3 rfl 14 (by decide) q1860 (Or.inl rfl) hP hv hdg kk
set_option maxHeartbeats 2000000 in
set_option maxRecDepth 100000 in
theorem m_X3_readNumber (l : Launch) {G : b_G} {B0 : Nat} {o : Nat → Nat} {Hr H : Heap} {S : b_St} {sp sv : Nat → Int32} {t : Nat → Nat} {tn pp : Nat} {sa th iw lt on ot nu di : Int32} {hi : Nat} (hM : MW G B0 o Hr H (enc S) sp sv (fun j => nI (t j)) sa (nI tn) th (nI pp) iw lt on ot nu di) (ht : ∀ j, t j < 128) (hn : tn ≤ 60) (hp : pp ≤ tn) (hhi : hi ≤ 500) : Met l yX3_readNumber (ws_ yX3_readNumber cX3_readNumber 2 (Option.some Jvm.ClassFile.FieldType.boolean)) ({ frames := 1, cells := 0, slots := 0, locals := 22 } : Room) (b_Pc G B0 H [.ref (o 0), .int (nI hi)]) (b_Qi B0 (fun r H1 => (∃ p9 : Nat, ∃ v9 : Nat, (q_num t tn hi (tn - pp) pp 0 = (p9, v9)) ∧ (0 < v9 ∧ v9 ≤ hi) ∧ (p9 ≤ tn) ∧ r = nI 1 ∧ MW G B0 o H H1 (enc S) sp sv (fun j => nI (t j)) sa (nI tn) th (nI p9) iw lt on ot (nI v9) di) ∨ (∃ p9 : Nat, ∃ v9 : Nat, (q_num t tn hi (tn - pp) pp 0 = (p9, v9)) ∧ (v9 = 0) ∧ (p9 ≤ tn) ∧ r = nI 0 ∧ MW G B0 o H H1 (enc S) sp sv (fun j => nI (t j)) sa (nI tn) th (nI p9) iw lt on ot (nI v9) di))) 0 0 (b_A B0) := by
  refine b_of (by decide) (Nat.le_of_ble_eq_true rfl) ?_
  intro p e s m below meth c CX hr hlk hnm hS ls hl
  have CX : b_Cx p s m _ c cX3_readNumber 2 RX3 G B0 := CX
  have hx := CX.hx
  have hb := CX.hb
  have hl : lv_has ls 2 [(0, .ref (o 0)), (1, .int (nI hi))] := hl
  generalize hQ : MQ below (b_Qi B0 (fun r H1 => (∃ p9 : Nat, ∃ v9 : Nat, (q_num t tn hi (tn - pp) pp 0 = (p9, v9)) ∧ (0 < v9 ∧ v9 ≤ hi) ∧ (p9 ≤ tn) ∧ r = nI 1 ∧ MW G B0 o H H1 (enc S) sp sv (fun j => nI (t j)) sa (nI tn) th (nI p9) iw lt on ot (nI v9) di) ∨ (∃ p9 : Nat, ∃ v9 : Nat, (q_num t tn hi (tn - pp) pp 0 = (p9, v9)) ∧ (v9 = 0) ∧ (p9 ≤ tn) ∧ r = nI 0 ∧ MW G B0 o H H1 (enc S) sp sv (fun j => nI (t j)) sa (nI tn) th (nI p9) iw lt on ot (nI v9) di))) ([.ref (o 0), .int (nI hi)] : List Value).toArray s 0 0 (b_A B0) = Q
  have hM := hM.re
  refine lv_aload_n hx hb dX3_readNumber_0 rfl (lv_at hl 0 rfl) ?_
  refine lv_iconst (v := nI 0) hx hb dX3_readNumber_1 rfl ?_
  refine pf_X3_138_8 CX hM.o0 hS (hM.B (by decide)) rfl rfl (Nat.le_of_ble_eq_true rfl) dX3_readNumber_2 (fun H1 locs hat hu hS => ?_)
  have hM : MW G B0 o H H1 (enc S) sp sv (fun j => nI (t j)) sa (nI tn) th (nI pp) iw lt on ot (nI 0) di := hM.set0 hat hu
  have lp5_2 : ∀ (n_ : Nat) (i : Nat) (v : Nat), i ≤ tn → v ≤ hi → q_num t tn hi (tn - i) i v = q_num t tn hi (tn - pp) pp 0 → tn - i < n_ → ∀ (H3 : Heap), MW G B0 o H H3 (enc S) sp sv (fun j => nI (t j)) sa (nI tn) th (nI i) iw lt on ot (nI v) di → ∀ (locs : List Loc), va_S (b_A B0) s.heap H3 locs → ∀ ls : Array Slot, lv_has ls 2 [(0, .ref (o 0)), (1, .int (nI hi))] → W p l e ({ frames := 1, cells := 0, slots := 0, locals := 22 } : Room) s m ([.ref (o 0), .int (nI hi)] : List Value).toArray below meth c H3 locs 0 0 Q (F0 m 5 ls []) := by
    intro n_
    induction n_ with
    | zero => intro i v hi1 hv hq hlt H3 hM locs hS ls hl; exact absurd hlt (Nat.not_lt_zero _)
    | succ n_ ih5 =>
      intro i v hi1 hv hq hlt H3 hM locs hS ls hl
      refine lv_aload_n hx hb dX3_readNumber_5 rfl (lv_at hl 0 rfl) ?_
      refine gf_X3_132_8 CX hM.o0 rfl dX3_readNumber_6 ?_
      refine lv_aload_n hx hb dX3_readNumber_9 rfl (lv_at hl 0 rfl) ?_
      refine gf_X3_129_8 CX hM.o0 rfl dX3_readNumber_10 ?_
      refine b_icmp_geN (tgt := 108) CX (by omega) (by omega) dX3_readNumber_13 (by decide) (fun c_13 => ?_) (fun c_13 => ?_)
      · refine lv_aload_n hx hb dX3_readNumber_108 rfl (lv_at hl 0 rfl) ?_
        refine gf_X3_138_8 CX hM.o0 rfl dX3_readNumber_109 ?_
        refine b_if_leN (tgt := 119) CX (by omega) dX3_readNumber_112 (by decide) (fun c_112 => ?_) (fun c_112 => ?_)
        · refine lv_iconst (v := nI 0) hx hb dX3_readNumber_119 rfl ?_
          rw [← hQ]
          exact b_zret CX hr hlk hS (Nat.le_of_ble_eq_true rfl) (Nat.le_of_ble_eq_true rfl) rfl dX3_readNumber_120 (Or.inr (⟨_, _, hq.symm.trans (q_num_e (by intro q9; obtain ⟨q1, q2, q3, q4⟩ := q9; first | omega | (rw [if_pos (by assumption)] at q2; omega) | (rw [if_neg (by assumption)] at q2; omega))), c_112, (by omega), rfl, hM⟩))
        · refine lv_iconst (v := nI 1) hx hb dX3_readNumber_115 rfl ?_
          refine lv_goto (tgt := 120) hx hb dX3_readNumber_116 (by decide) ?_
          rw [← hQ]
          exact b_zret CX hr hlk hS (Nat.le_of_ble_eq_true rfl) (Nat.le_of_ble_eq_true rfl) rfl dX3_readNumber_120 (Or.inl ⟨_, _, hq.symm.trans (q_num_e (by intro q9; obtain ⟨q1, q2, q3, q4⟩ := q9; first | omega | (rw [if_pos (by assumption)] at q2; omega) | (rw [if_neg (by assumption)] at q2; omega))), ⟨c_112, hv⟩, (by omega), rfl, hM⟩)
      · refine lv_aload_n hx hb dX3_readNumber_16 rfl (lv_at hl 0 rfl) ?_
        refine gf_X3_19_8 CX hM.o0 rfl dX3_readNumber_17 ?_
        refine lv_aload_n hx hb dX3_readNumber_20 rfl (lv_at hl 0 rfl) ?_
        refine gf_X3_132_8 CX hM.o0 rfl dX3_readNumber_21 ?_
        have ht_4 := ht i
        refine b_ild CX hM.o4 (x := nI (t i)) (vp_in_nI (by omega) (by omega)) (b_at_nI (f := fun j => nI (t j)) (n := i) (by omega) rfl) dX3_readNumber_24 ?_
        refine lv_aload_n hx hb dX3_readNumber_25 rfl (lv_at hl 0 rfl) ?_
        refine gf_X3_138_8 CX hM.o0 rfl dX3_readNumber_26 ?_
        refine b_if_neN (tgt := 37) CX (by omega) dX3_readNumber_29 (by decide) (fun c_29 => ?_) (fun c_29 => ?_)
        · refine lv_bipush (v := nI 48) hx hb dX3_readNumber_37 rfl ?_
          refine lv_bipush (v := nI 57) hx hb dX3_readNumber_39 rfl ?_
          refine b_ci0 (cs_X3_35 (rest := []) CX hl.1 (m_X3_in_n l (x := t i) (lo := 48) (hi := 57)  (by omega) (by omega) (by omega)) rfl hS rfl ⟨rfl, rfl, Nat.le_of_ble_eq_true rfl, Nat.le_of_ble_eq_true rfl⟩ (Nat.le_of_ble_eq_true rfl) dX3_readNumber_41 ⟨Nat.le_of_ble_eq_true rfl, Nat.le_of_ble_eq_true rfl⟩) hS (fun locs hS => ?_)
          refine b_ifeq (tgt := 108) CX dX3_readNumber_44 (by decide) (fun c_44 => ?_) (fun c_44 => ?_)
          · refine lv_aload_n hx hb dX3_readNumber_108 rfl (lv_at hl 0 rfl) ?_
            refine gf_X3_138_8 CX hM.o0 rfl dX3_readNumber_109 ?_
            refine b_if_leN (tgt := 119) CX (by omega) dX3_readNumber_112 (by decide) (fun c_112 => ?_) (fun c_112 => ?_)
            · refine lv_iconst (v := nI 0) hx hb dX3_readNumber_119 rfl ?_
              rw [← hQ]
              exact b_zret CX hr hlk hS (Nat.le_of_ble_eq_true rfl) (Nat.le_of_ble_eq_true rfl) rfl dX3_readNumber_120 (Or.inr (⟨_, _, hq.symm.trans (q_num_e (by intro q9; obtain ⟨q1, q2, q3, q4⟩ := q9; first | omega | (rw [if_pos (by assumption)] at q2; omega) | (rw [if_neg (by assumption)] at q2; omega))), c_112, (by omega), rfl, hM⟩))
            · refine lv_iconst (v := nI 1) hx hb dX3_readNumber_115 rfl ?_
              refine lv_goto (tgt := 120) hx hb dX3_readNumber_116 (by decide) ?_
              rw [← hQ]
              exact b_zret CX hr hlk hS (Nat.le_of_ble_eq_true rfl) (Nat.le_of_ble_eq_true rfl) rfl dX3_readNumber_120 (Or.inl ⟨_, _, hq.symm.trans (q_num_e (by intro q9; obtain ⟨q1, q2, q3, q4⟩ := q9; first | omega | (rw [if_pos (by assumption)] at q2; omega) | (rw [if_neg (by assumption)] at q2; omega))), ⟨c_112, hv⟩, (by omega), rfl, hM⟩)
          · refine lv_bipush (v := nI 10) hx hb dX3_readNumber_47 rfl ?_
            refine lv_aload_n hx hb dX3_readNumber_49 rfl (lv_at hl 0 rfl) ?_
            refine gf_X3_138_8 CX hM.o0 rfl dX3_readNumber_50 ?_
            refine b_imulN CX dX3_readNumber_53 ?_
            refine lv_aload_n hx hb dX3_readNumber_54 rfl (lv_at hl 0 rfl) ?_
            refine gf_X3_19_8 CX hM.o0 rfl dX3_readNumber_55 ?_
            refine lv_aload_n hx hb dX3_readNumber_58 rfl (lv_at hl 0 rfl) ?_
            refine gf_X3_132_8 CX hM.o0 rfl dX3_readNumber_59 ?_
            have ht_5 := ht i
            refine b_ild CX hM.o4 (x := nI (t i)) (vp_in_nI (by omega) (by omega)) (b_at_nI (f := fun j => nI (t j)) (n := i) (by omega) rfl) dX3_readNumber_62 ?_
            refine b_iaddN CX dX3_readNumber_63 ?_
            refine lv_bipush (v := nI 48) hx hb dX3_readNumber_64 rfl ?_
            refine b_isubN CX (by omega) dX3_readNumber_66 ?_
            refine lv_iload_n hx hb dX3_readNumber_67 rfl (lv_at hl 1 rfl) ?_
            refine b_icmp_gtN (tgt := 108) CX (by omega) (by omega) dX3_readNumber_68 (by decide) (fun c_68 => ?_) (fun c_68 => ?_)
            · refine lv_aload_n hx hb dX3_readNumber_108 rfl (lv_at hl 0 rfl) ?_
              refine gf_X3_138_8 CX hM.o0 rfl dX3_readNumber_109 ?_
              refine b_if_leN (tgt := 119) CX (by omega) dX3_readNumber_112 (by decide) (fun c_112 => ?_) (fun c_112 => ?_)
              · refine lv_iconst (v := nI 0) hx hb dX3_readNumber_119 rfl ?_
                rw [← hQ]
                exact b_zret CX hr hlk hS (Nat.le_of_ble_eq_true rfl) (Nat.le_of_ble_eq_true rfl) rfl dX3_readNumber_120 (Or.inr (⟨_, _, hq.symm.trans (q_num_e (by intro q9; obtain ⟨q1, q2, q3, q4⟩ := q9; first | omega | (rw [if_pos (by assumption)] at q2; omega) | (rw [if_neg (by assumption)] at q2; omega))), c_112, (by omega), rfl, hM⟩))
              · refine lv_iconst (v := nI 1) hx hb dX3_readNumber_115 rfl ?_
                refine lv_goto (tgt := 120) hx hb dX3_readNumber_116 (by decide) ?_
                rw [← hQ]
                exact b_zret CX hr hlk hS (Nat.le_of_ble_eq_true rfl) (Nat.le_of_ble_eq_true rfl) rfl dX3_readNumber_120 (Or.inl ⟨_, _, hq.symm.trans (q_num_e (by intro q9; obtain ⟨q1, q2, q3, q4⟩ := q9; first | omega | (rw [if_pos (by assumption)] at q2; omega) | (rw [if_neg (by assumption)] at q2; omega))), ⟨c_112, hv⟩, (by omega), rfl, hM⟩)
            · refine lv_aload_n hx hb dX3_readNumber_71 rfl (lv_at hl 0 rfl) ?_
              refine lv_bipush (v := nI 10) hx hb dX3_readNumber_72 rfl ?_
              refine lv_aload_n hx hb dX3_readNumber_74 rfl (lv_at hl 0 rfl) ?_
              refine gf_X3_138_8 CX hM.o0 rfl dX3_readNumber_75 ?_
              refine b_imulN CX dX3_readNumber_78 ?_
              refine lv_aload_n hx hb dX3_readNumber_79 rfl (lv_at hl 0 rfl) ?_
              refine gf_X3_19_8 CX hM.o0 rfl dX3_readNumber_80 ?_
              refine lv_aload_n hx hb dX3_readNumber_83 rfl (lv_at hl 0 rfl) ?_
              refine gf_X3_132_8 CX hM.o0 rfl dX3_readNumber_84 ?_
              have ht_6 := ht i
              refine b_ild CX hM.o4 (x := nI (t i)) (vp_in_nI (by omega) (by omega)) (b_at_nI (f := fun j => nI (t j)) (n := i) (by omega) rfl) dX3_readNumber_87 ?_
              refine b_iaddN CX dX3_readNumber_88 ?_
              refine lv_bipush (v := nI 48) hx hb dX3_readNumber_89 rfl ?_
              refine b_isubN CX (by omega) dX3_readNumber_91 ?_
              refine pf_X3_138_8 CX hM.o0 hS (hM.B (by decide)) rfl rfl (Nat.le_of_ble_eq_true rfl) dX3_readNumber_92 (fun H7 locs hat hu hS => ?_)
              have hM : MW G B0 o H H7 (enc S) sp sv (fun j => nI (t j)) sa (nI tn) th (nI i) iw lt on ot (nI (10 * v + (t i) - 48)) di := hM.set0 hat hu
              refine lv_aload_n hx hb dX3_readNumber_95 rfl (lv_at hl 0 rfl) ?_
              refine lv_dup hx hb dX3_readNumber_96 rfl ?_
              refine gf_X3_132_8 CX hM.o0 rfl dX3_readNumber_97 ?_
              refine lv_iconst (v := nI 1) hx hb dX3_readNumber_100 rfl ?_
              refine b_iaddN CX dX3_readNumber_101 ?_
              refine pf_X3_132_8 CX hM.o0 hS (hM.B (by decide)) rfl rfl (Nat.le_of_ble_eq_true rfl) dX3_readNumber_102 (fun H8 locs hat hu hS => ?_)
              have hM : MW G B0 o H H8 (enc S) sp sv (fun j => nI (t j)) sa (nI tn) th (nI (i + 1)) iw lt on ot (nI (10 * v + (t i) - 48)) di := hM.set0 hat hu
              refine lv_goto (tgt := 5) hx hb dX3_readNumber_105 (by decide) ?_
              exact ih5 (i + 1) (10 * v + (t i) - 48) (by omega) (by omega) ((q_num_s (by omega) (by first | (rw [if_pos (by assumption)]; omega) | (rw [if_neg (by assumption)]; omega)) (by omega) (by omega)).trans hq) (by omega) H8 hM _ hS ls (lv_sub hl [0, 1] rfl)
        · refine lv_bipush (v := nI 49) hx hb dX3_readNumber_32 rfl ?_
          refine lv_goto (tgt := 39) hx hb dX3_readNumber_34 (by decide) ?_
          refine lv_bipush (v := nI 57) hx hb dX3_readNumber_39 rfl ?_
          refine b_ci0 (cs_X3_35 (rest := []) CX hl.1 (m_X3_in_n l (x := t i) (lo := 49) (hi := 57)  (by omega) (by omega) (by omega)) rfl hS rfl ⟨rfl, rfl, Nat.le_of_ble_eq_true rfl, Nat.le_of_ble_eq_true rfl⟩ (Nat.le_of_ble_eq_true rfl) dX3_readNumber_41 ⟨Nat.le_of_ble_eq_true rfl, Nat.le_of_ble_eq_true rfl⟩) hS (fun locs hS => ?_)
          refine b_ifeq (tgt := 108) CX dX3_readNumber_44 (by decide) (fun c_44 => ?_) (fun c_44 => ?_)
          · refine lv_aload_n hx hb dX3_readNumber_108 rfl (lv_at hl 0 rfl) ?_
            refine gf_X3_138_8 CX hM.o0 rfl dX3_readNumber_109 ?_
            refine b_if_leN (tgt := 119) CX (by omega) dX3_readNumber_112 (by decide) (fun c_112 => ?_) (fun c_112 => ?_)
            · refine lv_iconst (v := nI 0) hx hb dX3_readNumber_119 rfl ?_
              rw [← hQ]
              exact b_zret CX hr hlk hS (Nat.le_of_ble_eq_true rfl) (Nat.le_of_ble_eq_true rfl) rfl dX3_readNumber_120 (Or.inr (⟨_, _, hq.symm.trans (q_num_e (by intro q9; obtain ⟨q1, q2, q3, q4⟩ := q9; first | omega | (rw [if_pos (by assumption)] at q2; omega) | (rw [if_neg (by assumption)] at q2; omega))), c_112, (by omega), rfl, hM⟩))
            · refine lv_iconst (v := nI 1) hx hb dX3_readNumber_115 rfl ?_
              refine lv_goto (tgt := 120) hx hb dX3_readNumber_116 (by decide) ?_
              rw [← hQ]
              exact b_zret CX hr hlk hS (Nat.le_of_ble_eq_true rfl) (Nat.le_of_ble_eq_true rfl) rfl dX3_readNumber_120 (Or.inl ⟨_, _, hq.symm.trans (q_num_e (by intro q9; obtain ⟨q1, q2, q3, q4⟩ := q9; first | omega | (rw [if_pos (by assumption)] at q2; omega) | (rw [if_neg (by assumption)] at q2; omega))), ⟨c_112, hv⟩, (by omega), rfl, hM⟩)
          · refine lv_bipush (v := nI 10) hx hb dX3_readNumber_47 rfl ?_
            refine lv_aload_n hx hb dX3_readNumber_49 rfl (lv_at hl 0 rfl) ?_
            refine gf_X3_138_8 CX hM.o0 rfl dX3_readNumber_50 ?_
            refine b_imulN CX dX3_readNumber_53 ?_
            refine lv_aload_n hx hb dX3_readNumber_54 rfl (lv_at hl 0 rfl) ?_
            refine gf_X3_19_8 CX hM.o0 rfl dX3_readNumber_55 ?_
            refine lv_aload_n hx hb dX3_readNumber_58 rfl (lv_at hl 0 rfl) ?_
            refine gf_X3_132_8 CX hM.o0 rfl dX3_readNumber_59 ?_
            have ht_9 := ht i
            refine b_ild CX hM.o4 (x := nI (t i)) (vp_in_nI (by omega) (by omega)) (b_at_nI (f := fun j => nI (t j)) (n := i) (by omega) rfl) dX3_readNumber_62 ?_
            refine b_iaddN CX dX3_readNumber_63 ?_
            refine lv_bipush (v := nI 48) hx hb dX3_readNumber_64 rfl ?_
            refine b_isubN CX (by omega) dX3_readNumber_66 ?_
            refine lv_iload_n hx hb dX3_readNumber_67 rfl (lv_at hl 1 rfl) ?_
            refine b_icmp_gtN (tgt := 108) CX (by omega) (by omega) dX3_readNumber_68 (by decide) (fun c_68 => ?_) (fun c_68 => ?_)
            · refine lv_aload_n hx hb dX3_readNumber_108 rfl (lv_at hl 0 rfl) ?_
              refine gf_X3_138_8 CX hM.o0 rfl dX3_readNumber_109 ?_
              refine b_if_leN (tgt := 119) CX (by omega) dX3_readNumber_112 (by decide) (fun c_112 => ?_) (fun c_112 => ?_)
              · refine lv_iconst (v := nI 0) hx hb dX3_readNumber_119 rfl ?_
                rw [← hQ]
                exact b_zret CX hr hlk hS (Nat.le_of_ble_eq_true rfl) (Nat.le_of_ble_eq_true rfl) rfl dX3_readNumber_120 (Or.inr (⟨_, _, hq.symm.trans (q_num_e (by intro q9; obtain ⟨q1, q2, q3, q4⟩ := q9; first | omega | (rw [if_pos (by assumption)] at q2; omega) | (rw [if_neg (by assumption)] at q2; omega))), c_112, (by omega), rfl, hM⟩))
              · refine lv_iconst (v := nI 1) hx hb dX3_readNumber_115 rfl ?_
                refine lv_goto (tgt := 120) hx hb dX3_readNumber_116 (by decide) ?_
                rw [← hQ]
                exact b_zret CX hr hlk hS (Nat.le_of_ble_eq_true rfl) (Nat.le_of_ble_eq_true rfl) rfl dX3_readNumber_120 (Or.inl ⟨_, _, hq.symm.trans (q_num_e (by intro q9; obtain ⟨q1, q2, q3, q4⟩ := q9; first | omega | (rw [if_pos (by assumption)] at q2; omega) | (rw [if_neg (by assumption)] at q2; omega))), ⟨c_112, hv⟩, (by omega), rfl, hM⟩)
            · refine lv_aload_n hx hb dX3_readNumber_71 rfl (lv_at hl 0 rfl) ?_
              refine lv_bipush (v := nI 10) hx hb dX3_readNumber_72 rfl ?_
              refine lv_aload_n hx hb dX3_readNumber_74 rfl (lv_at hl 0 rfl) ?_
              refine gf_X3_138_8 CX hM.o0 rfl dX3_readNumber_75 ?_
              refine b_imulN CX dX3_readNumber_78 ?_
              refine lv_aload_n hx hb dX3_readNumber_79 rfl (lv_at hl 0 rfl) ?_
              refine gf_X3_19_8 CX hM.o0 rfl dX3_readNumber_80 ?_
              refine lv_aload_n hx hb dX3_readNumber_83 rfl (lv_at hl 0 rfl) ?_
              refine gf_X3_132_8 CX hM.o0 rfl dX3_readNumber_84 ?_
              have ht_10 := ht i
              refine b_ild CX hM.o4 (x := nI (t i)) (vp_in_nI (by omega) (by omega)) (b_at_nI (f := fun j => nI (t j)) (n := i) (by omega) rfl) dX3_readNumber_87 ?_
              refine b_iaddN CX dX3_readNumber_88 ?_
              refine lv_bipush (v := nI 48) hx hb dX3_readNumber_89 rfl ?_
              refine b_isubN CX (by omega) dX3_readNumber_91 ?_
              refine pf_X3_138_8 CX hM.o0 hS (hM.B (by decide)) rfl rfl (Nat.le_of_ble_eq_true rfl) dX3_readNumber_92 (fun H11 locs hat hu hS => ?_)
              have hM : MW G B0 o H H11 (enc S) sp sv (fun j => nI (t j)) sa (nI tn) th (nI i) iw lt on ot (nI (10 * v + (t i) - 48)) di := hM.set0 hat hu
              refine lv_aload_n hx hb dX3_readNumber_95 rfl (lv_at hl 0 rfl) ?_
              refine lv_dup hx hb dX3_readNumber_96 rfl ?_
              refine gf_X3_132_8 CX hM.o0 rfl dX3_readNumber_97 ?_
              refine lv_iconst (v := nI 1) hx hb dX3_readNumber_100 rfl ?_
              refine b_iaddN CX dX3_readNumber_101 ?_
              refine pf_X3_132_8 CX hM.o0 hS (hM.B (by decide)) rfl rfl (Nat.le_of_ble_eq_true rfl) dX3_readNumber_102 (fun H12 locs hat hu hS => ?_)
              have hM : MW G B0 o H H12 (enc S) sp sv (fun j => nI (t j)) sa (nI tn) th (nI (i + 1)) iw lt on ot (nI (10 * v + (t i) - 48)) di := hM.set0 hat hu
              refine lv_goto (tgt := 5) hx hb dX3_readNumber_105 (by decide) ?_
              exact ih5 (i + 1) (10 * v + (t i) - 48) (by omega) (by omega) ((q_num_s (by omega) (by first | (rw [if_pos (by assumption)]; omega) | (rw [if_neg (by assumption)]; omega)) (by omega) (by omega)).trans hq) (by omega) H12 hM _ hS ls (lv_sub hl [0, 1] rfl)
  exact lp5_2 _ pp 0 (by omega) (Nat.zero_le _) rfl (Nat.lt_succ_self _) H1 hM _ hS ls (lv_sub hl [0, 1] rfl)
theorem pf_X3_141_8 {p : Program} {l : Launch} {e : Env} {R : Room} {s : State} {m : MethodId} {args : Array Value} {below : List Frame} {meth : Method} {c : Code} {H : Heap} {locs : List Loc} {cells slots : Nat} {Q : State → Prop} {cc : ByteArray} {pc nL a : Nat} {ls : Array Slot} {rest : List Value} {G : b_G} {B0 : Nat} (CX : b_Cx p s m args c cc nL RX3 G B0) {fs : List Value} (hP : b_at G a (.inr (8, fs)) H) (hS : va_S (b_A B0) s.heap H locs) (ha : B0 ≤ a) {v : Value} (hn : narrow (tyX3 10) v = v) (hfit : fits (tyX3 10) v = true) (hl : 10 < fs.length) (hdg : decode cc pc = .ok (.putfield 141, 3)) (kk : ∀ (H1 : Heap) (locs1 : List Loc), b_at G a (.inr (8, fs.set 10 v)) H1 → b_Up a H H1 → va_S (b_A B0) s.heap H1 locs1 → W p l e R s m args below meth c H1 locs1 cells slots Q (F0 m (pc + 3) ls rest)) : W p l e R s m args below meth c H locs cells slots Q (F0 m pc ls (v :: .ref a :: rest)) := b_put CX in_X3 tyX3 tyX3_ok rfl 10 (by decide) (by decide +kernel) q1856 (Or.inl rfl) rfl hP hS ha hn hfit hl hdg kk
theorem pf_X3_145_8 {p : Program} {l : Launch} {e : Env} {R : Room} {s : State} {m : MethodId} {args : Array Value} {below : List Frame} {meth : Method} {c : Code} {H : Heap} {locs : List Loc} {cells slots : Nat} {Q : State → Prop} {cc : ByteArray} {pc nL a : Nat} {ls : Array Slot} {rest : List Value} {G : b_G} {B0 : Nat} (CX : b_Cx p s m args c cc nL RX3 G B0) {fs : List Value} (hP : b_at G a (.inr (8, fs)) H) (hS : va_S (b_A B0) s.heap H locs) (ha : B0 ≤ a) {v : Value} (hn : narrow (tyX3 11) v = v) (hfit : fits (tyX3 11) v = true) (hl : 11 < fs.length) (hdg : decode cc pc = .ok (.putfield 145, 3)) (kk : ∀ (H1 : Heap) (locs1 : List Loc), b_at G a (.inr (8, fs.set 11 v)) H1 → b_Up a H H1 → va_S (b_A B0) s.heap H1 locs1 → W p l e R s m args below meth c H1 locs1 cells slots Q (F0 m (pc + 3) ls rest)) : W p l e R s m args below meth c H locs cells slots Q (F0 m pc ls (v :: .ref a :: rest)) := b_put CX in_X3 tyX3 tyX3_ok rfl 11 (by decide) (by decide +kernel) q1857 (Or.inl rfl) rfl hP hS ha hn hfit hl hdg kk
theorem gf_X3_145_8 {p : Program} {l : Launch} {e : Env} {R : Room} {s : State} {m : MethodId} {args : Array Value} {below : List Frame} {meth : Method} {c : Code} {H : Heap} {locs : List Loc} {cells slots : Nat} {Q : State → Prop} {cc : ByteArray} {pc nL a : Nat} {ls : Array Slot} {rest : List Value} {G : b_G} {B0 : Nat} (CX : b_Cx p s m args c cc nL RX3 G B0) {fs : List Value} (hP : b_at G a (.inr (8, fs)) H) {v : Value} (hv : fs[11]? = some v) (hdg : decode cc pc = .ok (.getfield 145, 3)) (kk : W p l e R s m args below meth c H locs cells slots Q (F0 m (pc + 3) ls (v :: rest))) : W p l e R s m args below meth c H locs cells slots Q (F0 m pc ls (.ref a :: rest)) := b_get CX in_X3 rfl 11 (by decide) q1857 (Or.inl rfl) hP hv hdg kk
theorem cs_X3_148 {p : Program} {l : Launch} {e : Env} {R : Room} {s : State} {m : MethodId} {args : Array Value} {below : List Frame} {meth : Method} {c : Code} {H : Heap} {locs : List Loc} {cells slots : Nat} {cc : ByteArray} {pc nL a : Nat} {ls : Array Slot} {rest : List Value} {G : b_G} {B0 : Nat} (CX : b_Cx p s m args c cc nL RX3 G B0) (hls : ls.size = nL) {rm : Room} {mc ms : Nat} {As st0 : List Value} {Qc : Array Value → State → Outcome → State → Prop} (hM : Met l yX3_digitTo (ws_ yX3_digitTo cX3_digitTo 3 (Option.some Jvm.ClassFile.FieldType.boolean)) rm (b_Pc G B0 H (.ref a :: As)) Qc mc ms (b_A B0)) (hn : As.length = 1) {fs : List Value} {ci : Nat} {qc : vw_C} (hc : b_cl[ci]? = some qc) (hq : qc.1 = RX3) (hP : b_at G a (.inr (ci, fs)) H) (hS : va_S (b_A B0) s.heap H locs) (hst : st0 = As.reverse ++ .ref a :: rest) (hr : rm.cells = mc ∧ rm.slots = ms ∧ rm.frames + 1 ≤ R.frames ∧ 8 + (3 + 11) + rm.locals ≤ R.locals) (hw : (rest.map fun v => v.category).sum ≤ 8) (hdg : decode cc pc = .ok (.invokevirtual 148, 3)) (hf : cells + mc ≤ R.cells ∧ slots + ms ≤ R.slots) : va_Run p l e R s m args below meth c H locs cells slots mc ms (F0 m pc ls st0) rest (Qc (Value.ref a :: As).toArray) (b_A B0) := va_runV CX.fix hM (cwV 1 CX.ts (lw_V q2084 q2086 qs64 q88 q2087) rfl hr.1 hr.2.1 (by decide +kernel) ⟨hr.2.2.1, hr.2.2.2⟩) ⟨b_blind G B0 H _, by have h9 := b_recv CX.K hc hP; rw [hq] at h9; exact h9, b_pre _ CX.K hS⟩ rfl hn hls hst (lv_room hw) hdg hf
theorem pf_X3_151_8 {p : Program} {l : Launch} {e : Env} {R : Room} {s : State} {m : MethodId} {args : Array Value} {below : List Frame} {meth : Method} {c : Code} {H : Heap} {locs : List Loc} {cells slots : Nat} {Q : State → Prop} {cc : ByteArray} {pc nL a : Nat} {ls : Array Slot} {rest : List Value} {G : b_G} {B0 : Nat} (CX : b_Cx p s m args c cc nL RX3 G B0) {fs : List Value} (hP : b_at G a (.inr (8, fs)) H) (hS : va_S (b_A B0) s.heap H locs) (ha : B0 ≤ a) {v : Value} (hn : narrow (tyX3 12) v = v) (hfit : fits (tyX3 12) v = true) (hl : 12 < fs.length) (hdg : decode cc pc = .ok (.putfield 151, 3)) (kk : ∀ (H1 : Heap) (locs1 : List Loc), b_at G a (.inr (8, fs.set 12 v)) H1 → b_Up a H H1 → va_S (b_A B0) s.heap H1 locs1 → W p l e R s m args below meth c H1 locs1 cells slots Q (F0 m (pc + 3) ls rest)) : W p l e R s m args below meth c H locs cells slots Q (F0 m pc ls (v :: .ref a :: rest)) := b_put CX in_X3 tyX3 tyX3_ok rfl 12 (by decide) (by decide +kernel) q1858 (Or.inl rfl) rfl hP hS ha hn hfit hl hdg kk
theorem cs_X3_154 {p : Program} {l : Launch} {e : Env} {R : Room} {s : State} {m : MethodId} {args : Array Value} {below : List Frame} {meth : Method} {c : Code} {H : Heap} {locs : List Loc} {cells slots : Nat} {cc : ByteArray} {pc nL a : Nat} {ls : Array Slot} {rest : List Value} {G : b_G} {B0 : Nat} (CX : b_Cx p s m args c cc nL RX3 G B0) (hls : ls.size = nL) {rm : Room} {mc ms : Nat} {As st0 : List Value} {Qc : Array Value → State → Outcome → State → Prop} (hM : Met l yX3_sign (ws_ yX3_sign cX3_sign 3 (Option.some Jvm.ClassFile.FieldType.boolean)) rm (b_Pc G B0 H (.ref a :: As)) Qc mc ms (b_A B0)) (hn : As.length = 1) {fs : List Value} {ci : Nat} {qc : vw_C} (hc : b_cl[ci]? = some qc) (hq : qc.1 = RX3) (hP : b_at G a (.inr (ci, fs)) H) (hS : va_S (b_A B0) s.heap H locs) (hst : st0 = As.reverse ++ .ref a :: rest) (hr : rm.cells = mc ∧ rm.slots = ms ∧ rm.frames + 1 ≤ R.frames ∧ 8 + (3 + 11) + rm.locals ≤ R.locals) (hw : (rest.map fun v => v.category).sum ≤ 8) (hdg : decode cc pc = .ok (.invokevirtual 154, 3)) (hf : cells + mc ≤ R.cells ∧ slots + ms ≤ R.slots) : va_Run p l e R s m args below meth c H locs cells slots mc ms (F0 m pc ls st0) rest (Qc (Value.ref a :: As).toArray) (b_A B0) := va_runV CX.fix hM (cwV 1 CX.ts (lw_V q2088 q2090 qs65 q88 q2091) rfl hr.1 hr.2.1 (by decide +kernel) ⟨hr.2.2.1, hr.2.2.2⟩) ⟨b_blind G B0 H _, by have h9 := b_recv CX.K hc hP; rw [hq] at h9; exact h9, b_pre _ CX.K hS⟩ rfl hn hls hst (lv_room hw) hdg hf
theorem pf_X3_157_8 {p : Program} {l : Launch} {e : Env} {R : Room} {s : State} {m : MethodId} {args : Array Value} {below : List Frame} {meth : Method} {c : Code} {H : Heap} {locs : List Loc} {cells slots : Nat} {Q : State → Prop} {cc : ByteArray} {pc nL a : Nat} {ls : Array Slot} {rest : List Value} {G : b_G} {B0 : Nat} (CX : b_Cx p s m args c cc nL RX3 G B0) {fs : List Value} (hP : b_at G a (.inr (8, fs)) H) (hS : va_S (b_A B0) s.heap H locs) (ha : B0 ≤ a) {v : Value} (hn : narrow (tyX3 13) v = v) (hfit : fits (tyX3 13) v = true) (hl : 13 < fs.length) (hdg : decode cc pc = .ok (.putfield 157, 3)) (kk : ∀ (H1 : Heap) (locs1 : List Loc), b_at G a (.inr (8, fs.set 13 v)) H1 → b_Up a H H1 → va_S (b_A B0) s.heap H1 locs1 → W p l e R s m args below meth c H1 locs1 cells slots Q (F0 m (pc + 3) ls rest)) : W p l e R s m args below meth c H locs cells slots Q (F0 m pc ls (v :: .ref a :: rest)) := b_put CX in_X3 tyX3 tyX3_ok rfl 13 (by decide) (by decide +kernel) q1859 (Or.inl rfl) rfl hP hS ha hn hfit hl hdg kk
theorem cs_X3_160 {p : Program} {l : Launch} {e : Env} {R : Room} {s : State} {m : MethodId} {args : Array Value} {below : List Frame} {meth : Method} {c : Code} {H : Heap} {locs : List Loc} {cells slots : Nat} {cc : ByteArray} {pc nL a : Nat} {ls : Array Slot} {rest : List Value} {G : b_G} {B0 : Nat} (CX : b_Cx p s m args c cc nL RX3 G B0) (hls : ls.size = nL) {rm : Room} {mc ms : Nat} {As st0 : List Value} {Qc : Array Value → State → Outcome → State → Prop} (hM : Met l yX3_readNumber (ws_ yX3_readNumber cX3_readNumber 2 (Option.some Jvm.ClassFile.FieldType.boolean)) rm (b_Pc G B0 H (.ref a :: As)) Qc mc ms (b_A B0)) (hn : As.length = 1) {fs : List Value} {ci : Nat} {qc : vw_C} (hc : b_cl[ci]? = some qc) (hq : qc.1 = RX3) (hP : b_at G a (.inr (ci, fs)) H) (hS : va_S (b_A B0) s.heap H locs) (hst : st0 = As.reverse ++ .ref a :: rest) (hr : rm.cells = mc ∧ rm.slots = ms ∧ rm.frames + 1 ≤ R.frames ∧ 8 + (2 + 11) + rm.locals ≤ R.locals) (hw : (rest.map fun v => v.category).sum ≤ 8) (hdg : decode cc pc = .ok (.invokevirtual 160, 3)) (hf : cells + mc ≤ R.cells ∧ slots + ms ≤ R.slots) : va_Run p l e R s m args below meth c H locs cells slots mc ms (F0 m pc ls st0) rest (Qc (Value.ref a :: As).toArray) (b_A B0) := va_runV CX.fix hM (cwV 1 CX.ts (lw_V q2092 q2094 qs66 q88 q2095) rfl hr.1 hr.2.1 (by decide +kernel) ⟨hr.2.2.1, hr.2.2.2⟩) ⟨b_blind G B0 H _, by have h9 := b_recv CX.K hc hP; rw [hq] at h9; exact h9, b_pre _ CX.K hS⟩ rfl hn hls hst (lv_room hw) hdg hf
theorem gf_X3_141_8 {p : Program} {l : Launch} {e : Env} {R : Room} {s : State} {m : MethodId} {args : Array Value} {below : List Frame} {meth : Method} {c : Code} {H : Heap} {locs : List Loc} {cells slots : Nat} {Q : State → Prop} {cc : ByteArray} {pc nL a : Nat} {ls : Array Slot} {rest : List Value} {G : b_G} {B0 : Nat} (CX : b_Cx p s m args c cc nL RX3 G B0) {fs : List Value} (hP : b_at G a (.inr (8, fs)) H) {v : Value} (hv : fs[10]? = some v) (hdg : decode cc pc = .ok (.getfield 141, 3)) (kk : W p l e R s m args below meth c H locs cells slots Q (F0 m (pc + 3) ls (v :: rest))) : W p l e R s m args below meth c H locs cells slots Q (F0 m pc ls (.ref a :: rest)) := b_get CX in_X3 rfl 10 (by decide) q1856 (Or.inl rfl) hP hv hdg kk
set_option maxHeartbeats 2000000 in
set_option maxRecDepth 100000 in
theorem m_X3_readOrder (l : Launch) {G : b_G} {B0 : Nat} {o : Nat → Nat} {Hr H : Heap} {S : b_St} {sp sv : Nat → Int32} {t : Nat → Nat} {tn pp : Nat} {sa th iw lt on ot nu di : Int32} (hM : MW G B0 o Hr H (enc S) sp sv (fun j => nI (t j)) sa (nI tn) th (nI pp) iw lt on ot nu di) (ht : ∀ j, t j < 128) (hn : tn ≤ 60) (hp : pp ≤ tn) : Met l yX3_readOrder (ws_ yX3_readOrder cX3_readOrder 3 (Option.some Jvm.ClassFile.FieldType.boolean)) ({ frames := 2, cells := 0, slots := 0, locals := 44 } : Room) (b_Pc G B0 H [.ref (o 0)]) (b_Qi B0 (fun r H1 => (∃ p9 : Nat, ∃ a9 : Nat, ∃ b9 : Nat, ∃ c9 : Nat, ∃ d9 : Nat, ∃ di9 : Int32, (q_ord t tn pp = (p9, some (a9, b9, c9, d9))) ∧ ((p9 < tn ∧ t p9 = 59)) ∧ (p9 ≤ tn) ∧ r = nI 1 ∧ MW G B0 o H H1 (enc S) sp sv (fun j => nI (t j)) sa (nI tn) th (nI (p9 + 1)) (nI 1) (nI a9) (nI b9) (nI c9) (nI d9) di9) ∨ (∃ p9 : Nat, ∃ a9 : Nat, ∃ b9 : Nat, ∃ c9 : Nat, ∃ d9 : Nat, ∃ di9 : Int32, (q_ord t tn pp = (p9, some (a9, b9, c9, d9))) ∧ ((¬ (p9 < tn ∧ t p9 = 59))) ∧ (p9 ≤ tn) ∧ r = nI 0 ∧ MW G B0 o H H1 (enc S) sp sv (fun j => nI (t j)) sa (nI tn) th (nI p9) (nI 1) (nI a9) (nI b9) (nI c9) (nI d9) di9) ∨ (∃ p9 : Nat, ∃ lt9 : Int32, ∃ on9 : Int32, ∃ ot9 : Int32, ∃ nu9 : Int32, ∃ di9 : Int32, (q_ord t tn pp = (p9, none)) ∧ (p9 ≤ tn) ∧ r = nI 0 ∧ MW G B0 o H H1 (enc S) sp sv (fun j => nI (t j)) sa (nI tn) th (nI p9) (nI 0) lt9 on9 ot9 nu9 di9))) 0 0 (b_A B0) := by
  refine b_of (by decide) (Nat.le_of_ble_eq_true rfl) ?_
  intro p e s m below meth c CX hr hlk hnm hS ls hl
  have CX : b_Cx p s m _ c cX3_readOrder 3 RX3 G B0 := CX
  have hx := CX.hx
  have hb := CX.hb
  have hl : lv_has ls 3 [(0, .ref (o 0))] := hl
  generalize hQ : MQ below (b_Qi B0 (fun r H1 => (∃ p9 : Nat, ∃ a9 : Nat, ∃ b9 : Nat, ∃ c9 : Nat, ∃ d9 : Nat, ∃ di9 : Int32, (q_ord t tn pp = (p9, some (a9, b9, c9, d9))) ∧ ((p9 < tn ∧ t p9 = 59)) ∧ (p9 ≤ tn) ∧ r = nI 1 ∧ MW G B0 o H H1 (enc S) sp sv (fun j => nI (t j)) sa (nI tn) th (nI (p9 + 1)) (nI 1) (nI a9) (nI b9) (nI c9) (nI d9) di9) ∨ (∃ p9 : Nat, ∃ a9 : Nat, ∃ b9 : Nat, ∃ c9 : Nat, ∃ d9 : Nat, ∃ di9 : Int32, (q_ord t tn pp = (p9, some (a9, b9, c9, d9))) ∧ ((¬ (p9 < tn ∧ t p9 = 59))) ∧ (p9 ≤ tn) ∧ r = nI 0 ∧ MW G B0 o H H1 (enc S) sp sv (fun j => nI (t j)) sa (nI tn) th (nI p9) (nI 1) (nI a9) (nI b9) (nI c9) (nI d9) di9) ∨ (∃ p9 : Nat, ∃ lt9 : Int32, ∃ on9 : Int32, ∃ ot9 : Int32, ∃ nu9 : Int32, ∃ di9 : Int32, (q_ord t tn pp = (p9, none)) ∧ (p9 ≤ tn) ∧ r = nI 0 ∧ MW G B0 o H H1 (enc S) sp sv (fun j => nI (t j)) sa (nI tn) th (nI p9) (nI 0) lt9 on9 ot9 nu9 di9))) ([.ref (o 0)] : List Value).toArray s 0 0 (b_A B0) = Q
  have hM := hM.re
  refine lv_aload_n hx hb dX3_readOrder_0 rfl (lv_at hl 0 rfl) ?_
  refine lv_iconst (v := nI 0) hx hb dX3_readOrder_1 rfl ?_
  refine pf_X3_141_8 CX hM.o0 hS (hM.B (by decide)) rfl rfl (Nat.le_of_ble_eq_true rfl) dX3_readOrder_2 (fun H1 locs hat hu hS => ?_)
  have hM : MW G B0 o H H1 (enc S) sp sv (fun j => nI (t j)) sa (nI tn) th (nI pp) (nI 0) lt on ot nu di := hM.set0 hat hu
  refine lv_aload_n hx hb dX3_readOrder_5 rfl (lv_at hl 0 rfl) ?_
  refine lv_aload_n hx hb dX3_readOrder_6 rfl (lv_at hl 0 rfl) ?_
  refine gf_X3_132_8 CX hM.o0 rfl dX3_readOrder_7 ?_
  refine lv_aload_n hx hb dX3_readOrder_10 rfl (lv_at hl 0 rfl) ?_
  refine gf_X3_129_8 CX hM.o0 rfl dX3_readOrder_11 ?_
  refine b_icmp_geN (tgt := 29) CX (by omega) (by omega) dX3_readOrder_14 (by decide) (fun c_14 => ?_) (fun c_14 => ?_)
  · refine lv_iconst (v := nI 0) hx hb dX3_readOrder_29 rfl ?_
    refine pf_X3_145_8 CX hM.o0 hS (hM.B (by decide)) rfl rfl (Nat.le_of_ble_eq_true rfl) dX3_readOrder_30 (fun H2 locs hat hu hS => ?_)
    have hM : MW G B0 o H H2 (enc S) sp sv (fun j => nI (t j)) sa (nI tn) th (nI pp) (nI 0) (nI 0) on ot nu di := hM.set0 hat hu
    refine lv_aload_n hx hb dX3_readOrder_33 rfl (lv_at hl 0 rfl) ?_
    refine gf_X3_145_8 CX hM.o0 rfl dX3_readOrder_34 ?_
    refine lv_bipush (v := nI 100) hx hb dX3_readOrder_37 rfl ?_
    refine b_icmp_neN (tgt := 46) CX (by omega) (by omega) dX3_readOrder_39 (by decide) (fun c_39 => ?_) (fun c_39 => ?_)
    · refine lv_iconst (v := nI 0) hx hb dX3_readOrder_46 rfl ?_
      refine lv_istore_n (lv' := [(1, .int (nI 0)), (0, .ref (o 0))]) hx hb dX3_readOrder_47 rfl hl (Nat.le_of_ble_eq_true rfl) rfl (fun ls hl => ?_)
      refine lv_iload_n hx hb dX3_readOrder_48 rfl (lv_at hl 0 rfl) ?_
      refine lv_if_ne (tgt := 90) hx hb dX3_readOrder_49 (by decide) (fun c_49 => ?_) (fun c_49 => ?_)
      · exact absurd c_49 (by decide)
      · refine lv_aload_n hx hb dX3_readOrder_52 rfl (lv_at hl 1 rfl) ?_
        refine gf_X3_145_8 CX hM.o0 rfl dX3_readOrder_53 ?_
        refine lv_bipush (v := nI 115) hx hb dX3_readOrder_56 rfl ?_
        refine b_icmp_eqN (tgt := 90) CX (by omega) (by omega) dX3_readOrder_58 (by decide) (fun c_58 => ?_) (fun c_58 => ?_)
        · exact absurd c_58 (by decide)
        · refine lv_aload_n hx hb dX3_readOrder_61 rfl (lv_at hl 1 rfl) ?_
          refine gf_X3_145_8 CX hM.o0 rfl dX3_readOrder_62 ?_
          refine lv_bipush (v := nI 114) hx hb dX3_readOrder_65 rfl ?_
          refine b_icmp_eqN (tgt := 90) CX (by omega) (by omega) dX3_readOrder_67 (by decide) (fun c_67 => ?_) (fun c_67 => ?_)
          · exact absurd c_67 (by decide)
          · refine lv_aload_n hx hb dX3_readOrder_70 rfl (lv_at hl 1 rfl) ?_
            refine gf_X3_145_8 CX hM.o0 rfl dX3_readOrder_71 ?_
            refine lv_bipush (v := nI 98) hx hb dX3_readOrder_74 rfl ?_
            refine b_icmp_eqN (tgt := 90) CX (by omega) (by omega) dX3_readOrder_76 (by decide) (fun c_76 => ?_) (fun c_76 => ?_)
            · exact absurd c_76 (by decide)
            · refine lv_aload_n hx hb dX3_readOrder_79 rfl (lv_at hl 1 rfl) ?_
              refine gf_X3_145_8 CX hM.o0 rfl dX3_readOrder_80 ?_
              refine lv_bipush (v := nI 99) hx hb dX3_readOrder_83 rfl ?_
              refine b_icmp_eqN (tgt := 90) CX (by omega) (by omega) dX3_readOrder_85 (by decide) (fun c_85 => ?_) (fun c_85 => ?_)
              · exact absurd c_85 (by decide)
              · refine lv_iconst (v := nI 0) hx hb dX3_readOrder_88 rfl ?_
                rw [← hQ]
                exact b_zret CX hr hlk hS (Nat.le_of_ble_eq_true rfl) (Nat.le_of_ble_eq_true rfl) rfl dX3_readOrder_89 (Or.inr (Or.inr (⟨_, _, _, _, _, _, (by unfold q_ord; rw [if_neg (by omega)]), (by omega), rfl, hM⟩)))
    · exact absurd c_39 (by decide)
  · refine lv_aload_n hx hb dX3_readOrder_17 rfl (lv_at hl 0 rfl) ?_
    refine gf_X3_19_8 CX hM.o0 rfl dX3_readOrder_18 ?_
    refine lv_aload_n hx hb dX3_readOrder_21 rfl (lv_at hl 0 rfl) ?_
    refine gf_X3_132_8 CX hM.o0 rfl dX3_readOrder_22 ?_
    have ht_3 := ht pp
    refine b_ild CX hM.o4 (x := nI (t pp)) (vp_in_nI (by omega) (by omega)) (b_at_nI (f := fun j => nI (t j)) (n := pp) (by omega) rfl) dX3_readOrder_25 ?_
    refine lv_goto (tgt := 30) hx hb dX3_readOrder_26 (by decide) ?_
    refine pf_X3_145_8 CX hM.o0 hS (hM.B (by decide)) rfl rfl (Nat.le_of_ble_eq_true rfl) dX3_readOrder_30 (fun H4 locs hat hu hS => ?_)
    have hM : MW G B0 o H H4 (enc S) sp sv (fun j => nI (t j)) sa (nI tn) th (nI pp) (nI 0) (nI (t pp)) on ot nu di := hM.set0 hat hu
    refine lv_aload_n hx hb dX3_readOrder_33 rfl (lv_at hl 0 rfl) ?_
    refine gf_X3_145_8 CX hM.o0 rfl dX3_readOrder_34 ?_
    refine lv_bipush (v := nI 100) hx hb dX3_readOrder_37 rfl ?_
    refine b_icmp_neN (tgt := 46) CX (by omega) (by omega) dX3_readOrder_39 (by decide) (fun c_39 => ?_) (fun c_39 => ?_)
    · refine lv_iconst (v := nI 0) hx hb dX3_readOrder_46 rfl ?_
      refine lv_istore_n (lv' := [(1, .int (nI 0)), (0, .ref (o 0))]) hx hb dX3_readOrder_47 rfl hl (Nat.le_of_ble_eq_true rfl) rfl (fun ls hl => ?_)
      refine lv_iload_n hx hb dX3_readOrder_48 rfl (lv_at hl 0 rfl) ?_
      refine lv_if_ne (tgt := 90) hx hb dX3_readOrder_49 (by decide) (fun c_49 => ?_) (fun c_49 => ?_)
      · exact absurd c_49 (by decide)
      · refine lv_aload_n hx hb dX3_readOrder_52 rfl (lv_at hl 1 rfl) ?_
        refine gf_X3_145_8 CX hM.o0 rfl dX3_readOrder_53 ?_
        refine lv_bipush (v := nI 115) hx hb dX3_readOrder_56 rfl ?_
        refine b_icmp_eqN (tgt := 90) CX (by omega) (by omega) dX3_readOrder_58 (by decide) (fun c_58 => ?_) (fun c_58 => ?_)
        · have e99 : ¬ t pp = 99 := by omega
          have e50 : ¬ (t pp = 100 ∨ t pp = 99) := by omega
          refine lv_aload_n hx hb dX3_readOrder_90 rfl (lv_at hl 1 rfl) ?_
          refine lv_dup hx hb dX3_readOrder_91 rfl ?_
          refine gf_X3_132_8 CX hM.o0 rfl dX3_readOrder_92 ?_
          refine lv_iconst (v := nI 1) hx hb dX3_readOrder_95 rfl ?_
          refine b_iaddN CX dX3_readOrder_96 ?_
          refine pf_X3_132_8 CX hM.o0 hS (hM.B (by decide)) rfl rfl (Nat.le_of_ble_eq_true rfl) dX3_readOrder_97 (fun H5 locs hat hu hS => ?_)
          have hM : MW G B0 o H H5 (enc S) sp sv (fun j => nI (t j)) sa (nI tn) th (nI (pp + 1)) (nI 0) (nI (t pp)) on ot nu di := hM.set0 hat hu
          refine lv_aload_n hx hb dX3_readOrder_100 rfl (lv_at hl 1 rfl) ?_
          refine lv_iload_n hx hb dX3_readOrder_101 rfl (lv_at hl 0 rfl) ?_
          refine lv_if_eq (tgt := 110) hx hb dX3_readOrder_102 (by decide) (fun c_102 => ?_) (fun c_102 => ?_)
          · refine lv_iconst (v := nI 5) hx hb dX3_readOrder_110 rfl ?_
            refine b_ci (cs_X3_148 (rest := []) CX hl.1 (m_X3_digitTo l (hi := 5) hM ht (by omega) (by omega) (by omega)) rfl rfl rfl hM.o0 hS rfl ⟨rfl, rfl, Nat.le_of_ble_eq_true rfl, Nat.le_of_ble_eq_true rfl⟩ (Nat.le_of_ble_eq_true rfl) dX3_readOrder_111 ⟨Nat.le_of_ble_eq_true rfl, Nat.le_of_ble_eq_true rfl⟩) hS (fun r H6 locs hp hS => ?_)
            rcases hp with ⟨hc7, rfl, hM9⟩ | ⟨di97, hc7, rfl, hM9⟩
            · have hM : MW G B0 o H H6 (enc S) sp sv (fun j => nI (t j)) sa (nI tn) th (nI (pp + 1 + 1)) (nI 0) (nI (t pp)) on ot nu (nI ((t (pp + 1)) - 48)) := hM.tr hM9
              refine lv_istore_n (lv' := [(2, .int (nI 1)), (1, .int (nI 0)), (0, .ref (o 0))]) hx hb dX3_readOrder_114 rfl hl (Nat.le_of_ble_eq_true rfl) rfl (fun ls hl => ?_)
              refine lv_aload_n hx hb dX3_readOrder_115 rfl (lv_at hl 2 rfl) ?_
              refine lv_aload_n hx hb dX3_readOrder_116 rfl (lv_at hl 2 rfl) ?_
              refine gf_X3_135_8 CX hM.o0 rfl dX3_readOrder_117 ?_
              refine pf_X3_151_8 CX hM.o0 hS (hM.B (by decide)) rfl rfl (Nat.le_of_ble_eq_true rfl) dX3_readOrder_120 (fun H8 locs hat hu hS => ?_)
              have hM : MW G B0 o H H8 (enc S) sp sv (fun j => nI (t j)) sa (nI tn) th (nI (pp + 1 + 1)) (nI 0) (nI (t pp)) (nI ((t (pp + 1)) - 48)) ot nu (nI ((t (pp + 1)) - 48)) := hM.set0 hat hu
              refine lv_iload_n hx hb dX3_readOrder_123 rfl (lv_at hl 0 rfl) ?_
              refine lv_if_eq (tgt := 179) hx hb dX3_readOrder_124 (by decide) (fun c_124 => ?_) (fun c_124 => ?_)
              · exact absurd c_124 (by decide)
              · refine lv_aload_n hx hb dX3_readOrder_127 rfl (lv_at hl 2 rfl) ?_
                refine lv_iload_n hx hb dX3_readOrder_128 rfl (lv_at hl 1 rfl) ?_
                refine lv_if_eq (tgt := 137) hx hb dX3_readOrder_129 (by decide) (fun c_129 => ?_) (fun c_129 => ?_)
                · refine lv_bipush (v := nI 58) hx hb dX3_readOrder_137 rfl ?_
                  refine b_ci (cs_X3_154 (rest := []) CX hl.1 (m_X3_sign l (x := 58) hM ht (by omega) (by omega) (by omega)) rfl rfl rfl hM.o0 hS rfl ⟨rfl, rfl, Nat.le_of_ble_eq_true rfl, Nat.le_of_ble_eq_true rfl⟩ (Nat.le_of_ble_eq_true rfl) dX3_readOrder_139 ⟨Nat.le_of_ble_eq_true rfl, Nat.le_of_ble_eq_true rfl⟩) hS (fun r H9 locs hp hS => ?_)
                  rcases hp with ⟨hc10, rfl, hM9⟩ | ⟨hc10, rfl, hM9⟩
                  · have hM : MW G B0 o H H9 (enc S) sp sv (fun j => nI (t j)) sa (nI tn) th (nI (pp + 1 + 1 + 1)) (nI 0) (nI (t pp)) (nI ((t (pp + 1)) - 48)) ot nu (nI ((t (pp + 1)) - 48)) := hM.tr hM9
                    refine lv_if_eq (tgt := 179) hx hb dX3_readOrder_142 (by decide) (fun c_142 => ?_) (fun c_142 => ?_)
                    · exact absurd c_142 (by decide)
                    · refine lv_aload_n hx hb dX3_readOrder_145 rfl (lv_at hl 2 rfl) ?_
                      refine lv_iload_n hx hb dX3_readOrder_146 rfl (lv_at hl 1 rfl) ?_
                      refine lv_if_eq (tgt := 154) hx hb dX3_readOrder_147 (by decide) (fun c_147 => ?_) (fun c_147 => ?_)
                      · refine lv_aload_n hx hb dX3_readOrder_154 rfl (lv_at hl 2 rfl) ?_
                        refine gf_X3_145_8 CX hM.o0 rfl dX3_readOrder_155 ?_
                        refine lv_bipush (v := nI 99) hx hb dX3_readOrder_158 rfl ?_
                        refine b_icmp_neN (tgt := 167) CX (by omega) (by omega) dX3_readOrder_160 (by decide) (fun c_160 => ?_) (fun c_160 => ?_)
                        · refine lv_bipush (v := nI 7) hx hb dX3_readOrder_167 rfl ?_
                          refine b_ci (cs_X3_148 (rest := []) CX hl.1 (m_X3_digitTo l (hi := 7) hM ht (by omega) (by omega) (by omega)) rfl rfl rfl hM.o0 hS rfl ⟨rfl, rfl, Nat.le_of_ble_eq_true rfl, Nat.le_of_ble_eq_true rfl⟩ (Nat.le_of_ble_eq_true rfl) dX3_readOrder_169 ⟨Nat.le_of_ble_eq_true rfl, Nat.le_of_ble_eq_true rfl⟩) hS (fun r H11 locs hp hS => ?_)
                          rcases hp with ⟨hc12, rfl, hM9⟩ | ⟨di912, hc12, rfl, hM9⟩
                          · have hM : MW G B0 o H H11 (enc S) sp sv (fun j => nI (t j)) sa (nI tn) th (nI (pp + 1 + 1 + 1 + 1)) (nI 0) (nI (t pp)) (nI ((t (pp + 1)) - 48)) ot nu (nI ((t (pp + 1 + 1 + 1)) - 48)) := hM.tr hM9
                            refine lv_if_eq (tgt := 179) hx hb dX3_readOrder_172 (by decide) (fun c_172 => ?_) (fun c_172 => ?_)
                            · exact absurd c_172 (by decide)
                            · refine lv_iconst (v := nI 1) hx hb dX3_readOrder_175 rfl ?_
                              refine lv_goto (tgt := 180) hx hb dX3_readOrder_176 (by decide) ?_
                              refine lv_istore_n (lv' := [(2, .int (nI 1)), (1, .int (nI 0)), (0, .ref (o 0))]) hx hb dX3_readOrder_180 rfl hl (Nat.le_of_ble_eq_true rfl) rfl (fun ls hl => ?_)
                              refine lv_aload_n hx hb dX3_readOrder_181 rfl (lv_at hl 2 rfl) ?_
                              refine lv_aload_n hx hb dX3_readOrder_182 rfl (lv_at hl 2 rfl) ?_
                              refine gf_X3_135_8 CX hM.o0 rfl dX3_readOrder_183 ?_
                              refine pf_X3_157_8 CX hM.o0 hS (hM.B (by decide)) rfl rfl (Nat.le_of_ble_eq_true rfl) dX3_readOrder_186 (fun H13 locs hat hu hS => ?_)
                              have hM : MW G B0 o H H13 (enc S) sp sv (fun j => nI (t j)) sa (nI tn) th (nI (pp + 1 + 1 + 1 + 1)) (nI 0) (nI (t pp)) (nI ((t (pp + 1)) - 48)) (nI ((t (pp + 1 + 1 + 1)) - 48)) nu (nI ((t (pp + 1 + 1 + 1)) - 48)) := hM.set0 hat hu
                              refine lv_aload_n hx hb dX3_readOrder_189 rfl (lv_at hl 2 rfl) ?_
                              refine lv_iload_n hx hb dX3_readOrder_190 rfl (lv_at hl 0 rfl) ?_
                              refine lv_if_eq (tgt := 235) hx hb dX3_readOrder_191 (by decide) (fun c_191 => ?_) (fun c_191 => ?_)
                              · exact absurd c_191 (by decide)
                              · refine lv_aload_n hx hb dX3_readOrder_194 rfl (lv_at hl 2 rfl) ?_
                                refine lv_bipush (v := nI 42) hx hb dX3_readOrder_195 rfl ?_
                                refine b_ci (cs_X3_154 (rest := [.ref (o 0)]) CX hl.1 (m_X3_sign l (x := 42) hM ht (by omega) (by omega) (by omega)) rfl rfl rfl hM.o0 hS rfl ⟨rfl, rfl, Nat.le_of_ble_eq_true rfl, Nat.le_of_ble_eq_true rfl⟩ (Nat.le_of_ble_eq_true rfl) dX3_readOrder_197 ⟨Nat.le_of_ble_eq_true rfl, Nat.le_of_ble_eq_true rfl⟩) hS (fun r H14 locs hp hS => ?_)
                                rcases hp with ⟨hc15, rfl, hM9⟩ | ⟨hc15, rfl, hM9⟩
                                · have hM : MW G B0 o H H14 (enc S) sp sv (fun j => nI (t j)) sa (nI tn) th (nI (pp + 1 + 1 + 1 + 1 + 1)) (nI 0) (nI (t pp)) (nI ((t (pp + 1)) - 48)) (nI ((t (pp + 1 + 1 + 1)) - 48)) nu (nI ((t (pp + 1 + 1 + 1)) - 48)) := hM.tr hM9
                                  refine lv_if_eq (tgt := 235) hx hb dX3_readOrder_200 (by decide) (fun c_200 => ?_) (fun c_200 => ?_)
                                  · exact absurd c_200 (by decide)
                                  · refine lv_aload_n hx hb dX3_readOrder_203 rfl (lv_at hl 2 rfl) ?_
                                    refine lv_iload_n hx hb dX3_readOrder_204 rfl (lv_at hl 1 rfl) ?_
                                    refine lv_if_ne (tgt := 217) hx hb dX3_readOrder_205 (by decide) (fun c_205 => ?_) (fun c_205 => ?_)
                                    · exact absurd c_205 (by decide)
                                    · refine lv_aload_n hx hb dX3_readOrder_208 rfl (lv_at hl 2 rfl) ?_
                                      refine gf_X3_145_8 CX hM.o0 rfl dX3_readOrder_209 ?_
                                      refine lv_bipush (v := nI 99) hx hb dX3_readOrder_212 rfl ?_
                                      refine b_icmp_neN (tgt := 222) CX (by omega) (by omega) dX3_readOrder_214 (by decide) (fun c_214 => ?_) (fun c_214 => ?_)
                                      · refine lv_sipush (v := nI 500) hx hb dX3_readOrder_222 rfl ?_
                                        refine b_ci (cs_X3_160 (rest := [.ref (o 0)]) CX hl.1 (m_X3_readNumber l (hi := 500) hM ht (by omega) (by omega) (by omega)) rfl rfl rfl hM.o0 hS rfl ⟨rfl, rfl, Nat.le_of_ble_eq_true rfl, Nat.le_of_ble_eq_true rfl⟩ (Nat.le_of_ble_eq_true rfl) dX3_readOrder_225 ⟨Nat.le_of_ble_eq_true rfl, Nat.le_of_ble_eq_true rfl⟩) hS (fun r H16 locs hp hS => ?_)
                                        rcases hp with ⟨p917, v917, hq17, hv17, hp17, rfl, hM9⟩ | ⟨p917, v917, hq17, hv17, hp17, rfl, hM9⟩
                                        · have hM : MW G B0 o H H16 (enc S) sp sv (fun j => nI (t j)) sa (nI tn) th (nI p917) (nI 0) (nI (t pp)) (nI ((t (pp + 1)) - 48)) (nI ((t (pp + 1 + 1 + 1)) - 48)) (nI v917) (nI ((t (pp + 1 + 1 + 1)) - 48)) := hM.tr hM9
                                          refine lv_if_eq (tgt := 235) hx hb dX3_readOrder_228 (by decide) (fun c_228 => ?_) (fun c_228 => ?_)
                                          · exact absurd c_228 (by decide)
                                          · refine lv_iconst (v := nI 1) hx hb dX3_readOrder_231 rfl ?_
                                            refine lv_goto (tgt := 236) hx hb dX3_readOrder_232 (by decide) ?_
                                            refine pf_X3_141_8 CX hM.o0 hS (hM.B (by decide)) rfl rfl (Nat.le_of_ble_eq_true rfl) dX3_readOrder_236 (fun H18 locs hat hu hS => ?_)
                                            have hM : MW G B0 o H H18 (enc S) sp sv (fun j => nI (t j)) sa (nI tn) th (nI p917) (nI 1) (nI (t pp)) (nI ((t (pp + 1)) - 48)) (nI ((t (pp + 1 + 1 + 1)) - 48)) (nI v917) (nI ((t (pp + 1 + 1 + 1)) - 48)) := hM.set0 hat hu
                                            refine lv_aload_n hx hb dX3_readOrder_239 rfl (lv_at hl 2 rfl) ?_
                                            refine gf_X3_141_8 CX hM.o0 rfl dX3_readOrder_240 ?_
                                            refine lv_if_eq (tgt := 259) hx hb dX3_readOrder_243 (by decide) (fun c_243 => ?_) (fun c_243 => ?_)
                                            · exact absurd c_243 (by decide)
                                            · refine lv_aload_n hx hb dX3_readOrder_246 rfl (lv_at hl 2 rfl) ?_
                                              refine lv_bipush (v := nI 59) hx hb dX3_readOrder_247 rfl ?_
                                              refine b_ci (cs_X3_154 (rest := []) CX hl.1 (m_X3_sign l (x := 59) hM ht (by omega) (by omega) (by omega)) rfl rfl rfl hM.o0 hS rfl ⟨rfl, rfl, Nat.le_of_ble_eq_true rfl, Nat.le_of_ble_eq_true rfl⟩ (Nat.le_of_ble_eq_true rfl) dX3_readOrder_249 ⟨Nat.le_of_ble_eq_true rfl, Nat.le_of_ble_eq_true rfl⟩) hS (fun r H19 locs hp hS => ?_)
                                              rcases hp with ⟨hc20, rfl, hM9⟩ | ⟨hc20, rfl, hM9⟩
                                              · have hM : MW G B0 o H H19 (enc S) sp sv (fun j => nI (t j)) sa (nI tn) th (nI (p917 + 1)) (nI 1) (nI (t pp)) (nI ((t (pp + 1)) - 48)) (nI ((t (pp + 1 + 1 + 1)) - 48)) (nI v917) (nI ((t (pp + 1 + 1 + 1)) - 48)) := hM.tr hM9
                                                refine lv_if_eq (tgt := 259) hx hb dX3_readOrder_252 (by decide) (fun c_252 => ?_) (fun c_252 => ?_)
                                                · exact absurd c_252 (by decide)
                                                · refine lv_iconst (v := nI 1) hx hb dX3_readOrder_255 rfl ?_
                                                  refine lv_goto (tgt := 260) hx hb dX3_readOrder_256 (by decide) ?_
                                                  rw [← hQ]
                                                  exact b_zret CX hr hlk hS (Nat.le_of_ble_eq_true rfl) (Nat.le_of_ble_eq_true rfl) rfl dX3_readOrder_260 (Or.inl ⟨_, _, _, _, _, _, (by unfold q_ord; simp only [if_neg c_39, if_neg e99, if_neg e50, hq17]; repeat (first | rw [if_pos (by first | assumption | omega)] | rw [if_neg (by first | assumption | omega)])), (by first | assumption | omega), (by omega), rfl, hM⟩)
                                              · have hM : MW G B0 o H H19 (enc S) sp sv (fun j => nI (t j)) sa (nI tn) th (nI p917) (nI 1) (nI (t pp)) (nI ((t (pp + 1)) - 48)) (nI ((t (pp + 1 + 1 + 1)) - 48)) (nI v917) (nI ((t (pp + 1 + 1 + 1)) - 48)) := hM.tr hM9
                                                refine lv_if_eq (tgt := 259) hx hb dX3_readOrder_252 (by decide) (fun c_252 => ?_) (fun c_252 => ?_)
                                                · refine lv_iconst (v := nI 0) hx hb dX3_readOrder_259 rfl ?_
                                                  rw [← hQ]
                                                  exact b_zret CX hr hlk hS (Nat.le_of_ble_eq_true rfl) (Nat.le_of_ble_eq_true rfl) rfl dX3_readOrder_260 (Or.inr (Or.inl ⟨_, _, _, _, _, _, (by unfold q_ord; simp only [if_neg c_39, if_neg e99, if_neg e50, hq17]; repeat (first | rw [if_pos (by first | assumption | omega)] | rw [if_neg (by first | assumption | omega)])), (by first | assumption | omega), (by omega), rfl, hM⟩))
                                                · exact absurd c_252 (by decide)
                                        · have hM : MW G B0 o H H16 (enc S) sp sv (fun j => nI (t j)) sa (nI tn) th (nI p917) (nI 0) (nI (t pp)) (nI ((t (pp + 1)) - 48)) (nI ((t (pp + 1 + 1 + 1)) - 48)) (nI v917) (nI ((t (pp + 1 + 1 + 1)) - 48)) := hM.tr hM9
                                          refine lv_if_eq (tgt := 235) hx hb dX3_readOrder_228 (by decide) (fun c_228 => ?_) (fun c_228 => ?_)
                                          · refine lv_iconst (v := nI 0) hx hb dX3_readOrder_235 rfl ?_
                                            refine pf_X3_141_8 CX hM.o0 hS (hM.B (by decide)) rfl rfl (Nat.le_of_ble_eq_true rfl) dX3_readOrder_236 (fun H21 locs hat hu hS => ?_)
                                            have hM : MW G B0 o H H21 (enc S) sp sv (fun j => nI (t j)) sa (nI tn) th (nI p917) (nI 0) (nI (t pp)) (nI ((t (pp + 1)) - 48)) (nI ((t (pp + 1 + 1 + 1)) - 48)) (nI v917) (nI ((t (pp + 1 + 1 + 1)) - 48)) := hM.set0 hat hu
                                            refine lv_aload_n hx hb dX3_readOrder_239 rfl (lv_at hl 2 rfl) ?_
                                            refine gf_X3_141_8 CX hM.o0 rfl dX3_readOrder_240 ?_
                                            refine lv_if_eq (tgt := 259) hx hb dX3_readOrder_243 (by decide) (fun c_243 => ?_) (fun c_243 => ?_)
                                            · refine lv_iconst (v := nI 0) hx hb dX3_readOrder_259 rfl ?_
                                              rw [← hQ]
                                              exact b_zret CX hr hlk hS (Nat.le_of_ble_eq_true rfl) (Nat.le_of_ble_eq_true rfl) rfl dX3_readOrder_260 (Or.inr (Or.inr (⟨_, _, _, _, _, _, (by unfold q_ord; simp only [if_neg c_39, if_neg e99, if_neg e50, hq17]; repeat (first | rw [if_pos (by first | assumption | omega)] | rw [if_neg (by first | assumption | omega)])), (by omega), rfl, hM⟩)))
                                            · exact absurd c_243 (by decide)
                                          · exact absurd c_228 (by decide)
                                      · exfalso; omega
                                · have hM : MW G B0 o H H14 (enc S) sp sv (fun j => nI (t j)) sa (nI tn) th (nI (pp + 1 + 1 + 1 + 1)) (nI 0) (nI (t pp)) (nI ((t (pp + 1)) - 48)) (nI ((t (pp + 1 + 1 + 1)) - 48)) nu (nI ((t (pp + 1 + 1 + 1)) - 48)) := hM.tr hM9
                                  refine lv_if_eq (tgt := 235) hx hb dX3_readOrder_200 (by decide) (fun c_200 => ?_) (fun c_200 => ?_)
                                  · refine lv_iconst (v := nI 0) hx hb dX3_readOrder_235 rfl ?_
                                    refine pf_X3_141_8 CX hM.o0 hS (hM.B (by decide)) rfl rfl (Nat.le_of_ble_eq_true rfl) dX3_readOrder_236 (fun H22 locs hat hu hS => ?_)
                                    have hM : MW G B0 o H H22 (enc S) sp sv (fun j => nI (t j)) sa (nI tn) th (nI (pp + 1 + 1 + 1 + 1)) (nI 0) (nI (t pp)) (nI ((t (pp + 1)) - 48)) (nI ((t (pp + 1 + 1 + 1)) - 48)) nu (nI ((t (pp + 1 + 1 + 1)) - 48)) := hM.set0 hat hu
                                    refine lv_aload_n hx hb dX3_readOrder_239 rfl (lv_at hl 2 rfl) ?_
                                    refine gf_X3_141_8 CX hM.o0 rfl dX3_readOrder_240 ?_
                                    refine lv_if_eq (tgt := 259) hx hb dX3_readOrder_243 (by decide) (fun c_243 => ?_) (fun c_243 => ?_)
                                    · refine lv_iconst (v := nI 0) hx hb dX3_readOrder_259 rfl ?_
                                      rw [← hQ]
                                      exact b_zret CX hr hlk hS (Nat.le_of_ble_eq_true rfl) (Nat.le_of_ble_eq_true rfl) rfl dX3_readOrder_260 (Or.inr (Or.inr (⟨_, _, _, _, _, _, (by unfold q_ord; simp only [if_neg c_39, if_neg e99, if_neg e50]; repeat (first | rw [if_pos (by first | assumption | omega)] | rw [if_neg (by first | assumption | omega)])), (by omega), rfl, hM⟩)))
                                    · exact absurd c_243 (by decide)
                                  · exact absurd c_200 (by decide)
                          · have hM : MW G B0 o H H11 (enc S) sp sv (fun j => nI (t j)) sa (nI tn) th (nI (pp + 1 + 1 + 1)) (nI 0) (nI (t pp)) (nI ((t (pp + 1)) - 48)) ot nu di912 := hM.tr hM9
                            refine lv_if_eq (tgt := 179) hx hb dX3_readOrder_172 (by decide) (fun c_172 => ?_) (fun c_172 => ?_)
                            · refine lv_iconst (v := nI 0) hx hb dX3_readOrder_179 rfl ?_
                              refine lv_istore_n (lv' := [(2, .int (nI 0)), (1, .int (nI 0)), (0, .ref (o 0))]) hx hb dX3_readOrder_180 rfl hl (Nat.le_of_ble_eq_true rfl) rfl (fun ls hl => ?_)
                              refine lv_aload_n hx hb dX3_readOrder_181 rfl (lv_at hl 2 rfl) ?_
                              refine lv_aload_n hx hb dX3_readOrder_182 rfl (lv_at hl 2 rfl) ?_
                              refine gf_X3_135_8 CX hM.o0 rfl dX3_readOrder_183 ?_
                              refine pf_X3_157_8 CX hM.o0 hS (hM.B (by decide)) rfl rfl (Nat.le_of_ble_eq_true rfl) dX3_readOrder_186 (fun H23 locs hat hu hS => ?_)
                              have hM : MW G B0 o H H23 (enc S) sp sv (fun j => nI (t j)) sa (nI tn) th (nI (pp + 1 + 1 + 1)) (nI 0) (nI (t pp)) (nI ((t (pp + 1)) - 48)) di912 nu di912 := hM.set0 hat hu
                              refine lv_aload_n hx hb dX3_readOrder_189 rfl (lv_at hl 2 rfl) ?_
                              refine lv_iload_n hx hb dX3_readOrder_190 rfl (lv_at hl 0 rfl) ?_
                              refine lv_if_eq (tgt := 235) hx hb dX3_readOrder_191 (by decide) (fun c_191 => ?_) (fun c_191 => ?_)
                              · refine lv_iconst (v := nI 0) hx hb dX3_readOrder_235 rfl ?_
                                refine pf_X3_141_8 CX hM.o0 hS (hM.B (by decide)) rfl rfl (Nat.le_of_ble_eq_true rfl) dX3_readOrder_236 (fun H24 locs hat hu hS => ?_)
                                have hM : MW G B0 o H H24 (enc S) sp sv (fun j => nI (t j)) sa (nI tn) th (nI (pp + 1 + 1 + 1)) (nI 0) (nI (t pp)) (nI ((t (pp + 1)) - 48)) di912 nu di912 := hM.set0 hat hu
                                refine lv_aload_n hx hb dX3_readOrder_239 rfl (lv_at hl 2 rfl) ?_
                                refine gf_X3_141_8 CX hM.o0 rfl dX3_readOrder_240 ?_
                                refine lv_if_eq (tgt := 259) hx hb dX3_readOrder_243 (by decide) (fun c_243 => ?_) (fun c_243 => ?_)
                                · refine lv_iconst (v := nI 0) hx hb dX3_readOrder_259 rfl ?_
                                  rw [← hQ]
                                  exact b_zret CX hr hlk hS (Nat.le_of_ble_eq_true rfl) (Nat.le_of_ble_eq_true rfl) rfl dX3_readOrder_260 (Or.inr (Or.inr (⟨_, _, _, _, _, _, (by unfold q_ord; simp only [if_neg c_39, if_neg e99, if_neg e50]; repeat (first | rw [if_pos (by first | assumption | omega)] | rw [if_neg (by first | assumption | omega)])), (by omega), rfl, hM⟩)))
                                · exact absurd c_243 (by decide)
                              · exact absurd c_191 (by decide)
                            · exact absurd c_172 (by decide)
                        · exfalso; omega
                      · exact absurd c_147 (by decide)
                  · have hM : MW G B0 o H H9 (enc S) sp sv (fun j => nI (t j)) sa (nI tn) th (nI (pp + 1 + 1)) (nI 0) (nI (t pp)) (nI ((t (pp + 1)) - 48)) ot nu (nI ((t (pp + 1)) - 48)) := hM.tr hM9
                    refine lv_if_eq (tgt := 179) hx hb dX3_readOrder_142 (by decide) (fun c_142 => ?_) (fun c_142 => ?_)
                    · refine lv_iconst (v := nI 0) hx hb dX3_readOrder_179 rfl ?_
                      refine lv_istore_n (lv' := [(2, .int (nI 0)), (1, .int (nI 0)), (0, .ref (o 0))]) hx hb dX3_readOrder_180 rfl hl (Nat.le_of_ble_eq_true rfl) rfl (fun ls hl => ?_)
                      refine lv_aload_n hx hb dX3_readOrder_181 rfl (lv_at hl 2 rfl) ?_
                      refine lv_aload_n hx hb dX3_readOrder_182 rfl (lv_at hl 2 rfl) ?_
                      refine gf_X3_135_8 CX hM.o0 rfl dX3_readOrder_183 ?_
                      refine pf_X3_157_8 CX hM.o0 hS (hM.B (by decide)) rfl rfl (Nat.le_of_ble_eq_true rfl) dX3_readOrder_186 (fun H25 locs hat hu hS => ?_)
                      have hM : MW G B0 o H H25 (enc S) sp sv (fun j => nI (t j)) sa (nI tn) th (nI (pp + 1 + 1)) (nI 0) (nI (t pp)) (nI ((t (pp + 1)) - 48)) (nI ((t (pp + 1)) - 48)) nu (nI ((t (pp + 1)) - 48)) := hM.set0 hat hu
                      refine lv_aload_n hx hb dX3_readOrder_189 rfl (lv_at hl 2 rfl) ?_
                      refine lv_iload_n hx hb dX3_readOrder_190 rfl (lv_at hl 0 rfl) ?_
                      refine lv_if_eq (tgt := 235) hx hb dX3_readOrder_191 (by decide) (fun c_191 => ?_) (fun c_191 => ?_)
                      · refine lv_iconst (v := nI 0) hx hb dX3_readOrder_235 rfl ?_
                        refine pf_X3_141_8 CX hM.o0 hS (hM.B (by decide)) rfl rfl (Nat.le_of_ble_eq_true rfl) dX3_readOrder_236 (fun H26 locs hat hu hS => ?_)
                        have hM : MW G B0 o H H26 (enc S) sp sv (fun j => nI (t j)) sa (nI tn) th (nI (pp + 1 + 1)) (nI 0) (nI (t pp)) (nI ((t (pp + 1)) - 48)) (nI ((t (pp + 1)) - 48)) nu (nI ((t (pp + 1)) - 48)) := hM.set0 hat hu
                        refine lv_aload_n hx hb dX3_readOrder_239 rfl (lv_at hl 2 rfl) ?_
                        refine gf_X3_141_8 CX hM.o0 rfl dX3_readOrder_240 ?_
                        refine lv_if_eq (tgt := 259) hx hb dX3_readOrder_243 (by decide) (fun c_243 => ?_) (fun c_243 => ?_)
                        · refine lv_iconst (v := nI 0) hx hb dX3_readOrder_259 rfl ?_
                          rw [← hQ]
                          exact b_zret CX hr hlk hS (Nat.le_of_ble_eq_true rfl) (Nat.le_of_ble_eq_true rfl) rfl dX3_readOrder_260 (Or.inr (Or.inr (⟨_, _, _, _, _, _, (by unfold q_ord; simp only [if_neg c_39, if_neg e99, if_neg e50]; repeat (first | rw [if_pos (by first | assumption | omega)] | rw [if_neg (by first | assumption | omega)])), (by omega), rfl, hM⟩)))
                        · exact absurd c_243 (by decide)
                      · exact absurd c_191 (by decide)
                    · exact absurd c_142 (by decide)
                · exact absurd c_129 (by decide)
            · have hM : MW G B0 o H H6 (enc S) sp sv (fun j => nI (t j)) sa (nI tn) th (nI (pp + 1)) (nI 0) (nI (t pp)) on ot nu di97 := hM.tr hM9
              refine lv_istore_n (lv' := [(2, .int (nI 0)), (1, .int (nI 0)), (0, .ref (o 0))]) hx hb dX3_readOrder_114 rfl hl (Nat.le_of_ble_eq_true rfl) rfl (fun ls hl => ?_)
              refine lv_aload_n hx hb dX3_readOrder_115 rfl (lv_at hl 2 rfl) ?_
              refine lv_aload_n hx hb dX3_readOrder_116 rfl (lv_at hl 2 rfl) ?_
              refine gf_X3_135_8 CX hM.o0 rfl dX3_readOrder_117 ?_
              refine pf_X3_151_8 CX hM.o0 hS (hM.B (by decide)) rfl rfl (Nat.le_of_ble_eq_true rfl) dX3_readOrder_120 (fun H27 locs hat hu hS => ?_)
              have hM : MW G B0 o H H27 (enc S) sp sv (fun j => nI (t j)) sa (nI tn) th (nI (pp + 1)) (nI 0) (nI (t pp)) di97 ot nu di97 := hM.set0 hat hu
              refine lv_iload_n hx hb dX3_readOrder_123 rfl (lv_at hl 0 rfl) ?_
              refine lv_if_eq (tgt := 179) hx hb dX3_readOrder_124 (by decide) (fun c_124 => ?_) (fun c_124 => ?_)
              · refine lv_iconst (v := nI 0) hx hb dX3_readOrder_179 rfl ?_
                refine lv_istore_n (lv' := [(2, .int (nI 0)), (1, .int (nI 0)), (0, .ref (o 0))]) hx hb dX3_readOrder_180 rfl hl (Nat.le_of_ble_eq_true rfl) rfl (fun ls hl => ?_)
                refine lv_aload_n hx hb dX3_readOrder_181 rfl (lv_at hl 2 rfl) ?_
                refine lv_aload_n hx hb dX3_readOrder_182 rfl (lv_at hl 2 rfl) ?_
                refine gf_X3_135_8 CX hM.o0 rfl dX3_readOrder_183 ?_
                refine pf_X3_157_8 CX hM.o0 hS (hM.B (by decide)) rfl rfl (Nat.le_of_ble_eq_true rfl) dX3_readOrder_186 (fun H28 locs hat hu hS => ?_)
                have hM : MW G B0 o H H28 (enc S) sp sv (fun j => nI (t j)) sa (nI tn) th (nI (pp + 1)) (nI 0) (nI (t pp)) di97 di97 nu di97 := hM.set0 hat hu
                refine lv_aload_n hx hb dX3_readOrder_189 rfl (lv_at hl 2 rfl) ?_
                refine lv_iload_n hx hb dX3_readOrder_190 rfl (lv_at hl 0 rfl) ?_
                refine lv_if_eq (tgt := 235) hx hb dX3_readOrder_191 (by decide) (fun c_191 => ?_) (fun c_191 => ?_)
                · refine lv_iconst (v := nI 0) hx hb dX3_readOrder_235 rfl ?_
                  refine pf_X3_141_8 CX hM.o0 hS (hM.B (by decide)) rfl rfl (Nat.le_of_ble_eq_true rfl) dX3_readOrder_236 (fun H29 locs hat hu hS => ?_)
                  have hM : MW G B0 o H H29 (enc S) sp sv (fun j => nI (t j)) sa (nI tn) th (nI (pp + 1)) (nI 0) (nI (t pp)) di97 di97 nu di97 := hM.set0 hat hu
                  refine lv_aload_n hx hb dX3_readOrder_239 rfl (lv_at hl 2 rfl) ?_
                  refine gf_X3_141_8 CX hM.o0 rfl dX3_readOrder_240 ?_
                  refine lv_if_eq (tgt := 259) hx hb dX3_readOrder_243 (by decide) (fun c_243 => ?_) (fun c_243 => ?_)
                  · refine lv_iconst (v := nI 0) hx hb dX3_readOrder_259 rfl ?_
                    rw [← hQ]
                    exact b_zret CX hr hlk hS (Nat.le_of_ble_eq_true rfl) (Nat.le_of_ble_eq_true rfl) rfl dX3_readOrder_260 (Or.inr (Or.inr (⟨_, _, _, _, _, _, (by unfold q_ord; simp only [if_neg c_39, if_neg e99, if_neg e50]; repeat (first | rw [if_pos (by first | assumption | omega)] | rw [if_neg (by first | assumption | omega)])), (by omega), rfl, hM⟩)))
                  · exact absurd c_243 (by decide)
                · exact absurd c_191 (by decide)
              · exact absurd c_124 (by decide)
          · exact absurd c_102 (by decide)
        · refine lv_aload_n hx hb dX3_readOrder_61 rfl (lv_at hl 1 rfl) ?_
          refine gf_X3_145_8 CX hM.o0 rfl dX3_readOrder_62 ?_
          refine lv_bipush (v := nI 114) hx hb dX3_readOrder_65 rfl ?_
          refine b_icmp_eqN (tgt := 90) CX (by omega) (by omega) dX3_readOrder_67 (by decide) (fun c_67 => ?_) (fun c_67 => ?_)
          · have e99 : ¬ t pp = 99 := by omega
            have e50 : ¬ (t pp = 100 ∨ t pp = 99) := by omega
            refine lv_aload_n hx hb dX3_readOrder_90 rfl (lv_at hl 1 rfl) ?_
            refine lv_dup hx hb dX3_readOrder_91 rfl ?_
            refine gf_X3_132_8 CX hM.o0 rfl dX3_readOrder_92 ?_
            refine lv_iconst (v := nI 1) hx hb dX3_readOrder_95 rfl ?_
            refine b_iaddN CX dX3_readOrder_96 ?_
            refine pf_X3_132_8 CX hM.o0 hS (hM.B (by decide)) rfl rfl (Nat.le_of_ble_eq_true rfl) dX3_readOrder_97 (fun H30 locs hat hu hS => ?_)
            have hM : MW G B0 o H H30 (enc S) sp sv (fun j => nI (t j)) sa (nI tn) th (nI (pp + 1)) (nI 0) (nI (t pp)) on ot nu di := hM.set0 hat hu
            refine lv_aload_n hx hb dX3_readOrder_100 rfl (lv_at hl 1 rfl) ?_
            refine lv_iload_n hx hb dX3_readOrder_101 rfl (lv_at hl 0 rfl) ?_
            refine lv_if_eq (tgt := 110) hx hb dX3_readOrder_102 (by decide) (fun c_102 => ?_) (fun c_102 => ?_)
            · refine lv_iconst (v := nI 5) hx hb dX3_readOrder_110 rfl ?_
              refine b_ci (cs_X3_148 (rest := []) CX hl.1 (m_X3_digitTo l (hi := 5) hM ht (by omega) (by omega) (by omega)) rfl rfl rfl hM.o0 hS rfl ⟨rfl, rfl, Nat.le_of_ble_eq_true rfl, Nat.le_of_ble_eq_true rfl⟩ (Nat.le_of_ble_eq_true rfl) dX3_readOrder_111 ⟨Nat.le_of_ble_eq_true rfl, Nat.le_of_ble_eq_true rfl⟩) hS (fun r H31 locs hp hS => ?_)
              rcases hp with ⟨hc32, rfl, hM9⟩ | ⟨di932, hc32, rfl, hM9⟩
              · have hM : MW G B0 o H H31 (enc S) sp sv (fun j => nI (t j)) sa (nI tn) th (nI (pp + 1 + 1)) (nI 0) (nI (t pp)) on ot nu (nI ((t (pp + 1)) - 48)) := hM.tr hM9
                refine lv_istore_n (lv' := [(2, .int (nI 1)), (1, .int (nI 0)), (0, .ref (o 0))]) hx hb dX3_readOrder_114 rfl hl (Nat.le_of_ble_eq_true rfl) rfl (fun ls hl => ?_)
                refine lv_aload_n hx hb dX3_readOrder_115 rfl (lv_at hl 2 rfl) ?_
                refine lv_aload_n hx hb dX3_readOrder_116 rfl (lv_at hl 2 rfl) ?_
                refine gf_X3_135_8 CX hM.o0 rfl dX3_readOrder_117 ?_
                refine pf_X3_151_8 CX hM.o0 hS (hM.B (by decide)) rfl rfl (Nat.le_of_ble_eq_true rfl) dX3_readOrder_120 (fun H33 locs hat hu hS => ?_)
                have hM : MW G B0 o H H33 (enc S) sp sv (fun j => nI (t j)) sa (nI tn) th (nI (pp + 1 + 1)) (nI 0) (nI (t pp)) (nI ((t (pp + 1)) - 48)) ot nu (nI ((t (pp + 1)) - 48)) := hM.set0 hat hu
                refine lv_iload_n hx hb dX3_readOrder_123 rfl (lv_at hl 0 rfl) ?_
                refine lv_if_eq (tgt := 179) hx hb dX3_readOrder_124 (by decide) (fun c_124 => ?_) (fun c_124 => ?_)
                · exact absurd c_124 (by decide)
                · refine lv_aload_n hx hb dX3_readOrder_127 rfl (lv_at hl 2 rfl) ?_
                  refine lv_iload_n hx hb dX3_readOrder_128 rfl (lv_at hl 1 rfl) ?_
                  refine lv_if_eq (tgt := 137) hx hb dX3_readOrder_129 (by decide) (fun c_129 => ?_) (fun c_129 => ?_)
                  · refine lv_bipush (v := nI 58) hx hb dX3_readOrder_137 rfl ?_
                    refine b_ci (cs_X3_154 (rest := []) CX hl.1 (m_X3_sign l (x := 58) hM ht (by omega) (by omega) (by omega)) rfl rfl rfl hM.o0 hS rfl ⟨rfl, rfl, Nat.le_of_ble_eq_true rfl, Nat.le_of_ble_eq_true rfl⟩ (Nat.le_of_ble_eq_true rfl) dX3_readOrder_139 ⟨Nat.le_of_ble_eq_true rfl, Nat.le_of_ble_eq_true rfl⟩) hS (fun r H34 locs hp hS => ?_)
                    rcases hp with ⟨hc35, rfl, hM9⟩ | ⟨hc35, rfl, hM9⟩
                    · have hM : MW G B0 o H H34 (enc S) sp sv (fun j => nI (t j)) sa (nI tn) th (nI (pp + 1 + 1 + 1)) (nI 0) (nI (t pp)) (nI ((t (pp + 1)) - 48)) ot nu (nI ((t (pp + 1)) - 48)) := hM.tr hM9
                      refine lv_if_eq (tgt := 179) hx hb dX3_readOrder_142 (by decide) (fun c_142 => ?_) (fun c_142 => ?_)
                      · exact absurd c_142 (by decide)
                      · refine lv_aload_n hx hb dX3_readOrder_145 rfl (lv_at hl 2 rfl) ?_
                        refine lv_iload_n hx hb dX3_readOrder_146 rfl (lv_at hl 1 rfl) ?_
                        refine lv_if_eq (tgt := 154) hx hb dX3_readOrder_147 (by decide) (fun c_147 => ?_) (fun c_147 => ?_)
                        · refine lv_aload_n hx hb dX3_readOrder_154 rfl (lv_at hl 2 rfl) ?_
                          refine gf_X3_145_8 CX hM.o0 rfl dX3_readOrder_155 ?_
                          refine lv_bipush (v := nI 99) hx hb dX3_readOrder_158 rfl ?_
                          refine b_icmp_neN (tgt := 167) CX (by omega) (by omega) dX3_readOrder_160 (by decide) (fun c_160 => ?_) (fun c_160 => ?_)
                          · refine lv_bipush (v := nI 7) hx hb dX3_readOrder_167 rfl ?_
                            refine b_ci (cs_X3_148 (rest := []) CX hl.1 (m_X3_digitTo l (hi := 7) hM ht (by omega) (by omega) (by omega)) rfl rfl rfl hM.o0 hS rfl ⟨rfl, rfl, Nat.le_of_ble_eq_true rfl, Nat.le_of_ble_eq_true rfl⟩ (Nat.le_of_ble_eq_true rfl) dX3_readOrder_169 ⟨Nat.le_of_ble_eq_true rfl, Nat.le_of_ble_eq_true rfl⟩) hS (fun r H36 locs hp hS => ?_)
                            rcases hp with ⟨hc37, rfl, hM9⟩ | ⟨di937, hc37, rfl, hM9⟩
                            · have hM : MW G B0 o H H36 (enc S) sp sv (fun j => nI (t j)) sa (nI tn) th (nI (pp + 1 + 1 + 1 + 1)) (nI 0) (nI (t pp)) (nI ((t (pp + 1)) - 48)) ot nu (nI ((t (pp + 1 + 1 + 1)) - 48)) := hM.tr hM9
                              refine lv_if_eq (tgt := 179) hx hb dX3_readOrder_172 (by decide) (fun c_172 => ?_) (fun c_172 => ?_)
                              · exact absurd c_172 (by decide)
                              · refine lv_iconst (v := nI 1) hx hb dX3_readOrder_175 rfl ?_
                                refine lv_goto (tgt := 180) hx hb dX3_readOrder_176 (by decide) ?_
                                refine lv_istore_n (lv' := [(2, .int (nI 1)), (1, .int (nI 0)), (0, .ref (o 0))]) hx hb dX3_readOrder_180 rfl hl (Nat.le_of_ble_eq_true rfl) rfl (fun ls hl => ?_)
                                refine lv_aload_n hx hb dX3_readOrder_181 rfl (lv_at hl 2 rfl) ?_
                                refine lv_aload_n hx hb dX3_readOrder_182 rfl (lv_at hl 2 rfl) ?_
                                refine gf_X3_135_8 CX hM.o0 rfl dX3_readOrder_183 ?_
                                refine pf_X3_157_8 CX hM.o0 hS (hM.B (by decide)) rfl rfl (Nat.le_of_ble_eq_true rfl) dX3_readOrder_186 (fun H38 locs hat hu hS => ?_)
                                have hM : MW G B0 o H H38 (enc S) sp sv (fun j => nI (t j)) sa (nI tn) th (nI (pp + 1 + 1 + 1 + 1)) (nI 0) (nI (t pp)) (nI ((t (pp + 1)) - 48)) (nI ((t (pp + 1 + 1 + 1)) - 48)) nu (nI ((t (pp + 1 + 1 + 1)) - 48)) := hM.set0 hat hu
                                refine lv_aload_n hx hb dX3_readOrder_189 rfl (lv_at hl 2 rfl) ?_
                                refine lv_iload_n hx hb dX3_readOrder_190 rfl (lv_at hl 0 rfl) ?_
                                refine lv_if_eq (tgt := 235) hx hb dX3_readOrder_191 (by decide) (fun c_191 => ?_) (fun c_191 => ?_)
                                · exact absurd c_191 (by decide)
                                · refine lv_aload_n hx hb dX3_readOrder_194 rfl (lv_at hl 2 rfl) ?_
                                  refine lv_bipush (v := nI 42) hx hb dX3_readOrder_195 rfl ?_
                                  refine b_ci (cs_X3_154 (rest := [.ref (o 0)]) CX hl.1 (m_X3_sign l (x := 42) hM ht (by omega) (by omega) (by omega)) rfl rfl rfl hM.o0 hS rfl ⟨rfl, rfl, Nat.le_of_ble_eq_true rfl, Nat.le_of_ble_eq_true rfl⟩ (Nat.le_of_ble_eq_true rfl) dX3_readOrder_197 ⟨Nat.le_of_ble_eq_true rfl, Nat.le_of_ble_eq_true rfl⟩) hS (fun r H39 locs hp hS => ?_)
                                  rcases hp with ⟨hc40, rfl, hM9⟩ | ⟨hc40, rfl, hM9⟩
                                  · have hM : MW G B0 o H H39 (enc S) sp sv (fun j => nI (t j)) sa (nI tn) th (nI (pp + 1 + 1 + 1 + 1 + 1)) (nI 0) (nI (t pp)) (nI ((t (pp + 1)) - 48)) (nI ((t (pp + 1 + 1 + 1)) - 48)) nu (nI ((t (pp + 1 + 1 + 1)) - 48)) := hM.tr hM9
                                    refine lv_if_eq (tgt := 235) hx hb dX3_readOrder_200 (by decide) (fun c_200 => ?_) (fun c_200 => ?_)
                                    · exact absurd c_200 (by decide)
                                    · refine lv_aload_n hx hb dX3_readOrder_203 rfl (lv_at hl 2 rfl) ?_
                                      refine lv_iload_n hx hb dX3_readOrder_204 rfl (lv_at hl 1 rfl) ?_
                                      refine lv_if_ne (tgt := 217) hx hb dX3_readOrder_205 (by decide) (fun c_205 => ?_) (fun c_205 => ?_)
                                      · exact absurd c_205 (by decide)
                                      · refine lv_aload_n hx hb dX3_readOrder_208 rfl (lv_at hl 2 rfl) ?_
                                        refine gf_X3_145_8 CX hM.o0 rfl dX3_readOrder_209 ?_
                                        refine lv_bipush (v := nI 99) hx hb dX3_readOrder_212 rfl ?_
                                        refine b_icmp_neN (tgt := 222) CX (by omega) (by omega) dX3_readOrder_214 (by decide) (fun c_214 => ?_) (fun c_214 => ?_)
                                        · refine lv_sipush (v := nI 500) hx hb dX3_readOrder_222 rfl ?_
                                          refine b_ci (cs_X3_160 (rest := [.ref (o 0)]) CX hl.1 (m_X3_readNumber l (hi := 500) hM ht (by omega) (by omega) (by omega)) rfl rfl rfl hM.o0 hS rfl ⟨rfl, rfl, Nat.le_of_ble_eq_true rfl, Nat.le_of_ble_eq_true rfl⟩ (Nat.le_of_ble_eq_true rfl) dX3_readOrder_225 ⟨Nat.le_of_ble_eq_true rfl, Nat.le_of_ble_eq_true rfl⟩) hS (fun r H41 locs hp hS => ?_)
                                          rcases hp with ⟨p942, v942, hq42, hv42, hp42, rfl, hM9⟩ | ⟨p942, v942, hq42, hv42, hp42, rfl, hM9⟩
                                          · have hM : MW G B0 o H H41 (enc S) sp sv (fun j => nI (t j)) sa (nI tn) th (nI p942) (nI 0) (nI (t pp)) (nI ((t (pp + 1)) - 48)) (nI ((t (pp + 1 + 1 + 1)) - 48)) (nI v942) (nI ((t (pp + 1 + 1 + 1)) - 48)) := hM.tr hM9
                                            refine lv_if_eq (tgt := 235) hx hb dX3_readOrder_228 (by decide) (fun c_228 => ?_) (fun c_228 => ?_)
                                            · exact absurd c_228 (by decide)
                                            · refine lv_iconst (v := nI 1) hx hb dX3_readOrder_231 rfl ?_
                                              refine lv_goto (tgt := 236) hx hb dX3_readOrder_232 (by decide) ?_
                                              refine pf_X3_141_8 CX hM.o0 hS (hM.B (by decide)) rfl rfl (Nat.le_of_ble_eq_true rfl) dX3_readOrder_236 (fun H43 locs hat hu hS => ?_)
                                              have hM : MW G B0 o H H43 (enc S) sp sv (fun j => nI (t j)) sa (nI tn) th (nI p942) (nI 1) (nI (t pp)) (nI ((t (pp + 1)) - 48)) (nI ((t (pp + 1 + 1 + 1)) - 48)) (nI v942) (nI ((t (pp + 1 + 1 + 1)) - 48)) := hM.set0 hat hu
                                              refine lv_aload_n hx hb dX3_readOrder_239 rfl (lv_at hl 2 rfl) ?_
                                              refine gf_X3_141_8 CX hM.o0 rfl dX3_readOrder_240 ?_
                                              refine lv_if_eq (tgt := 259) hx hb dX3_readOrder_243 (by decide) (fun c_243 => ?_) (fun c_243 => ?_)
                                              · exact absurd c_243 (by decide)
                                              · refine lv_aload_n hx hb dX3_readOrder_246 rfl (lv_at hl 2 rfl) ?_
                                                refine lv_bipush (v := nI 59) hx hb dX3_readOrder_247 rfl ?_
                                                refine b_ci (cs_X3_154 (rest := []) CX hl.1 (m_X3_sign l (x := 59) hM ht (by omega) (by omega) (by omega)) rfl rfl rfl hM.o0 hS rfl ⟨rfl, rfl, Nat.le_of_ble_eq_true rfl, Nat.le_of_ble_eq_true rfl⟩ (Nat.le_of_ble_eq_true rfl) dX3_readOrder_249 ⟨Nat.le_of_ble_eq_true rfl, Nat.le_of_ble_eq_true rfl⟩) hS (fun r H44 locs hp hS => ?_)
                                                rcases hp with ⟨hc45, rfl, hM9⟩ | ⟨hc45, rfl, hM9⟩
                                                · have hM : MW G B0 o H H44 (enc S) sp sv (fun j => nI (t j)) sa (nI tn) th (nI (p942 + 1)) (nI 1) (nI (t pp)) (nI ((t (pp + 1)) - 48)) (nI ((t (pp + 1 + 1 + 1)) - 48)) (nI v942) (nI ((t (pp + 1 + 1 + 1)) - 48)) := hM.tr hM9
                                                  refine lv_if_eq (tgt := 259) hx hb dX3_readOrder_252 (by decide) (fun c_252 => ?_) (fun c_252 => ?_)
                                                  · exact absurd c_252 (by decide)
                                                  · refine lv_iconst (v := nI 1) hx hb dX3_readOrder_255 rfl ?_
                                                    refine lv_goto (tgt := 260) hx hb dX3_readOrder_256 (by decide) ?_
                                                    rw [← hQ]
                                                    exact b_zret CX hr hlk hS (Nat.le_of_ble_eq_true rfl) (Nat.le_of_ble_eq_true rfl) rfl dX3_readOrder_260 (Or.inl ⟨_, _, _, _, _, _, (by unfold q_ord; simp only [if_neg c_39, if_neg e99, if_neg e50, hq42]; repeat (first | rw [if_pos (by first | assumption | omega)] | rw [if_neg (by first | assumption | omega)])), (by first | assumption | omega), (by omega), rfl, hM⟩)
                                                · have hM : MW G B0 o H H44 (enc S) sp sv (fun j => nI (t j)) sa (nI tn) th (nI p942) (nI 1) (nI (t pp)) (nI ((t (pp + 1)) - 48)) (nI ((t (pp + 1 + 1 + 1)) - 48)) (nI v942) (nI ((t (pp + 1 + 1 + 1)) - 48)) := hM.tr hM9
                                                  refine lv_if_eq (tgt := 259) hx hb dX3_readOrder_252 (by decide) (fun c_252 => ?_) (fun c_252 => ?_)
                                                  · refine lv_iconst (v := nI 0) hx hb dX3_readOrder_259 rfl ?_
                                                    rw [← hQ]
                                                    exact b_zret CX hr hlk hS (Nat.le_of_ble_eq_true rfl) (Nat.le_of_ble_eq_true rfl) rfl dX3_readOrder_260 (Or.inr (Or.inl ⟨_, _, _, _, _, _, (by unfold q_ord; simp only [if_neg c_39, if_neg e99, if_neg e50, hq42]; repeat (first | rw [if_pos (by first | assumption | omega)] | rw [if_neg (by first | assumption | omega)])), (by first | assumption | omega), (by omega), rfl, hM⟩))
                                                  · exact absurd c_252 (by decide)
                                          · have hM : MW G B0 o H H41 (enc S) sp sv (fun j => nI (t j)) sa (nI tn) th (nI p942) (nI 0) (nI (t pp)) (nI ((t (pp + 1)) - 48)) (nI ((t (pp + 1 + 1 + 1)) - 48)) (nI v942) (nI ((t (pp + 1 + 1 + 1)) - 48)) := hM.tr hM9
                                            refine lv_if_eq (tgt := 235) hx hb dX3_readOrder_228 (by decide) (fun c_228 => ?_) (fun c_228 => ?_)
                                            · refine lv_iconst (v := nI 0) hx hb dX3_readOrder_235 rfl ?_
                                              refine pf_X3_141_8 CX hM.o0 hS (hM.B (by decide)) rfl rfl (Nat.le_of_ble_eq_true rfl) dX3_readOrder_236 (fun H46 locs hat hu hS => ?_)
                                              have hM : MW G B0 o H H46 (enc S) sp sv (fun j => nI (t j)) sa (nI tn) th (nI p942) (nI 0) (nI (t pp)) (nI ((t (pp + 1)) - 48)) (nI ((t (pp + 1 + 1 + 1)) - 48)) (nI v942) (nI ((t (pp + 1 + 1 + 1)) - 48)) := hM.set0 hat hu
                                              refine lv_aload_n hx hb dX3_readOrder_239 rfl (lv_at hl 2 rfl) ?_
                                              refine gf_X3_141_8 CX hM.o0 rfl dX3_readOrder_240 ?_
                                              refine lv_if_eq (tgt := 259) hx hb dX3_readOrder_243 (by decide) (fun c_243 => ?_) (fun c_243 => ?_)
                                              · refine lv_iconst (v := nI 0) hx hb dX3_readOrder_259 rfl ?_
                                                rw [← hQ]
                                                exact b_zret CX hr hlk hS (Nat.le_of_ble_eq_true rfl) (Nat.le_of_ble_eq_true rfl) rfl dX3_readOrder_260 (Or.inr (Or.inr (⟨_, _, _, _, _, _, (by unfold q_ord; simp only [if_neg c_39, if_neg e99, if_neg e50, hq42]; repeat (first | rw [if_pos (by first | assumption | omega)] | rw [if_neg (by first | assumption | omega)])), (by omega), rfl, hM⟩)))
                                              · exact absurd c_243 (by decide)
                                            · exact absurd c_228 (by decide)
                                        · exfalso; omega
                                  · have hM : MW G B0 o H H39 (enc S) sp sv (fun j => nI (t j)) sa (nI tn) th (nI (pp + 1 + 1 + 1 + 1)) (nI 0) (nI (t pp)) (nI ((t (pp + 1)) - 48)) (nI ((t (pp + 1 + 1 + 1)) - 48)) nu (nI ((t (pp + 1 + 1 + 1)) - 48)) := hM.tr hM9
                                    refine lv_if_eq (tgt := 235) hx hb dX3_readOrder_200 (by decide) (fun c_200 => ?_) (fun c_200 => ?_)
                                    · refine lv_iconst (v := nI 0) hx hb dX3_readOrder_235 rfl ?_
                                      refine pf_X3_141_8 CX hM.o0 hS (hM.B (by decide)) rfl rfl (Nat.le_of_ble_eq_true rfl) dX3_readOrder_236 (fun H47 locs hat hu hS => ?_)
                                      have hM : MW G B0 o H H47 (enc S) sp sv (fun j => nI (t j)) sa (nI tn) th (nI (pp + 1 + 1 + 1 + 1)) (nI 0) (nI (t pp)) (nI ((t (pp + 1)) - 48)) (nI ((t (pp + 1 + 1 + 1)) - 48)) nu (nI ((t (pp + 1 + 1 + 1)) - 48)) := hM.set0 hat hu
                                      refine lv_aload_n hx hb dX3_readOrder_239 rfl (lv_at hl 2 rfl) ?_
                                      refine gf_X3_141_8 CX hM.o0 rfl dX3_readOrder_240 ?_
                                      refine lv_if_eq (tgt := 259) hx hb dX3_readOrder_243 (by decide) (fun c_243 => ?_) (fun c_243 => ?_)
                                      · refine lv_iconst (v := nI 0) hx hb dX3_readOrder_259 rfl ?_
                                        rw [← hQ]
                                        exact b_zret CX hr hlk hS (Nat.le_of_ble_eq_true rfl) (Nat.le_of_ble_eq_true rfl) rfl dX3_readOrder_260 (Or.inr (Or.inr (⟨_, _, _, _, _, _, (by unfold q_ord; simp only [if_neg c_39, if_neg e99, if_neg e50]; repeat (first | rw [if_pos (by first | assumption | omega)] | rw [if_neg (by first | assumption | omega)])), (by omega), rfl, hM⟩)))
                                      · exact absurd c_243 (by decide)
                                    · exact absurd c_200 (by decide)
                            · have hM : MW G B0 o H H36 (enc S) sp sv (fun j => nI (t j)) sa (nI tn) th (nI (pp + 1 + 1 + 1)) (nI 0) (nI (t pp)) (nI ((t (pp + 1)) - 48)) ot nu di937 := hM.tr hM9
                              refine lv_if_eq (tgt := 179) hx hb dX3_readOrder_172 (by decide) (fun c_172 => ?_) (fun c_172 => ?_)
                              · refine lv_iconst (v := nI 0) hx hb dX3_readOrder_179 rfl ?_
                                refine lv_istore_n (lv' := [(2, .int (nI 0)), (1, .int (nI 0)), (0, .ref (o 0))]) hx hb dX3_readOrder_180 rfl hl (Nat.le_of_ble_eq_true rfl) rfl (fun ls hl => ?_)
                                refine lv_aload_n hx hb dX3_readOrder_181 rfl (lv_at hl 2 rfl) ?_
                                refine lv_aload_n hx hb dX3_readOrder_182 rfl (lv_at hl 2 rfl) ?_
                                refine gf_X3_135_8 CX hM.o0 rfl dX3_readOrder_183 ?_
                                refine pf_X3_157_8 CX hM.o0 hS (hM.B (by decide)) rfl rfl (Nat.le_of_ble_eq_true rfl) dX3_readOrder_186 (fun H48 locs hat hu hS => ?_)
                                have hM : MW G B0 o H H48 (enc S) sp sv (fun j => nI (t j)) sa (nI tn) th (nI (pp + 1 + 1 + 1)) (nI 0) (nI (t pp)) (nI ((t (pp + 1)) - 48)) di937 nu di937 := hM.set0 hat hu
                                refine lv_aload_n hx hb dX3_readOrder_189 rfl (lv_at hl 2 rfl) ?_
                                refine lv_iload_n hx hb dX3_readOrder_190 rfl (lv_at hl 0 rfl) ?_
                                refine lv_if_eq (tgt := 235) hx hb dX3_readOrder_191 (by decide) (fun c_191 => ?_) (fun c_191 => ?_)
                                · refine lv_iconst (v := nI 0) hx hb dX3_readOrder_235 rfl ?_
                                  refine pf_X3_141_8 CX hM.o0 hS (hM.B (by decide)) rfl rfl (Nat.le_of_ble_eq_true rfl) dX3_readOrder_236 (fun H49 locs hat hu hS => ?_)
                                  have hM : MW G B0 o H H49 (enc S) sp sv (fun j => nI (t j)) sa (nI tn) th (nI (pp + 1 + 1 + 1)) (nI 0) (nI (t pp)) (nI ((t (pp + 1)) - 48)) di937 nu di937 := hM.set0 hat hu
                                  refine lv_aload_n hx hb dX3_readOrder_239 rfl (lv_at hl 2 rfl) ?_
                                  refine gf_X3_141_8 CX hM.o0 rfl dX3_readOrder_240 ?_
                                  refine lv_if_eq (tgt := 259) hx hb dX3_readOrder_243 (by decide) (fun c_243 => ?_) (fun c_243 => ?_)
                                  · refine lv_iconst (v := nI 0) hx hb dX3_readOrder_259 rfl ?_
                                    rw [← hQ]
                                    exact b_zret CX hr hlk hS (Nat.le_of_ble_eq_true rfl) (Nat.le_of_ble_eq_true rfl) rfl dX3_readOrder_260 (Or.inr (Or.inr (⟨_, _, _, _, _, _, (by unfold q_ord; simp only [if_neg c_39, if_neg e99, if_neg e50]; repeat (first | rw [if_pos (by first | assumption | omega)] | rw [if_neg (by first | assumption | omega)])), (by omega), rfl, hM⟩)))
                                  · exact absurd c_243 (by decide)
                                · exact absurd c_191 (by decide)
                              · exact absurd c_172 (by decide)
                          · exfalso; omega
                        · exact absurd c_147 (by decide)
                    · have hM : MW G B0 o H H34 (enc S) sp sv (fun j => nI (t j)) sa (nI tn) th (nI (pp + 1 + 1)) (nI 0) (nI (t pp)) (nI ((t (pp + 1)) - 48)) ot nu (nI ((t (pp + 1)) - 48)) := hM.tr hM9
                      refine lv_if_eq (tgt := 179) hx hb dX3_readOrder_142 (by decide) (fun c_142 => ?_) (fun c_142 => ?_)
                      · refine lv_iconst (v := nI 0) hx hb dX3_readOrder_179 rfl ?_
                        refine lv_istore_n (lv' := [(2, .int (nI 0)), (1, .int (nI 0)), (0, .ref (o 0))]) hx hb dX3_readOrder_180 rfl hl (Nat.le_of_ble_eq_true rfl) rfl (fun ls hl => ?_)
                        refine lv_aload_n hx hb dX3_readOrder_181 rfl (lv_at hl 2 rfl) ?_
                        refine lv_aload_n hx hb dX3_readOrder_182 rfl (lv_at hl 2 rfl) ?_
                        refine gf_X3_135_8 CX hM.o0 rfl dX3_readOrder_183 ?_
                        refine pf_X3_157_8 CX hM.o0 hS (hM.B (by decide)) rfl rfl (Nat.le_of_ble_eq_true rfl) dX3_readOrder_186 (fun H50 locs hat hu hS => ?_)
                        have hM : MW G B0 o H H50 (enc S) sp sv (fun j => nI (t j)) sa (nI tn) th (nI (pp + 1 + 1)) (nI 0) (nI (t pp)) (nI ((t (pp + 1)) - 48)) (nI ((t (pp + 1)) - 48)) nu (nI ((t (pp + 1)) - 48)) := hM.set0 hat hu
                        refine lv_aload_n hx hb dX3_readOrder_189 rfl (lv_at hl 2 rfl) ?_
                        refine lv_iload_n hx hb dX3_readOrder_190 rfl (lv_at hl 0 rfl) ?_
                        refine lv_if_eq (tgt := 235) hx hb dX3_readOrder_191 (by decide) (fun c_191 => ?_) (fun c_191 => ?_)
                        · refine lv_iconst (v := nI 0) hx hb dX3_readOrder_235 rfl ?_
                          refine pf_X3_141_8 CX hM.o0 hS (hM.B (by decide)) rfl rfl (Nat.le_of_ble_eq_true rfl) dX3_readOrder_236 (fun H51 locs hat hu hS => ?_)
                          have hM : MW G B0 o H H51 (enc S) sp sv (fun j => nI (t j)) sa (nI tn) th (nI (pp + 1 + 1)) (nI 0) (nI (t pp)) (nI ((t (pp + 1)) - 48)) (nI ((t (pp + 1)) - 48)) nu (nI ((t (pp + 1)) - 48)) := hM.set0 hat hu
                          refine lv_aload_n hx hb dX3_readOrder_239 rfl (lv_at hl 2 rfl) ?_
                          refine gf_X3_141_8 CX hM.o0 rfl dX3_readOrder_240 ?_
                          refine lv_if_eq (tgt := 259) hx hb dX3_readOrder_243 (by decide) (fun c_243 => ?_) (fun c_243 => ?_)
                          · refine lv_iconst (v := nI 0) hx hb dX3_readOrder_259 rfl ?_
                            rw [← hQ]
                            exact b_zret CX hr hlk hS (Nat.le_of_ble_eq_true rfl) (Nat.le_of_ble_eq_true rfl) rfl dX3_readOrder_260 (Or.inr (Or.inr (⟨_, _, _, _, _, _, (by unfold q_ord; simp only [if_neg c_39, if_neg e99, if_neg e50]; repeat (first | rw [if_pos (by first | assumption | omega)] | rw [if_neg (by first | assumption | omega)])), (by omega), rfl, hM⟩)))
                          · exact absurd c_243 (by decide)
                        · exact absurd c_191 (by decide)
                      · exact absurd c_142 (by decide)
                  · exact absurd c_129 (by decide)
              · have hM : MW G B0 o H H31 (enc S) sp sv (fun j => nI (t j)) sa (nI tn) th (nI (pp + 1)) (nI 0) (nI (t pp)) on ot nu di932 := hM.tr hM9
                refine lv_istore_n (lv' := [(2, .int (nI 0)), (1, .int (nI 0)), (0, .ref (o 0))]) hx hb dX3_readOrder_114 rfl hl (Nat.le_of_ble_eq_true rfl) rfl (fun ls hl => ?_)
                refine lv_aload_n hx hb dX3_readOrder_115 rfl (lv_at hl 2 rfl) ?_
                refine lv_aload_n hx hb dX3_readOrder_116 rfl (lv_at hl 2 rfl) ?_
                refine gf_X3_135_8 CX hM.o0 rfl dX3_readOrder_117 ?_
                refine pf_X3_151_8 CX hM.o0 hS (hM.B (by decide)) rfl rfl (Nat.le_of_ble_eq_true rfl) dX3_readOrder_120 (fun H52 locs hat hu hS => ?_)
                have hM : MW G B0 o H H52 (enc S) sp sv (fun j => nI (t j)) sa (nI tn) th (nI (pp + 1)) (nI 0) (nI (t pp)) di932 ot nu di932 := hM.set0 hat hu
                refine lv_iload_n hx hb dX3_readOrder_123 rfl (lv_at hl 0 rfl) ?_
                refine lv_if_eq (tgt := 179) hx hb dX3_readOrder_124 (by decide) (fun c_124 => ?_) (fun c_124 => ?_)
                · refine lv_iconst (v := nI 0) hx hb dX3_readOrder_179 rfl ?_
                  refine lv_istore_n (lv' := [(2, .int (nI 0)), (1, .int (nI 0)), (0, .ref (o 0))]) hx hb dX3_readOrder_180 rfl hl (Nat.le_of_ble_eq_true rfl) rfl (fun ls hl => ?_)
                  refine lv_aload_n hx hb dX3_readOrder_181 rfl (lv_at hl 2 rfl) ?_
                  refine lv_aload_n hx hb dX3_readOrder_182 rfl (lv_at hl 2 rfl) ?_
                  refine gf_X3_135_8 CX hM.o0 rfl dX3_readOrder_183 ?_
                  refine pf_X3_157_8 CX hM.o0 hS (hM.B (by decide)) rfl rfl (Nat.le_of_ble_eq_true rfl) dX3_readOrder_186 (fun H53 locs hat hu hS => ?_)
                  have hM : MW G B0 o H H53 (enc S) sp sv (fun j => nI (t j)) sa (nI tn) th (nI (pp + 1)) (nI 0) (nI (t pp)) di932 di932 nu di932 := hM.set0 hat hu
                  refine lv_aload_n hx hb dX3_readOrder_189 rfl (lv_at hl 2 rfl) ?_
                  refine lv_iload_n hx hb dX3_readOrder_190 rfl (lv_at hl 0 rfl) ?_
                  refine lv_if_eq (tgt := 235) hx hb dX3_readOrder_191 (by decide) (fun c_191 => ?_) (fun c_191 => ?_)
                  · refine lv_iconst (v := nI 0) hx hb dX3_readOrder_235 rfl ?_
                    refine pf_X3_141_8 CX hM.o0 hS (hM.B (by decide)) rfl rfl (Nat.le_of_ble_eq_true rfl) dX3_readOrder_236 (fun H54 locs hat hu hS => ?_)
                    have hM : MW G B0 o H H54 (enc S) sp sv (fun j => nI (t j)) sa (nI tn) th (nI (pp + 1)) (nI 0) (nI (t pp)) di932 di932 nu di932 := hM.set0 hat hu
                    refine lv_aload_n hx hb dX3_readOrder_239 rfl (lv_at hl 2 rfl) ?_
                    refine gf_X3_141_8 CX hM.o0 rfl dX3_readOrder_240 ?_
                    refine lv_if_eq (tgt := 259) hx hb dX3_readOrder_243 (by decide) (fun c_243 => ?_) (fun c_243 => ?_)
                    · refine lv_iconst (v := nI 0) hx hb dX3_readOrder_259 rfl ?_
                      rw [← hQ]
                      exact b_zret CX hr hlk hS (Nat.le_of_ble_eq_true rfl) (Nat.le_of_ble_eq_true rfl) rfl dX3_readOrder_260 (Or.inr (Or.inr (⟨_, _, _, _, _, _, (by unfold q_ord; simp only [if_neg c_39, if_neg e99, if_neg e50]; repeat (first | rw [if_pos (by first | assumption | omega)] | rw [if_neg (by first | assumption | omega)])), (by omega), rfl, hM⟩)))
                    · exact absurd c_243 (by decide)
                  · exact absurd c_191 (by decide)
                · exact absurd c_124 (by decide)
            · exact absurd c_102 (by decide)
          · refine lv_aload_n hx hb dX3_readOrder_70 rfl (lv_at hl 1 rfl) ?_
            refine gf_X3_145_8 CX hM.o0 rfl dX3_readOrder_71 ?_
            refine lv_bipush (v := nI 98) hx hb dX3_readOrder_74 rfl ?_
            refine b_icmp_eqN (tgt := 90) CX (by omega) (by omega) dX3_readOrder_76 (by decide) (fun c_76 => ?_) (fun c_76 => ?_)
            · have e99 : ¬ t pp = 99 := by omega
              have e50 : ¬ (t pp = 100 ∨ t pp = 99) := by omega
              refine lv_aload_n hx hb dX3_readOrder_90 rfl (lv_at hl 1 rfl) ?_
              refine lv_dup hx hb dX3_readOrder_91 rfl ?_
              refine gf_X3_132_8 CX hM.o0 rfl dX3_readOrder_92 ?_
              refine lv_iconst (v := nI 1) hx hb dX3_readOrder_95 rfl ?_
              refine b_iaddN CX dX3_readOrder_96 ?_
              refine pf_X3_132_8 CX hM.o0 hS (hM.B (by decide)) rfl rfl (Nat.le_of_ble_eq_true rfl) dX3_readOrder_97 (fun H55 locs hat hu hS => ?_)
              have hM : MW G B0 o H H55 (enc S) sp sv (fun j => nI (t j)) sa (nI tn) th (nI (pp + 1)) (nI 0) (nI (t pp)) on ot nu di := hM.set0 hat hu
              refine lv_aload_n hx hb dX3_readOrder_100 rfl (lv_at hl 1 rfl) ?_
              refine lv_iload_n hx hb dX3_readOrder_101 rfl (lv_at hl 0 rfl) ?_
              refine lv_if_eq (tgt := 110) hx hb dX3_readOrder_102 (by decide) (fun c_102 => ?_) (fun c_102 => ?_)
              · refine lv_iconst (v := nI 5) hx hb dX3_readOrder_110 rfl ?_
                refine b_ci (cs_X3_148 (rest := []) CX hl.1 (m_X3_digitTo l (hi := 5) hM ht (by omega) (by omega) (by omega)) rfl rfl rfl hM.o0 hS rfl ⟨rfl, rfl, Nat.le_of_ble_eq_true rfl, Nat.le_of_ble_eq_true rfl⟩ (Nat.le_of_ble_eq_true rfl) dX3_readOrder_111 ⟨Nat.le_of_ble_eq_true rfl, Nat.le_of_ble_eq_true rfl⟩) hS (fun r H56 locs hp hS => ?_)
                rcases hp with ⟨hc57, rfl, hM9⟩ | ⟨di957, hc57, rfl, hM9⟩
                · have hM : MW G B0 o H H56 (enc S) sp sv (fun j => nI (t j)) sa (nI tn) th (nI (pp + 1 + 1)) (nI 0) (nI (t pp)) on ot nu (nI ((t (pp + 1)) - 48)) := hM.tr hM9
                  refine lv_istore_n (lv' := [(2, .int (nI 1)), (1, .int (nI 0)), (0, .ref (o 0))]) hx hb dX3_readOrder_114 rfl hl (Nat.le_of_ble_eq_true rfl) rfl (fun ls hl => ?_)
                  refine lv_aload_n hx hb dX3_readOrder_115 rfl (lv_at hl 2 rfl) ?_
                  refine lv_aload_n hx hb dX3_readOrder_116 rfl (lv_at hl 2 rfl) ?_
                  refine gf_X3_135_8 CX hM.o0 rfl dX3_readOrder_117 ?_
                  refine pf_X3_151_8 CX hM.o0 hS (hM.B (by decide)) rfl rfl (Nat.le_of_ble_eq_true rfl) dX3_readOrder_120 (fun H58 locs hat hu hS => ?_)
                  have hM : MW G B0 o H H58 (enc S) sp sv (fun j => nI (t j)) sa (nI tn) th (nI (pp + 1 + 1)) (nI 0) (nI (t pp)) (nI ((t (pp + 1)) - 48)) ot nu (nI ((t (pp + 1)) - 48)) := hM.set0 hat hu
                  refine lv_iload_n hx hb dX3_readOrder_123 rfl (lv_at hl 0 rfl) ?_
                  refine lv_if_eq (tgt := 179) hx hb dX3_readOrder_124 (by decide) (fun c_124 => ?_) (fun c_124 => ?_)
                  · exact absurd c_124 (by decide)
                  · refine lv_aload_n hx hb dX3_readOrder_127 rfl (lv_at hl 2 rfl) ?_
                    refine lv_iload_n hx hb dX3_readOrder_128 rfl (lv_at hl 1 rfl) ?_
                    refine lv_if_eq (tgt := 137) hx hb dX3_readOrder_129 (by decide) (fun c_129 => ?_) (fun c_129 => ?_)
                    · refine lv_bipush (v := nI 58) hx hb dX3_readOrder_137 rfl ?_
                      refine b_ci (cs_X3_154 (rest := []) CX hl.1 (m_X3_sign l (x := 58) hM ht (by omega) (by omega) (by omega)) rfl rfl rfl hM.o0 hS rfl ⟨rfl, rfl, Nat.le_of_ble_eq_true rfl, Nat.le_of_ble_eq_true rfl⟩ (Nat.le_of_ble_eq_true rfl) dX3_readOrder_139 ⟨Nat.le_of_ble_eq_true rfl, Nat.le_of_ble_eq_true rfl⟩) hS (fun r H59 locs hp hS => ?_)
                      rcases hp with ⟨hc60, rfl, hM9⟩ | ⟨hc60, rfl, hM9⟩
                      · have hM : MW G B0 o H H59 (enc S) sp sv (fun j => nI (t j)) sa (nI tn) th (nI (pp + 1 + 1 + 1)) (nI 0) (nI (t pp)) (nI ((t (pp + 1)) - 48)) ot nu (nI ((t (pp + 1)) - 48)) := hM.tr hM9
                        refine lv_if_eq (tgt := 179) hx hb dX3_readOrder_142 (by decide) (fun c_142 => ?_) (fun c_142 => ?_)
                        · exact absurd c_142 (by decide)
                        · refine lv_aload_n hx hb dX3_readOrder_145 rfl (lv_at hl 2 rfl) ?_
                          refine lv_iload_n hx hb dX3_readOrder_146 rfl (lv_at hl 1 rfl) ?_
                          refine lv_if_eq (tgt := 154) hx hb dX3_readOrder_147 (by decide) (fun c_147 => ?_) (fun c_147 => ?_)
                          · refine lv_aload_n hx hb dX3_readOrder_154 rfl (lv_at hl 2 rfl) ?_
                            refine gf_X3_145_8 CX hM.o0 rfl dX3_readOrder_155 ?_
                            refine lv_bipush (v := nI 99) hx hb dX3_readOrder_158 rfl ?_
                            refine b_icmp_neN (tgt := 167) CX (by omega) (by omega) dX3_readOrder_160 (by decide) (fun c_160 => ?_) (fun c_160 => ?_)
                            · refine lv_bipush (v := nI 7) hx hb dX3_readOrder_167 rfl ?_
                              refine b_ci (cs_X3_148 (rest := []) CX hl.1 (m_X3_digitTo l (hi := 7) hM ht (by omega) (by omega) (by omega)) rfl rfl rfl hM.o0 hS rfl ⟨rfl, rfl, Nat.le_of_ble_eq_true rfl, Nat.le_of_ble_eq_true rfl⟩ (Nat.le_of_ble_eq_true rfl) dX3_readOrder_169 ⟨Nat.le_of_ble_eq_true rfl, Nat.le_of_ble_eq_true rfl⟩) hS (fun r H61 locs hp hS => ?_)
                              rcases hp with ⟨hc62, rfl, hM9⟩ | ⟨di962, hc62, rfl, hM9⟩
                              · have hM : MW G B0 o H H61 (enc S) sp sv (fun j => nI (t j)) sa (nI tn) th (nI (pp + 1 + 1 + 1 + 1)) (nI 0) (nI (t pp)) (nI ((t (pp + 1)) - 48)) ot nu (nI ((t (pp + 1 + 1 + 1)) - 48)) := hM.tr hM9
                                refine lv_if_eq (tgt := 179) hx hb dX3_readOrder_172 (by decide) (fun c_172 => ?_) (fun c_172 => ?_)
                                · exact absurd c_172 (by decide)
                                · refine lv_iconst (v := nI 1) hx hb dX3_readOrder_175 rfl ?_
                                  refine lv_goto (tgt := 180) hx hb dX3_readOrder_176 (by decide) ?_
                                  refine lv_istore_n (lv' := [(2, .int (nI 1)), (1, .int (nI 0)), (0, .ref (o 0))]) hx hb dX3_readOrder_180 rfl hl (Nat.le_of_ble_eq_true rfl) rfl (fun ls hl => ?_)
                                  refine lv_aload_n hx hb dX3_readOrder_181 rfl (lv_at hl 2 rfl) ?_
                                  refine lv_aload_n hx hb dX3_readOrder_182 rfl (lv_at hl 2 rfl) ?_
                                  refine gf_X3_135_8 CX hM.o0 rfl dX3_readOrder_183 ?_
                                  refine pf_X3_157_8 CX hM.o0 hS (hM.B (by decide)) rfl rfl (Nat.le_of_ble_eq_true rfl) dX3_readOrder_186 (fun H63 locs hat hu hS => ?_)
                                  have hM : MW G B0 o H H63 (enc S) sp sv (fun j => nI (t j)) sa (nI tn) th (nI (pp + 1 + 1 + 1 + 1)) (nI 0) (nI (t pp)) (nI ((t (pp + 1)) - 48)) (nI ((t (pp + 1 + 1 + 1)) - 48)) nu (nI ((t (pp + 1 + 1 + 1)) - 48)) := hM.set0 hat hu
                                  refine lv_aload_n hx hb dX3_readOrder_189 rfl (lv_at hl 2 rfl) ?_
                                  refine lv_iload_n hx hb dX3_readOrder_190 rfl (lv_at hl 0 rfl) ?_
                                  refine lv_if_eq (tgt := 235) hx hb dX3_readOrder_191 (by decide) (fun c_191 => ?_) (fun c_191 => ?_)
                                  · exact absurd c_191 (by decide)
                                  · refine lv_aload_n hx hb dX3_readOrder_194 rfl (lv_at hl 2 rfl) ?_
                                    refine lv_bipush (v := nI 42) hx hb dX3_readOrder_195 rfl ?_
                                    refine b_ci (cs_X3_154 (rest := [.ref (o 0)]) CX hl.1 (m_X3_sign l (x := 42) hM ht (by omega) (by omega) (by omega)) rfl rfl rfl hM.o0 hS rfl ⟨rfl, rfl, Nat.le_of_ble_eq_true rfl, Nat.le_of_ble_eq_true rfl⟩ (Nat.le_of_ble_eq_true rfl) dX3_readOrder_197 ⟨Nat.le_of_ble_eq_true rfl, Nat.le_of_ble_eq_true rfl⟩) hS (fun r H64 locs hp hS => ?_)
                                    rcases hp with ⟨hc65, rfl, hM9⟩ | ⟨hc65, rfl, hM9⟩
                                    · have hM : MW G B0 o H H64 (enc S) sp sv (fun j => nI (t j)) sa (nI tn) th (nI (pp + 1 + 1 + 1 + 1 + 1)) (nI 0) (nI (t pp)) (nI ((t (pp + 1)) - 48)) (nI ((t (pp + 1 + 1 + 1)) - 48)) nu (nI ((t (pp + 1 + 1 + 1)) - 48)) := hM.tr hM9
                                      refine lv_if_eq (tgt := 235) hx hb dX3_readOrder_200 (by decide) (fun c_200 => ?_) (fun c_200 => ?_)
                                      · exact absurd c_200 (by decide)
                                      · refine lv_aload_n hx hb dX3_readOrder_203 rfl (lv_at hl 2 rfl) ?_
                                        refine lv_iload_n hx hb dX3_readOrder_204 rfl (lv_at hl 1 rfl) ?_
                                        refine lv_if_ne (tgt := 217) hx hb dX3_readOrder_205 (by decide) (fun c_205 => ?_) (fun c_205 => ?_)
                                        · exact absurd c_205 (by decide)
                                        · refine lv_aload_n hx hb dX3_readOrder_208 rfl (lv_at hl 2 rfl) ?_
                                          refine gf_X3_145_8 CX hM.o0 rfl dX3_readOrder_209 ?_
                                          refine lv_bipush (v := nI 99) hx hb dX3_readOrder_212 rfl ?_
                                          refine b_icmp_neN (tgt := 222) CX (by omega) (by omega) dX3_readOrder_214 (by decide) (fun c_214 => ?_) (fun c_214 => ?_)
                                          · refine lv_sipush (v := nI 500) hx hb dX3_readOrder_222 rfl ?_
                                            refine b_ci (cs_X3_160 (rest := [.ref (o 0)]) CX hl.1 (m_X3_readNumber l (hi := 500) hM ht (by omega) (by omega) (by omega)) rfl rfl rfl hM.o0 hS rfl ⟨rfl, rfl, Nat.le_of_ble_eq_true rfl, Nat.le_of_ble_eq_true rfl⟩ (Nat.le_of_ble_eq_true rfl) dX3_readOrder_225 ⟨Nat.le_of_ble_eq_true rfl, Nat.le_of_ble_eq_true rfl⟩) hS (fun r H66 locs hp hS => ?_)
                                            rcases hp with ⟨p967, v967, hq67, hv67, hp67, rfl, hM9⟩ | ⟨p967, v967, hq67, hv67, hp67, rfl, hM9⟩
                                            · have hM : MW G B0 o H H66 (enc S) sp sv (fun j => nI (t j)) sa (nI tn) th (nI p967) (nI 0) (nI (t pp)) (nI ((t (pp + 1)) - 48)) (nI ((t (pp + 1 + 1 + 1)) - 48)) (nI v967) (nI ((t (pp + 1 + 1 + 1)) - 48)) := hM.tr hM9
                                              refine lv_if_eq (tgt := 235) hx hb dX3_readOrder_228 (by decide) (fun c_228 => ?_) (fun c_228 => ?_)
                                              · exact absurd c_228 (by decide)
                                              · refine lv_iconst (v := nI 1) hx hb dX3_readOrder_231 rfl ?_
                                                refine lv_goto (tgt := 236) hx hb dX3_readOrder_232 (by decide) ?_
                                                refine pf_X3_141_8 CX hM.o0 hS (hM.B (by decide)) rfl rfl (Nat.le_of_ble_eq_true rfl) dX3_readOrder_236 (fun H68 locs hat hu hS => ?_)
                                                have hM : MW G B0 o H H68 (enc S) sp sv (fun j => nI (t j)) sa (nI tn) th (nI p967) (nI 1) (nI (t pp)) (nI ((t (pp + 1)) - 48)) (nI ((t (pp + 1 + 1 + 1)) - 48)) (nI v967) (nI ((t (pp + 1 + 1 + 1)) - 48)) := hM.set0 hat hu
                                                refine lv_aload_n hx hb dX3_readOrder_239 rfl (lv_at hl 2 rfl) ?_
                                                refine gf_X3_141_8 CX hM.o0 rfl dX3_readOrder_240 ?_
                                                refine lv_if_eq (tgt := 259) hx hb dX3_readOrder_243 (by decide) (fun c_243 => ?_) (fun c_243 => ?_)
                                                · exact absurd c_243 (by decide)
                                                · refine lv_aload_n hx hb dX3_readOrder_246 rfl (lv_at hl 2 rfl) ?_
                                                  refine lv_bipush (v := nI 59) hx hb dX3_readOrder_247 rfl ?_
                                                  refine b_ci (cs_X3_154 (rest := []) CX hl.1 (m_X3_sign l (x := 59) hM ht (by omega) (by omega) (by omega)) rfl rfl rfl hM.o0 hS rfl ⟨rfl, rfl, Nat.le_of_ble_eq_true rfl, Nat.le_of_ble_eq_true rfl⟩ (Nat.le_of_ble_eq_true rfl) dX3_readOrder_249 ⟨Nat.le_of_ble_eq_true rfl, Nat.le_of_ble_eq_true rfl⟩) hS (fun r H69 locs hp hS => ?_)
                                                  rcases hp with ⟨hc70, rfl, hM9⟩ | ⟨hc70, rfl, hM9⟩
                                                  · have hM : MW G B0 o H H69 (enc S) sp sv (fun j => nI (t j)) sa (nI tn) th (nI (p967 + 1)) (nI 1) (nI (t pp)) (nI ((t (pp + 1)) - 48)) (nI ((t (pp + 1 + 1 + 1)) - 48)) (nI v967) (nI ((t (pp + 1 + 1 + 1)) - 48)) := hM.tr hM9
                                                    refine lv_if_eq (tgt := 259) hx hb dX3_readOrder_252 (by decide) (fun c_252 => ?_) (fun c_252 => ?_)
                                                    · exact absurd c_252 (by decide)
                                                    · refine lv_iconst (v := nI 1) hx hb dX3_readOrder_255 rfl ?_
                                                      refine lv_goto (tgt := 260) hx hb dX3_readOrder_256 (by decide) ?_
                                                      rw [← hQ]
                                                      exact b_zret CX hr hlk hS (Nat.le_of_ble_eq_true rfl) (Nat.le_of_ble_eq_true rfl) rfl dX3_readOrder_260 (Or.inl ⟨_, _, _, _, _, _, (by unfold q_ord; simp only [if_neg c_39, if_neg e99, if_neg e50, hq67]; repeat (first | rw [if_pos (by first | assumption | omega)] | rw [if_neg (by first | assumption | omega)])), (by first | assumption | omega), (by omega), rfl, hM⟩)
                                                  · have hM : MW G B0 o H H69 (enc S) sp sv (fun j => nI (t j)) sa (nI tn) th (nI p967) (nI 1) (nI (t pp)) (nI ((t (pp + 1)) - 48)) (nI ((t (pp + 1 + 1 + 1)) - 48)) (nI v967) (nI ((t (pp + 1 + 1 + 1)) - 48)) := hM.tr hM9
                                                    refine lv_if_eq (tgt := 259) hx hb dX3_readOrder_252 (by decide) (fun c_252 => ?_) (fun c_252 => ?_)
                                                    · refine lv_iconst (v := nI 0) hx hb dX3_readOrder_259 rfl ?_
                                                      rw [← hQ]
                                                      exact b_zret CX hr hlk hS (Nat.le_of_ble_eq_true rfl) (Nat.le_of_ble_eq_true rfl) rfl dX3_readOrder_260 (Or.inr (Or.inl ⟨_, _, _, _, _, _, (by unfold q_ord; simp only [if_neg c_39, if_neg e99, if_neg e50, hq67]; repeat (first | rw [if_pos (by first | assumption | omega)] | rw [if_neg (by first | assumption | omega)])), (by first | assumption | omega), (by omega), rfl, hM⟩))
                                                    · exact absurd c_252 (by decide)
                                            · have hM : MW G B0 o H H66 (enc S) sp sv (fun j => nI (t j)) sa (nI tn) th (nI p967) (nI 0) (nI (t pp)) (nI ((t (pp + 1)) - 48)) (nI ((t (pp + 1 + 1 + 1)) - 48)) (nI v967) (nI ((t (pp + 1 + 1 + 1)) - 48)) := hM.tr hM9
                                              refine lv_if_eq (tgt := 235) hx hb dX3_readOrder_228 (by decide) (fun c_228 => ?_) (fun c_228 => ?_)
                                              · refine lv_iconst (v := nI 0) hx hb dX3_readOrder_235 rfl ?_
                                                refine pf_X3_141_8 CX hM.o0 hS (hM.B (by decide)) rfl rfl (Nat.le_of_ble_eq_true rfl) dX3_readOrder_236 (fun H71 locs hat hu hS => ?_)
                                                have hM : MW G B0 o H H71 (enc S) sp sv (fun j => nI (t j)) sa (nI tn) th (nI p967) (nI 0) (nI (t pp)) (nI ((t (pp + 1)) - 48)) (nI ((t (pp + 1 + 1 + 1)) - 48)) (nI v967) (nI ((t (pp + 1 + 1 + 1)) - 48)) := hM.set0 hat hu
                                                refine lv_aload_n hx hb dX3_readOrder_239 rfl (lv_at hl 2 rfl) ?_
                                                refine gf_X3_141_8 CX hM.o0 rfl dX3_readOrder_240 ?_
                                                refine lv_if_eq (tgt := 259) hx hb dX3_readOrder_243 (by decide) (fun c_243 => ?_) (fun c_243 => ?_)
                                                · refine lv_iconst (v := nI 0) hx hb dX3_readOrder_259 rfl ?_
                                                  rw [← hQ]
                                                  exact b_zret CX hr hlk hS (Nat.le_of_ble_eq_true rfl) (Nat.le_of_ble_eq_true rfl) rfl dX3_readOrder_260 (Or.inr (Or.inr (⟨_, _, _, _, _, _, (by unfold q_ord; simp only [if_neg c_39, if_neg e99, if_neg e50, hq67]; repeat (first | rw [if_pos (by first | assumption | omega)] | rw [if_neg (by first | assumption | omega)])), (by omega), rfl, hM⟩)))
                                                · exact absurd c_243 (by decide)
                                              · exact absurd c_228 (by decide)
                                          · exfalso; omega
                                    · have hM : MW G B0 o H H64 (enc S) sp sv (fun j => nI (t j)) sa (nI tn) th (nI (pp + 1 + 1 + 1 + 1)) (nI 0) (nI (t pp)) (nI ((t (pp + 1)) - 48)) (nI ((t (pp + 1 + 1 + 1)) - 48)) nu (nI ((t (pp + 1 + 1 + 1)) - 48)) := hM.tr hM9
                                      refine lv_if_eq (tgt := 235) hx hb dX3_readOrder_200 (by decide) (fun c_200 => ?_) (fun c_200 => ?_)
                                      · refine lv_iconst (v := nI 0) hx hb dX3_readOrder_235 rfl ?_
                                        refine pf_X3_141_8 CX hM.o0 hS (hM.B (by decide)) rfl rfl (Nat.le_of_ble_eq_true rfl) dX3_readOrder_236 (fun H72 locs hat hu hS => ?_)
                                        have hM : MW G B0 o H H72 (enc S) sp sv (fun j => nI (t j)) sa (nI tn) th (nI (pp + 1 + 1 + 1 + 1)) (nI 0) (nI (t pp)) (nI ((t (pp + 1)) - 48)) (nI ((t (pp + 1 + 1 + 1)) - 48)) nu (nI ((t (pp + 1 + 1 + 1)) - 48)) := hM.set0 hat hu
                                        refine lv_aload_n hx hb dX3_readOrder_239 rfl (lv_at hl 2 rfl) ?_
                                        refine gf_X3_141_8 CX hM.o0 rfl dX3_readOrder_240 ?_
                                        refine lv_if_eq (tgt := 259) hx hb dX3_readOrder_243 (by decide) (fun c_243 => ?_) (fun c_243 => ?_)
                                        · refine lv_iconst (v := nI 0) hx hb dX3_readOrder_259 rfl ?_
                                          rw [← hQ]
                                          exact b_zret CX hr hlk hS (Nat.le_of_ble_eq_true rfl) (Nat.le_of_ble_eq_true rfl) rfl dX3_readOrder_260 (Or.inr (Or.inr (⟨_, _, _, _, _, _, (by unfold q_ord; simp only [if_neg c_39, if_neg e99, if_neg e50]; repeat (first | rw [if_pos (by first | assumption | omega)] | rw [if_neg (by first | assumption | omega)])), (by omega), rfl, hM⟩)))
                                        · exact absurd c_243 (by decide)
                                      · exact absurd c_200 (by decide)
                              · have hM : MW G B0 o H H61 (enc S) sp sv (fun j => nI (t j)) sa (nI tn) th (nI (pp + 1 + 1 + 1)) (nI 0) (nI (t pp)) (nI ((t (pp + 1)) - 48)) ot nu di962 := hM.tr hM9
                                refine lv_if_eq (tgt := 179) hx hb dX3_readOrder_172 (by decide) (fun c_172 => ?_) (fun c_172 => ?_)
                                · refine lv_iconst (v := nI 0) hx hb dX3_readOrder_179 rfl ?_
                                  refine lv_istore_n (lv' := [(2, .int (nI 0)), (1, .int (nI 0)), (0, .ref (o 0))]) hx hb dX3_readOrder_180 rfl hl (Nat.le_of_ble_eq_true rfl) rfl (fun ls hl => ?_)
                                  refine lv_aload_n hx hb dX3_readOrder_181 rfl (lv_at hl 2 rfl) ?_
                                  refine lv_aload_n hx hb dX3_readOrder_182 rfl (lv_at hl 2 rfl) ?_
                                  refine gf_X3_135_8 CX hM.o0 rfl dX3_readOrder_183 ?_
                                  refine pf_X3_157_8 CX hM.o0 hS (hM.B (by decide)) rfl rfl (Nat.le_of_ble_eq_true rfl) dX3_readOrder_186 (fun H73 locs hat hu hS => ?_)
                                  have hM : MW G B0 o H H73 (enc S) sp sv (fun j => nI (t j)) sa (nI tn) th (nI (pp + 1 + 1 + 1)) (nI 0) (nI (t pp)) (nI ((t (pp + 1)) - 48)) di962 nu di962 := hM.set0 hat hu
                                  refine lv_aload_n hx hb dX3_readOrder_189 rfl (lv_at hl 2 rfl) ?_
                                  refine lv_iload_n hx hb dX3_readOrder_190 rfl (lv_at hl 0 rfl) ?_
                                  refine lv_if_eq (tgt := 235) hx hb dX3_readOrder_191 (by decide) (fun c_191 => ?_) (fun c_191 => ?_)
                                  · refine lv_iconst (v := nI 0) hx hb dX3_readOrder_235 rfl ?_
                                    refine pf_X3_141_8 CX hM.o0 hS (hM.B (by decide)) rfl rfl (Nat.le_of_ble_eq_true rfl) dX3_readOrder_236 (fun H74 locs hat hu hS => ?_)
                                    have hM : MW G B0 o H H74 (enc S) sp sv (fun j => nI (t j)) sa (nI tn) th (nI (pp + 1 + 1 + 1)) (nI 0) (nI (t pp)) (nI ((t (pp + 1)) - 48)) di962 nu di962 := hM.set0 hat hu
                                    refine lv_aload_n hx hb dX3_readOrder_239 rfl (lv_at hl 2 rfl) ?_
                                    refine gf_X3_141_8 CX hM.o0 rfl dX3_readOrder_240 ?_
                                    refine lv_if_eq (tgt := 259) hx hb dX3_readOrder_243 (by decide) (fun c_243 => ?_) (fun c_243 => ?_)
                                    · refine lv_iconst (v := nI 0) hx hb dX3_readOrder_259 rfl ?_
                                      rw [← hQ]
                                      exact b_zret CX hr hlk hS (Nat.le_of_ble_eq_true rfl) (Nat.le_of_ble_eq_true rfl) rfl dX3_readOrder_260 (Or.inr (Or.inr (⟨_, _, _, _, _, _, (by unfold q_ord; simp only [if_neg c_39, if_neg e99, if_neg e50]; repeat (first | rw [if_pos (by first | assumption | omega)] | rw [if_neg (by first | assumption | omega)])), (by omega), rfl, hM⟩)))
                                    · exact absurd c_243 (by decide)
                                  · exact absurd c_191 (by decide)
                                · exact absurd c_172 (by decide)
                            · exfalso; omega
                          · exact absurd c_147 (by decide)
                      · have hM : MW G B0 o H H59 (enc S) sp sv (fun j => nI (t j)) sa (nI tn) th (nI (pp + 1 + 1)) (nI 0) (nI (t pp)) (nI ((t (pp + 1)) - 48)) ot nu (nI ((t (pp + 1)) - 48)) := hM.tr hM9
                        refine lv_if_eq (tgt := 179) hx hb dX3_readOrder_142 (by decide) (fun c_142 => ?_) (fun c_142 => ?_)
                        · refine lv_iconst (v := nI 0) hx hb dX3_readOrder_179 rfl ?_
                          refine lv_istore_n (lv' := [(2, .int (nI 0)), (1, .int (nI 0)), (0, .ref (o 0))]) hx hb dX3_readOrder_180 rfl hl (Nat.le_of_ble_eq_true rfl) rfl (fun ls hl => ?_)
                          refine lv_aload_n hx hb dX3_readOrder_181 rfl (lv_at hl 2 rfl) ?_
                          refine lv_aload_n hx hb dX3_readOrder_182 rfl (lv_at hl 2 rfl) ?_
                          refine gf_X3_135_8 CX hM.o0 rfl dX3_readOrder_183 ?_
                          refine pf_X3_157_8 CX hM.o0 hS (hM.B (by decide)) rfl rfl (Nat.le_of_ble_eq_true rfl) dX3_readOrder_186 (fun H75 locs hat hu hS => ?_)
                          have hM : MW G B0 o H H75 (enc S) sp sv (fun j => nI (t j)) sa (nI tn) th (nI (pp + 1 + 1)) (nI 0) (nI (t pp)) (nI ((t (pp + 1)) - 48)) (nI ((t (pp + 1)) - 48)) nu (nI ((t (pp + 1)) - 48)) := hM.set0 hat hu
                          refine lv_aload_n hx hb dX3_readOrder_189 rfl (lv_at hl 2 rfl) ?_
                          refine lv_iload_n hx hb dX3_readOrder_190 rfl (lv_at hl 0 rfl) ?_
                          refine lv_if_eq (tgt := 235) hx hb dX3_readOrder_191 (by decide) (fun c_191 => ?_) (fun c_191 => ?_)
                          · refine lv_iconst (v := nI 0) hx hb dX3_readOrder_235 rfl ?_
                            refine pf_X3_141_8 CX hM.o0 hS (hM.B (by decide)) rfl rfl (Nat.le_of_ble_eq_true rfl) dX3_readOrder_236 (fun H76 locs hat hu hS => ?_)
                            have hM : MW G B0 o H H76 (enc S) sp sv (fun j => nI (t j)) sa (nI tn) th (nI (pp + 1 + 1)) (nI 0) (nI (t pp)) (nI ((t (pp + 1)) - 48)) (nI ((t (pp + 1)) - 48)) nu (nI ((t (pp + 1)) - 48)) := hM.set0 hat hu
                            refine lv_aload_n hx hb dX3_readOrder_239 rfl (lv_at hl 2 rfl) ?_
                            refine gf_X3_141_8 CX hM.o0 rfl dX3_readOrder_240 ?_
                            refine lv_if_eq (tgt := 259) hx hb dX3_readOrder_243 (by decide) (fun c_243 => ?_) (fun c_243 => ?_)
                            · refine lv_iconst (v := nI 0) hx hb dX3_readOrder_259 rfl ?_
                              rw [← hQ]
                              exact b_zret CX hr hlk hS (Nat.le_of_ble_eq_true rfl) (Nat.le_of_ble_eq_true rfl) rfl dX3_readOrder_260 (Or.inr (Or.inr (⟨_, _, _, _, _, _, (by unfold q_ord; simp only [if_neg c_39, if_neg e99, if_neg e50]; repeat (first | rw [if_pos (by first | assumption | omega)] | rw [if_neg (by first | assumption | omega)])), (by omega), rfl, hM⟩)))
                            · exact absurd c_243 (by decide)
                          · exact absurd c_191 (by decide)
                        · exact absurd c_142 (by decide)
                    · exact absurd c_129 (by decide)
                · have hM : MW G B0 o H H56 (enc S) sp sv (fun j => nI (t j)) sa (nI tn) th (nI (pp + 1)) (nI 0) (nI (t pp)) on ot nu di957 := hM.tr hM9
                  refine lv_istore_n (lv' := [(2, .int (nI 0)), (1, .int (nI 0)), (0, .ref (o 0))]) hx hb dX3_readOrder_114 rfl hl (Nat.le_of_ble_eq_true rfl) rfl (fun ls hl => ?_)
                  refine lv_aload_n hx hb dX3_readOrder_115 rfl (lv_at hl 2 rfl) ?_
                  refine lv_aload_n hx hb dX3_readOrder_116 rfl (lv_at hl 2 rfl) ?_
                  refine gf_X3_135_8 CX hM.o0 rfl dX3_readOrder_117 ?_
                  refine pf_X3_151_8 CX hM.o0 hS (hM.B (by decide)) rfl rfl (Nat.le_of_ble_eq_true rfl) dX3_readOrder_120 (fun H77 locs hat hu hS => ?_)
                  have hM : MW G B0 o H H77 (enc S) sp sv (fun j => nI (t j)) sa (nI tn) th (nI (pp + 1)) (nI 0) (nI (t pp)) di957 ot nu di957 := hM.set0 hat hu
                  refine lv_iload_n hx hb dX3_readOrder_123 rfl (lv_at hl 0 rfl) ?_
                  refine lv_if_eq (tgt := 179) hx hb dX3_readOrder_124 (by decide) (fun c_124 => ?_) (fun c_124 => ?_)
                  · refine lv_iconst (v := nI 0) hx hb dX3_readOrder_179 rfl ?_
                    refine lv_istore_n (lv' := [(2, .int (nI 0)), (1, .int (nI 0)), (0, .ref (o 0))]) hx hb dX3_readOrder_180 rfl hl (Nat.le_of_ble_eq_true rfl) rfl (fun ls hl => ?_)
                    refine lv_aload_n hx hb dX3_readOrder_181 rfl (lv_at hl 2 rfl) ?_
                    refine lv_aload_n hx hb dX3_readOrder_182 rfl (lv_at hl 2 rfl) ?_
                    refine gf_X3_135_8 CX hM.o0 rfl dX3_readOrder_183 ?_
                    refine pf_X3_157_8 CX hM.o0 hS (hM.B (by decide)) rfl rfl (Nat.le_of_ble_eq_true rfl) dX3_readOrder_186 (fun H78 locs hat hu hS => ?_)
                    have hM : MW G B0 o H H78 (enc S) sp sv (fun j => nI (t j)) sa (nI tn) th (nI (pp + 1)) (nI 0) (nI (t pp)) di957 di957 nu di957 := hM.set0 hat hu
                    refine lv_aload_n hx hb dX3_readOrder_189 rfl (lv_at hl 2 rfl) ?_
                    refine lv_iload_n hx hb dX3_readOrder_190 rfl (lv_at hl 0 rfl) ?_
                    refine lv_if_eq (tgt := 235) hx hb dX3_readOrder_191 (by decide) (fun c_191 => ?_) (fun c_191 => ?_)
                    · refine lv_iconst (v := nI 0) hx hb dX3_readOrder_235 rfl ?_
                      refine pf_X3_141_8 CX hM.o0 hS (hM.B (by decide)) rfl rfl (Nat.le_of_ble_eq_true rfl) dX3_readOrder_236 (fun H79 locs hat hu hS => ?_)
                      have hM : MW G B0 o H H79 (enc S) sp sv (fun j => nI (t j)) sa (nI tn) th (nI (pp + 1)) (nI 0) (nI (t pp)) di957 di957 nu di957 := hM.set0 hat hu
                      refine lv_aload_n hx hb dX3_readOrder_239 rfl (lv_at hl 2 rfl) ?_
                      refine gf_X3_141_8 CX hM.o0 rfl dX3_readOrder_240 ?_
                      refine lv_if_eq (tgt := 259) hx hb dX3_readOrder_243 (by decide) (fun c_243 => ?_) (fun c_243 => ?_)
                      · refine lv_iconst (v := nI 0) hx hb dX3_readOrder_259 rfl ?_
                        rw [← hQ]
                        exact b_zret CX hr hlk hS (Nat.le_of_ble_eq_true rfl) (Nat.le_of_ble_eq_true rfl) rfl dX3_readOrder_260 (Or.inr (Or.inr (⟨_, _, _, _, _, _, (by unfold q_ord; simp only [if_neg c_39, if_neg e99, if_neg e50]; repeat (first | rw [if_pos (by first | assumption | omega)] | rw [if_neg (by first | assumption | omega)])), (by omega), rfl, hM⟩)))
                      · exact absurd c_243 (by decide)
                    · exact absurd c_191 (by decide)
                  · exact absurd c_124 (by decide)
              · exact absurd c_102 (by decide)
            · refine lv_aload_n hx hb dX3_readOrder_79 rfl (lv_at hl 1 rfl) ?_
              refine gf_X3_145_8 CX hM.o0 rfl dX3_readOrder_80 ?_
              refine lv_bipush (v := nI 99) hx hb dX3_readOrder_83 rfl ?_
              refine b_icmp_eqN (tgt := 90) CX (by omega) (by omega) dX3_readOrder_85 (by decide) (fun c_85 => ?_) (fun c_85 => ?_)
              · have e99 : t pp = 99 := c_85
                have e50 : t pp = 100 ∨ t pp = 99 := Or.inr c_85
                refine lv_aload_n hx hb dX3_readOrder_90 rfl (lv_at hl 1 rfl) ?_
                refine lv_dup hx hb dX3_readOrder_91 rfl ?_
                refine gf_X3_132_8 CX hM.o0 rfl dX3_readOrder_92 ?_
                refine lv_iconst (v := nI 1) hx hb dX3_readOrder_95 rfl ?_
                refine b_iaddN CX dX3_readOrder_96 ?_
                refine pf_X3_132_8 CX hM.o0 hS (hM.B (by decide)) rfl rfl (Nat.le_of_ble_eq_true rfl) dX3_readOrder_97 (fun H80 locs hat hu hS => ?_)
                have hM : MW G B0 o H H80 (enc S) sp sv (fun j => nI (t j)) sa (nI tn) th (nI (pp + 1)) (nI 0) (nI (t pp)) on ot nu di := hM.set0 hat hu
                refine lv_aload_n hx hb dX3_readOrder_100 rfl (lv_at hl 1 rfl) ?_
                refine lv_iload_n hx hb dX3_readOrder_101 rfl (lv_at hl 0 rfl) ?_
                refine lv_if_eq (tgt := 110) hx hb dX3_readOrder_102 (by decide) (fun c_102 => ?_) (fun c_102 => ?_)
                · refine lv_iconst (v := nI 5) hx hb dX3_readOrder_110 rfl ?_
                  refine b_ci (cs_X3_148 (rest := []) CX hl.1 (m_X3_digitTo l (hi := 5) hM ht (by omega) (by omega) (by omega)) rfl rfl rfl hM.o0 hS rfl ⟨rfl, rfl, Nat.le_of_ble_eq_true rfl, Nat.le_of_ble_eq_true rfl⟩ (Nat.le_of_ble_eq_true rfl) dX3_readOrder_111 ⟨Nat.le_of_ble_eq_true rfl, Nat.le_of_ble_eq_true rfl⟩) hS (fun r H81 locs hp hS => ?_)
                  rcases hp with ⟨hc82, rfl, hM9⟩ | ⟨di982, hc82, rfl, hM9⟩
                  · have hM : MW G B0 o H H81 (enc S) sp sv (fun j => nI (t j)) sa (nI tn) th (nI (pp + 1 + 1)) (nI 0) (nI (t pp)) on ot nu (nI ((t (pp + 1)) - 48)) := hM.tr hM9
                    refine lv_istore_n (lv' := [(2, .int (nI 1)), (1, .int (nI 0)), (0, .ref (o 0))]) hx hb dX3_readOrder_114 rfl hl (Nat.le_of_ble_eq_true rfl) rfl (fun ls hl => ?_)
                    refine lv_aload_n hx hb dX3_readOrder_115 rfl (lv_at hl 2 rfl) ?_
                    refine lv_aload_n hx hb dX3_readOrder_116 rfl (lv_at hl 2 rfl) ?_
                    refine gf_X3_135_8 CX hM.o0 rfl dX3_readOrder_117 ?_
                    refine pf_X3_151_8 CX hM.o0 hS (hM.B (by decide)) rfl rfl (Nat.le_of_ble_eq_true rfl) dX3_readOrder_120 (fun H83 locs hat hu hS => ?_)
                    have hM : MW G B0 o H H83 (enc S) sp sv (fun j => nI (t j)) sa (nI tn) th (nI (pp + 1 + 1)) (nI 0) (nI (t pp)) (nI ((t (pp + 1)) - 48)) ot nu (nI ((t (pp + 1)) - 48)) := hM.set0 hat hu
                    refine lv_iload_n hx hb dX3_readOrder_123 rfl (lv_at hl 0 rfl) ?_
                    refine lv_if_eq (tgt := 179) hx hb dX3_readOrder_124 (by decide) (fun c_124 => ?_) (fun c_124 => ?_)
                    · exact absurd c_124 (by decide)
                    · refine lv_aload_n hx hb dX3_readOrder_127 rfl (lv_at hl 2 rfl) ?_
                      refine lv_iload_n hx hb dX3_readOrder_128 rfl (lv_at hl 1 rfl) ?_
                      refine lv_if_eq (tgt := 137) hx hb dX3_readOrder_129 (by decide) (fun c_129 => ?_) (fun c_129 => ?_)
                      · refine lv_bipush (v := nI 58) hx hb dX3_readOrder_137 rfl ?_
                        refine b_ci (cs_X3_154 (rest := []) CX hl.1 (m_X3_sign l (x := 58) hM ht (by omega) (by omega) (by omega)) rfl rfl rfl hM.o0 hS rfl ⟨rfl, rfl, Nat.le_of_ble_eq_true rfl, Nat.le_of_ble_eq_true rfl⟩ (Nat.le_of_ble_eq_true rfl) dX3_readOrder_139 ⟨Nat.le_of_ble_eq_true rfl, Nat.le_of_ble_eq_true rfl⟩) hS (fun r H84 locs hp hS => ?_)
                        rcases hp with ⟨hc85, rfl, hM9⟩ | ⟨hc85, rfl, hM9⟩
                        · have hM : MW G B0 o H H84 (enc S) sp sv (fun j => nI (t j)) sa (nI tn) th (nI (pp + 1 + 1 + 1)) (nI 0) (nI (t pp)) (nI ((t (pp + 1)) - 48)) ot nu (nI ((t (pp + 1)) - 48)) := hM.tr hM9
                          refine lv_if_eq (tgt := 179) hx hb dX3_readOrder_142 (by decide) (fun c_142 => ?_) (fun c_142 => ?_)
                          · exact absurd c_142 (by decide)
                          · refine lv_aload_n hx hb dX3_readOrder_145 rfl (lv_at hl 2 rfl) ?_
                            refine lv_iload_n hx hb dX3_readOrder_146 rfl (lv_at hl 1 rfl) ?_
                            refine lv_if_eq (tgt := 154) hx hb dX3_readOrder_147 (by decide) (fun c_147 => ?_) (fun c_147 => ?_)
                            · refine lv_aload_n hx hb dX3_readOrder_154 rfl (lv_at hl 2 rfl) ?_
                              refine gf_X3_145_8 CX hM.o0 rfl dX3_readOrder_155 ?_
                              refine lv_bipush (v := nI 99) hx hb dX3_readOrder_158 rfl ?_
                              refine b_icmp_neN (tgt := 167) CX (by omega) (by omega) dX3_readOrder_160 (by decide) (fun c_160 => ?_) (fun c_160 => ?_)
                              · exfalso; omega
                              · refine lv_iconst (v := nI 2) hx hb dX3_readOrder_163 rfl ?_
                                refine lv_goto (tgt := 169) hx hb dX3_readOrder_164 (by decide) ?_
                                refine b_ci (cs_X3_148 (rest := []) CX hl.1 (m_X3_digitTo l (hi := 2) hM ht (by omega) (by omega) (by omega)) rfl rfl rfl hM.o0 hS rfl ⟨rfl, rfl, Nat.le_of_ble_eq_true rfl, Nat.le_of_ble_eq_true rfl⟩ (Nat.le_of_ble_eq_true rfl) dX3_readOrder_169 ⟨Nat.le_of_ble_eq_true rfl, Nat.le_of_ble_eq_true rfl⟩) hS (fun r H86 locs hp hS => ?_)
                                rcases hp with ⟨hc87, rfl, hM9⟩ | ⟨di987, hc87, rfl, hM9⟩
                                · have hM : MW G B0 o H H86 (enc S) sp sv (fun j => nI (t j)) sa (nI tn) th (nI (pp + 1 + 1 + 1 + 1)) (nI 0) (nI (t pp)) (nI ((t (pp + 1)) - 48)) ot nu (nI ((t (pp + 1 + 1 + 1)) - 48)) := hM.tr hM9
                                  refine lv_if_eq (tgt := 179) hx hb dX3_readOrder_172 (by decide) (fun c_172 => ?_) (fun c_172 => ?_)
                                  · exact absurd c_172 (by decide)
                                  · refine lv_iconst (v := nI 1) hx hb dX3_readOrder_175 rfl ?_
                                    refine lv_goto (tgt := 180) hx hb dX3_readOrder_176 (by decide) ?_
                                    refine lv_istore_n (lv' := [(2, .int (nI 1)), (1, .int (nI 0)), (0, .ref (o 0))]) hx hb dX3_readOrder_180 rfl hl (Nat.le_of_ble_eq_true rfl) rfl (fun ls hl => ?_)
                                    refine lv_aload_n hx hb dX3_readOrder_181 rfl (lv_at hl 2 rfl) ?_
                                    refine lv_aload_n hx hb dX3_readOrder_182 rfl (lv_at hl 2 rfl) ?_
                                    refine gf_X3_135_8 CX hM.o0 rfl dX3_readOrder_183 ?_
                                    refine pf_X3_157_8 CX hM.o0 hS (hM.B (by decide)) rfl rfl (Nat.le_of_ble_eq_true rfl) dX3_readOrder_186 (fun H88 locs hat hu hS => ?_)
                                    have hM : MW G B0 o H H88 (enc S) sp sv (fun j => nI (t j)) sa (nI tn) th (nI (pp + 1 + 1 + 1 + 1)) (nI 0) (nI (t pp)) (nI ((t (pp + 1)) - 48)) (nI ((t (pp + 1 + 1 + 1)) - 48)) nu (nI ((t (pp + 1 + 1 + 1)) - 48)) := hM.set0 hat hu
                                    refine lv_aload_n hx hb dX3_readOrder_189 rfl (lv_at hl 2 rfl) ?_
                                    refine lv_iload_n hx hb dX3_readOrder_190 rfl (lv_at hl 0 rfl) ?_
                                    refine lv_if_eq (tgt := 235) hx hb dX3_readOrder_191 (by decide) (fun c_191 => ?_) (fun c_191 => ?_)
                                    · exact absurd c_191 (by decide)
                                    · refine lv_aload_n hx hb dX3_readOrder_194 rfl (lv_at hl 2 rfl) ?_
                                      refine lv_bipush (v := nI 42) hx hb dX3_readOrder_195 rfl ?_
                                      refine b_ci (cs_X3_154 (rest := [.ref (o 0)]) CX hl.1 (m_X3_sign l (x := 42) hM ht (by omega) (by omega) (by omega)) rfl rfl rfl hM.o0 hS rfl ⟨rfl, rfl, Nat.le_of_ble_eq_true rfl, Nat.le_of_ble_eq_true rfl⟩ (Nat.le_of_ble_eq_true rfl) dX3_readOrder_197 ⟨Nat.le_of_ble_eq_true rfl, Nat.le_of_ble_eq_true rfl⟩) hS (fun r H89 locs hp hS => ?_)
                                      rcases hp with ⟨hc90, rfl, hM9⟩ | ⟨hc90, rfl, hM9⟩
                                      · have hM : MW G B0 o H H89 (enc S) sp sv (fun j => nI (t j)) sa (nI tn) th (nI (pp + 1 + 1 + 1 + 1 + 1)) (nI 0) (nI (t pp)) (nI ((t (pp + 1)) - 48)) (nI ((t (pp + 1 + 1 + 1)) - 48)) nu (nI ((t (pp + 1 + 1 + 1)) - 48)) := hM.tr hM9
                                        refine lv_if_eq (tgt := 235) hx hb dX3_readOrder_200 (by decide) (fun c_200 => ?_) (fun c_200 => ?_)
                                        · exact absurd c_200 (by decide)
                                        · refine lv_aload_n hx hb dX3_readOrder_203 rfl (lv_at hl 2 rfl) ?_
                                          refine lv_iload_n hx hb dX3_readOrder_204 rfl (lv_at hl 1 rfl) ?_
                                          refine lv_if_ne (tgt := 217) hx hb dX3_readOrder_205 (by decide) (fun c_205 => ?_) (fun c_205 => ?_)
                                          · exact absurd c_205 (by decide)
                                          · refine lv_aload_n hx hb dX3_readOrder_208 rfl (lv_at hl 2 rfl) ?_
                                            refine gf_X3_145_8 CX hM.o0 rfl dX3_readOrder_209 ?_
                                            refine lv_bipush (v := nI 99) hx hb dX3_readOrder_212 rfl ?_
                                            refine b_icmp_neN (tgt := 222) CX (by omega) (by omega) dX3_readOrder_214 (by decide) (fun c_214 => ?_) (fun c_214 => ?_)
                                            · exfalso; omega
                                            · refine lv_bipush (v := nI 50) hx hb dX3_readOrder_217 rfl ?_
                                              refine lv_goto (tgt := 225) hx hb dX3_readOrder_219 (by decide) ?_
                                              refine b_ci (cs_X3_160 (rest := [.ref (o 0)]) CX hl.1 (m_X3_readNumber l (hi := 50) hM ht (by omega) (by omega) (by omega)) rfl rfl rfl hM.o0 hS rfl ⟨rfl, rfl, Nat.le_of_ble_eq_true rfl, Nat.le_of_ble_eq_true rfl⟩ (Nat.le_of_ble_eq_true rfl) dX3_readOrder_225 ⟨Nat.le_of_ble_eq_true rfl, Nat.le_of_ble_eq_true rfl⟩) hS (fun r H91 locs hp hS => ?_)
                                              rcases hp with ⟨p992, v992, hq92, hv92, hp92, rfl, hM9⟩ | ⟨p992, v992, hq92, hv92, hp92, rfl, hM9⟩
                                              · have hM : MW G B0 o H H91 (enc S) sp sv (fun j => nI (t j)) sa (nI tn) th (nI p992) (nI 0) (nI (t pp)) (nI ((t (pp + 1)) - 48)) (nI ((t (pp + 1 + 1 + 1)) - 48)) (nI v992) (nI ((t (pp + 1 + 1 + 1)) - 48)) := hM.tr hM9
                                                refine lv_if_eq (tgt := 235) hx hb dX3_readOrder_228 (by decide) (fun c_228 => ?_) (fun c_228 => ?_)
                                                · exact absurd c_228 (by decide)
                                                · refine lv_iconst (v := nI 1) hx hb dX3_readOrder_231 rfl ?_
                                                  refine lv_goto (tgt := 236) hx hb dX3_readOrder_232 (by decide) ?_
                                                  refine pf_X3_141_8 CX hM.o0 hS (hM.B (by decide)) rfl rfl (Nat.le_of_ble_eq_true rfl) dX3_readOrder_236 (fun H93 locs hat hu hS => ?_)
                                                  have hM : MW G B0 o H H93 (enc S) sp sv (fun j => nI (t j)) sa (nI tn) th (nI p992) (nI 1) (nI (t pp)) (nI ((t (pp + 1)) - 48)) (nI ((t (pp + 1 + 1 + 1)) - 48)) (nI v992) (nI ((t (pp + 1 + 1 + 1)) - 48)) := hM.set0 hat hu
                                                  refine lv_aload_n hx hb dX3_readOrder_239 rfl (lv_at hl 2 rfl) ?_
                                                  refine gf_X3_141_8 CX hM.o0 rfl dX3_readOrder_240 ?_
                                                  refine lv_if_eq (tgt := 259) hx hb dX3_readOrder_243 (by decide) (fun c_243 => ?_) (fun c_243 => ?_)
                                                  · exact absurd c_243 (by decide)
                                                  · refine lv_aload_n hx hb dX3_readOrder_246 rfl (lv_at hl 2 rfl) ?_
                                                    refine lv_bipush (v := nI 59) hx hb dX3_readOrder_247 rfl ?_
                                                    refine b_ci (cs_X3_154 (rest := []) CX hl.1 (m_X3_sign l (x := 59) hM ht (by omega) (by omega) (by omega)) rfl rfl rfl hM.o0 hS rfl ⟨rfl, rfl, Nat.le_of_ble_eq_true rfl, Nat.le_of_ble_eq_true rfl⟩ (Nat.le_of_ble_eq_true rfl) dX3_readOrder_249 ⟨Nat.le_of_ble_eq_true rfl, Nat.le_of_ble_eq_true rfl⟩) hS (fun r H94 locs hp hS => ?_)
                                                    rcases hp with ⟨hc95, rfl, hM9⟩ | ⟨hc95, rfl, hM9⟩
                                                    · have hM : MW G B0 o H H94 (enc S) sp sv (fun j => nI (t j)) sa (nI tn) th (nI (p992 + 1)) (nI 1) (nI (t pp)) (nI ((t (pp + 1)) - 48)) (nI ((t (pp + 1 + 1 + 1)) - 48)) (nI v992) (nI ((t (pp + 1 + 1 + 1)) - 48)) := hM.tr hM9
                                                      refine lv_if_eq (tgt := 259) hx hb dX3_readOrder_252 (by decide) (fun c_252 => ?_) (fun c_252 => ?_)
                                                      · exact absurd c_252 (by decide)
                                                      · refine lv_iconst (v := nI 1) hx hb dX3_readOrder_255 rfl ?_
                                                        refine lv_goto (tgt := 260) hx hb dX3_readOrder_256 (by decide) ?_
                                                        rw [← hQ]
                                                        exact b_zret CX hr hlk hS (Nat.le_of_ble_eq_true rfl) (Nat.le_of_ble_eq_true rfl) rfl dX3_readOrder_260 (Or.inl ⟨_, _, _, _, _, _, (by unfold q_ord; simp only [if_neg c_39, if_pos e99, if_pos e50, hq92]; repeat (first | rw [if_pos (by first | assumption | omega)] | rw [if_neg (by first | assumption | omega)])), (by first | assumption | omega), (by omega), rfl, hM⟩)
                                                    · have hM : MW G B0 o H H94 (enc S) sp sv (fun j => nI (t j)) sa (nI tn) th (nI p992) (nI 1) (nI (t pp)) (nI ((t (pp + 1)) - 48)) (nI ((t (pp + 1 + 1 + 1)) - 48)) (nI v992) (nI ((t (pp + 1 + 1 + 1)) - 48)) := hM.tr hM9
                                                      refine lv_if_eq (tgt := 259) hx hb dX3_readOrder_252 (by decide) (fun c_252 => ?_) (fun c_252 => ?_)
                                                      · refine lv_iconst (v := nI 0) hx hb dX3_readOrder_259 rfl ?_
                                                        rw [← hQ]
                                                        exact b_zret CX hr hlk hS (Nat.le_of_ble_eq_true rfl) (Nat.le_of_ble_eq_true rfl) rfl dX3_readOrder_260 (Or.inr (Or.inl ⟨_, _, _, _, _, _, (by unfold q_ord; simp only [if_neg c_39, if_pos e99, if_pos e50, hq92]; repeat (first | rw [if_pos (by first | assumption | omega)] | rw [if_neg (by first | assumption | omega)])), (by first | assumption | omega), (by omega), rfl, hM⟩))
                                                      · exact absurd c_252 (by decide)
                                              · have hM : MW G B0 o H H91 (enc S) sp sv (fun j => nI (t j)) sa (nI tn) th (nI p992) (nI 0) (nI (t pp)) (nI ((t (pp + 1)) - 48)) (nI ((t (pp + 1 + 1 + 1)) - 48)) (nI v992) (nI ((t (pp + 1 + 1 + 1)) - 48)) := hM.tr hM9
                                                refine lv_if_eq (tgt := 235) hx hb dX3_readOrder_228 (by decide) (fun c_228 => ?_) (fun c_228 => ?_)
                                                · refine lv_iconst (v := nI 0) hx hb dX3_readOrder_235 rfl ?_
                                                  refine pf_X3_141_8 CX hM.o0 hS (hM.B (by decide)) rfl rfl (Nat.le_of_ble_eq_true rfl) dX3_readOrder_236 (fun H96 locs hat hu hS => ?_)
                                                  have hM : MW G B0 o H H96 (enc S) sp sv (fun j => nI (t j)) sa (nI tn) th (nI p992) (nI 0) (nI (t pp)) (nI ((t (pp + 1)) - 48)) (nI ((t (pp + 1 + 1 + 1)) - 48)) (nI v992) (nI ((t (pp + 1 + 1 + 1)) - 48)) := hM.set0 hat hu
                                                  refine lv_aload_n hx hb dX3_readOrder_239 rfl (lv_at hl 2 rfl) ?_
                                                  refine gf_X3_141_8 CX hM.o0 rfl dX3_readOrder_240 ?_
                                                  refine lv_if_eq (tgt := 259) hx hb dX3_readOrder_243 (by decide) (fun c_243 => ?_) (fun c_243 => ?_)
                                                  · refine lv_iconst (v := nI 0) hx hb dX3_readOrder_259 rfl ?_
                                                    rw [← hQ]
                                                    exact b_zret CX hr hlk hS (Nat.le_of_ble_eq_true rfl) (Nat.le_of_ble_eq_true rfl) rfl dX3_readOrder_260 (Or.inr (Or.inr (⟨_, _, _, _, _, _, (by unfold q_ord; simp only [if_neg c_39, if_pos e99, if_pos e50, hq92]; repeat (first | rw [if_pos (by first | assumption | omega)] | rw [if_neg (by first | assumption | omega)])), (by omega), rfl, hM⟩)))
                                                  · exact absurd c_243 (by decide)
                                                · exact absurd c_228 (by decide)
                                      · have hM : MW G B0 o H H89 (enc S) sp sv (fun j => nI (t j)) sa (nI tn) th (nI (pp + 1 + 1 + 1 + 1)) (nI 0) (nI (t pp)) (nI ((t (pp + 1)) - 48)) (nI ((t (pp + 1 + 1 + 1)) - 48)) nu (nI ((t (pp + 1 + 1 + 1)) - 48)) := hM.tr hM9
                                        refine lv_if_eq (tgt := 235) hx hb dX3_readOrder_200 (by decide) (fun c_200 => ?_) (fun c_200 => ?_)
                                        · refine lv_iconst (v := nI 0) hx hb dX3_readOrder_235 rfl ?_
                                          refine pf_X3_141_8 CX hM.o0 hS (hM.B (by decide)) rfl rfl (Nat.le_of_ble_eq_true rfl) dX3_readOrder_236 (fun H97 locs hat hu hS => ?_)
                                          have hM : MW G B0 o H H97 (enc S) sp sv (fun j => nI (t j)) sa (nI tn) th (nI (pp + 1 + 1 + 1 + 1)) (nI 0) (nI (t pp)) (nI ((t (pp + 1)) - 48)) (nI ((t (pp + 1 + 1 + 1)) - 48)) nu (nI ((t (pp + 1 + 1 + 1)) - 48)) := hM.set0 hat hu
                                          refine lv_aload_n hx hb dX3_readOrder_239 rfl (lv_at hl 2 rfl) ?_
                                          refine gf_X3_141_8 CX hM.o0 rfl dX3_readOrder_240 ?_
                                          refine lv_if_eq (tgt := 259) hx hb dX3_readOrder_243 (by decide) (fun c_243 => ?_) (fun c_243 => ?_)
                                          · refine lv_iconst (v := nI 0) hx hb dX3_readOrder_259 rfl ?_
                                            rw [← hQ]
                                            exact b_zret CX hr hlk hS (Nat.le_of_ble_eq_true rfl) (Nat.le_of_ble_eq_true rfl) rfl dX3_readOrder_260 (Or.inr (Or.inr (⟨_, _, _, _, _, _, (by unfold q_ord; simp only [if_neg c_39, if_pos e99, if_pos e50]; repeat (first | rw [if_pos (by first | assumption | omega)] | rw [if_neg (by first | assumption | omega)])), (by omega), rfl, hM⟩)))
                                          · exact absurd c_243 (by decide)
                                        · exact absurd c_200 (by decide)
                                · have hM : MW G B0 o H H86 (enc S) sp sv (fun j => nI (t j)) sa (nI tn) th (nI (pp + 1 + 1 + 1)) (nI 0) (nI (t pp)) (nI ((t (pp + 1)) - 48)) ot nu di987 := hM.tr hM9
                                  refine lv_if_eq (tgt := 179) hx hb dX3_readOrder_172 (by decide) (fun c_172 => ?_) (fun c_172 => ?_)
                                  · refine lv_iconst (v := nI 0) hx hb dX3_readOrder_179 rfl ?_
                                    refine lv_istore_n (lv' := [(2, .int (nI 0)), (1, .int (nI 0)), (0, .ref (o 0))]) hx hb dX3_readOrder_180 rfl hl (Nat.le_of_ble_eq_true rfl) rfl (fun ls hl => ?_)
                                    refine lv_aload_n hx hb dX3_readOrder_181 rfl (lv_at hl 2 rfl) ?_
                                    refine lv_aload_n hx hb dX3_readOrder_182 rfl (lv_at hl 2 rfl) ?_
                                    refine gf_X3_135_8 CX hM.o0 rfl dX3_readOrder_183 ?_
                                    refine pf_X3_157_8 CX hM.o0 hS (hM.B (by decide)) rfl rfl (Nat.le_of_ble_eq_true rfl) dX3_readOrder_186 (fun H98 locs hat hu hS => ?_)
                                    have hM : MW G B0 o H H98 (enc S) sp sv (fun j => nI (t j)) sa (nI tn) th (nI (pp + 1 + 1 + 1)) (nI 0) (nI (t pp)) (nI ((t (pp + 1)) - 48)) di987 nu di987 := hM.set0 hat hu
                                    refine lv_aload_n hx hb dX3_readOrder_189 rfl (lv_at hl 2 rfl) ?_
                                    refine lv_iload_n hx hb dX3_readOrder_190 rfl (lv_at hl 0 rfl) ?_
                                    refine lv_if_eq (tgt := 235) hx hb dX3_readOrder_191 (by decide) (fun c_191 => ?_) (fun c_191 => ?_)
                                    · refine lv_iconst (v := nI 0) hx hb dX3_readOrder_235 rfl ?_
                                      refine pf_X3_141_8 CX hM.o0 hS (hM.B (by decide)) rfl rfl (Nat.le_of_ble_eq_true rfl) dX3_readOrder_236 (fun H99 locs hat hu hS => ?_)
                                      have hM : MW G B0 o H H99 (enc S) sp sv (fun j => nI (t j)) sa (nI tn) th (nI (pp + 1 + 1 + 1)) (nI 0) (nI (t pp)) (nI ((t (pp + 1)) - 48)) di987 nu di987 := hM.set0 hat hu
                                      refine lv_aload_n hx hb dX3_readOrder_239 rfl (lv_at hl 2 rfl) ?_
                                      refine gf_X3_141_8 CX hM.o0 rfl dX3_readOrder_240 ?_
                                      refine lv_if_eq (tgt := 259) hx hb dX3_readOrder_243 (by decide) (fun c_243 => ?_) (fun c_243 => ?_)
                                      · refine lv_iconst (v := nI 0) hx hb dX3_readOrder_259 rfl ?_
                                        rw [← hQ]
                                        exact b_zret CX hr hlk hS (Nat.le_of_ble_eq_true rfl) (Nat.le_of_ble_eq_true rfl) rfl dX3_readOrder_260 (Or.inr (Or.inr (⟨_, _, _, _, _, _, (by unfold q_ord; simp only [if_neg c_39, if_pos e99, if_pos e50]; repeat (first | rw [if_pos (by first | assumption | omega)] | rw [if_neg (by first | assumption | omega)])), (by omega), rfl, hM⟩)))
                                      · exact absurd c_243 (by decide)
                                    · exact absurd c_191 (by decide)
                                  · exact absurd c_172 (by decide)
                            · exact absurd c_147 (by decide)
                        · have hM : MW G B0 o H H84 (enc S) sp sv (fun j => nI (t j)) sa (nI tn) th (nI (pp + 1 + 1)) (nI 0) (nI (t pp)) (nI ((t (pp + 1)) - 48)) ot nu (nI ((t (pp + 1)) - 48)) := hM.tr hM9
                          refine lv_if_eq (tgt := 179) hx hb dX3_readOrder_142 (by decide) (fun c_142 => ?_) (fun c_142 => ?_)
                          · refine lv_iconst (v := nI 0) hx hb dX3_readOrder_179 rfl ?_
                            refine lv_istore_n (lv' := [(2, .int (nI 0)), (1, .int (nI 0)), (0, .ref (o 0))]) hx hb dX3_readOrder_180 rfl hl (Nat.le_of_ble_eq_true rfl) rfl (fun ls hl => ?_)
                            refine lv_aload_n hx hb dX3_readOrder_181 rfl (lv_at hl 2 rfl) ?_
                            refine lv_aload_n hx hb dX3_readOrder_182 rfl (lv_at hl 2 rfl) ?_
                            refine gf_X3_135_8 CX hM.o0 rfl dX3_readOrder_183 ?_
                            refine pf_X3_157_8 CX hM.o0 hS (hM.B (by decide)) rfl rfl (Nat.le_of_ble_eq_true rfl) dX3_readOrder_186 (fun H100 locs hat hu hS => ?_)
                            have hM : MW G B0 o H H100 (enc S) sp sv (fun j => nI (t j)) sa (nI tn) th (nI (pp + 1 + 1)) (nI 0) (nI (t pp)) (nI ((t (pp + 1)) - 48)) (nI ((t (pp + 1)) - 48)) nu (nI ((t (pp + 1)) - 48)) := hM.set0 hat hu
                            refine lv_aload_n hx hb dX3_readOrder_189 rfl (lv_at hl 2 rfl) ?_
                            refine lv_iload_n hx hb dX3_readOrder_190 rfl (lv_at hl 0 rfl) ?_
                            refine lv_if_eq (tgt := 235) hx hb dX3_readOrder_191 (by decide) (fun c_191 => ?_) (fun c_191 => ?_)
                            · refine lv_iconst (v := nI 0) hx hb dX3_readOrder_235 rfl ?_
                              refine pf_X3_141_8 CX hM.o0 hS (hM.B (by decide)) rfl rfl (Nat.le_of_ble_eq_true rfl) dX3_readOrder_236 (fun H101 locs hat hu hS => ?_)
                              have hM : MW G B0 o H H101 (enc S) sp sv (fun j => nI (t j)) sa (nI tn) th (nI (pp + 1 + 1)) (nI 0) (nI (t pp)) (nI ((t (pp + 1)) - 48)) (nI ((t (pp + 1)) - 48)) nu (nI ((t (pp + 1)) - 48)) := hM.set0 hat hu
                              refine lv_aload_n hx hb dX3_readOrder_239 rfl (lv_at hl 2 rfl) ?_
                              refine gf_X3_141_8 CX hM.o0 rfl dX3_readOrder_240 ?_
                              refine lv_if_eq (tgt := 259) hx hb dX3_readOrder_243 (by decide) (fun c_243 => ?_) (fun c_243 => ?_)
                              · refine lv_iconst (v := nI 0) hx hb dX3_readOrder_259 rfl ?_
                                rw [← hQ]
                                exact b_zret CX hr hlk hS (Nat.le_of_ble_eq_true rfl) (Nat.le_of_ble_eq_true rfl) rfl dX3_readOrder_260 (Or.inr (Or.inr (⟨_, _, _, _, _, _, (by unfold q_ord; simp only [if_neg c_39, if_pos e99, if_pos e50]; repeat (first | rw [if_pos (by first | assumption | omega)] | rw [if_neg (by first | assumption | omega)])), (by omega), rfl, hM⟩)))
                              · exact absurd c_243 (by decide)
                            · exact absurd c_191 (by decide)
                          · exact absurd c_142 (by decide)
                      · exact absurd c_129 (by decide)
                  · have hM : MW G B0 o H H81 (enc S) sp sv (fun j => nI (t j)) sa (nI tn) th (nI (pp + 1)) (nI 0) (nI (t pp)) on ot nu di982 := hM.tr hM9
                    refine lv_istore_n (lv' := [(2, .int (nI 0)), (1, .int (nI 0)), (0, .ref (o 0))]) hx hb dX3_readOrder_114 rfl hl (Nat.le_of_ble_eq_true rfl) rfl (fun ls hl => ?_)
                    refine lv_aload_n hx hb dX3_readOrder_115 rfl (lv_at hl 2 rfl) ?_
                    refine lv_aload_n hx hb dX3_readOrder_116 rfl (lv_at hl 2 rfl) ?_
                    refine gf_X3_135_8 CX hM.o0 rfl dX3_readOrder_117 ?_
                    refine pf_X3_151_8 CX hM.o0 hS (hM.B (by decide)) rfl rfl (Nat.le_of_ble_eq_true rfl) dX3_readOrder_120 (fun H102 locs hat hu hS => ?_)
                    have hM : MW G B0 o H H102 (enc S) sp sv (fun j => nI (t j)) sa (nI tn) th (nI (pp + 1)) (nI 0) (nI (t pp)) di982 ot nu di982 := hM.set0 hat hu
                    refine lv_iload_n hx hb dX3_readOrder_123 rfl (lv_at hl 0 rfl) ?_
                    refine lv_if_eq (tgt := 179) hx hb dX3_readOrder_124 (by decide) (fun c_124 => ?_) (fun c_124 => ?_)
                    · refine lv_iconst (v := nI 0) hx hb dX3_readOrder_179 rfl ?_
                      refine lv_istore_n (lv' := [(2, .int (nI 0)), (1, .int (nI 0)), (0, .ref (o 0))]) hx hb dX3_readOrder_180 rfl hl (Nat.le_of_ble_eq_true rfl) rfl (fun ls hl => ?_)
                      refine lv_aload_n hx hb dX3_readOrder_181 rfl (lv_at hl 2 rfl) ?_
                      refine lv_aload_n hx hb dX3_readOrder_182 rfl (lv_at hl 2 rfl) ?_
                      refine gf_X3_135_8 CX hM.o0 rfl dX3_readOrder_183 ?_
                      refine pf_X3_157_8 CX hM.o0 hS (hM.B (by decide)) rfl rfl (Nat.le_of_ble_eq_true rfl) dX3_readOrder_186 (fun H103 locs hat hu hS => ?_)
                      have hM : MW G B0 o H H103 (enc S) sp sv (fun j => nI (t j)) sa (nI tn) th (nI (pp + 1)) (nI 0) (nI (t pp)) di982 di982 nu di982 := hM.set0 hat hu
                      refine lv_aload_n hx hb dX3_readOrder_189 rfl (lv_at hl 2 rfl) ?_
                      refine lv_iload_n hx hb dX3_readOrder_190 rfl (lv_at hl 0 rfl) ?_
                      refine lv_if_eq (tgt := 235) hx hb dX3_readOrder_191 (by decide) (fun c_191 => ?_) (fun c_191 => ?_)
                      · refine lv_iconst (v := nI 0) hx hb dX3_readOrder_235 rfl ?_
                        refine pf_X3_141_8 CX hM.o0 hS (hM.B (by decide)) rfl rfl (Nat.le_of_ble_eq_true rfl) dX3_readOrder_236 (fun H104 locs hat hu hS => ?_)
                        have hM : MW G B0 o H H104 (enc S) sp sv (fun j => nI (t j)) sa (nI tn) th (nI (pp + 1)) (nI 0) (nI (t pp)) di982 di982 nu di982 := hM.set0 hat hu
                        refine lv_aload_n hx hb dX3_readOrder_239 rfl (lv_at hl 2 rfl) ?_
                        refine gf_X3_141_8 CX hM.o0 rfl dX3_readOrder_240 ?_
                        refine lv_if_eq (tgt := 259) hx hb dX3_readOrder_243 (by decide) (fun c_243 => ?_) (fun c_243 => ?_)
                        · refine lv_iconst (v := nI 0) hx hb dX3_readOrder_259 rfl ?_
                          rw [← hQ]
                          exact b_zret CX hr hlk hS (Nat.le_of_ble_eq_true rfl) (Nat.le_of_ble_eq_true rfl) rfl dX3_readOrder_260 (Or.inr (Or.inr (⟨_, _, _, _, _, _, (by unfold q_ord; simp only [if_neg c_39, if_pos e99, if_pos e50]; repeat (first | rw [if_pos (by first | assumption | omega)] | rw [if_neg (by first | assumption | omega)])), (by omega), rfl, hM⟩)))
                        · exact absurd c_243 (by decide)
                      · exact absurd c_191 (by decide)
                    · exact absurd c_124 (by decide)
                · exact absurd c_102 (by decide)
              · refine lv_iconst (v := nI 0) hx hb dX3_readOrder_88 rfl ?_
                rw [← hQ]
                exact b_zret CX hr hlk hS (Nat.le_of_ble_eq_true rfl) (Nat.le_of_ble_eq_true rfl) rfl dX3_readOrder_89 (Or.inr (Or.inr (⟨_, _, _, _, _, _, (by unfold q_ord; rw [if_neg (by omega)]), (by omega), rfl, hM⟩)))
    · have e50 : t pp = 100 ∨ t pp = 99 := Or.inl c_39
      refine lv_iconst (v := nI 1) hx hb dX3_readOrder_42 rfl ?_
      refine lv_goto (tgt := 47) hx hb dX3_readOrder_43 (by decide) ?_
      refine lv_istore_n (lv' := [(1, .int (nI 1)), (0, .ref (o 0))]) hx hb dX3_readOrder_47 rfl hl (Nat.le_of_ble_eq_true rfl) rfl (fun ls hl => ?_)
      refine lv_iload_n hx hb dX3_readOrder_48 rfl (lv_at hl 0 rfl) ?_
      refine lv_if_ne (tgt := 90) hx hb dX3_readOrder_49 (by decide) (fun c_49 => ?_) (fun c_49 => ?_)
      · refine lv_aload_n hx hb dX3_readOrder_90 rfl (lv_at hl 1 rfl) ?_
        refine lv_dup hx hb dX3_readOrder_91 rfl ?_
        refine gf_X3_132_8 CX hM.o0 rfl dX3_readOrder_92 ?_
        refine lv_iconst (v := nI 1) hx hb dX3_readOrder_95 rfl ?_
        refine b_iaddN CX dX3_readOrder_96 ?_
        refine pf_X3_132_8 CX hM.o0 hS (hM.B (by decide)) rfl rfl (Nat.le_of_ble_eq_true rfl) dX3_readOrder_97 (fun H105 locs hat hu hS => ?_)
        have hM : MW G B0 o H H105 (enc S) sp sv (fun j => nI (t j)) sa (nI tn) th (nI (pp + 1)) (nI 0) (nI (t pp)) on ot nu di := hM.set0 hat hu
        refine lv_aload_n hx hb dX3_readOrder_100 rfl (lv_at hl 1 rfl) ?_
        refine lv_iload_n hx hb dX3_readOrder_101 rfl (lv_at hl 0 rfl) ?_
        refine lv_if_eq (tgt := 110) hx hb dX3_readOrder_102 (by decide) (fun c_102 => ?_) (fun c_102 => ?_)
        · exact absurd c_102 (by decide)
        · refine lv_bipush (v := nI 7) hx hb dX3_readOrder_105 rfl ?_
          refine lv_goto (tgt := 111) hx hb dX3_readOrder_107 (by decide) ?_
          refine b_ci (cs_X3_148 (rest := []) CX hl.1 (m_X3_digitTo l (hi := 7) hM ht (by omega) (by omega) (by omega)) rfl rfl rfl hM.o0 hS rfl ⟨rfl, rfl, Nat.le_of_ble_eq_true rfl, Nat.le_of_ble_eq_true rfl⟩ (Nat.le_of_ble_eq_true rfl) dX3_readOrder_111 ⟨Nat.le_of_ble_eq_true rfl, Nat.le_of_ble_eq_true rfl⟩) hS (fun r H106 locs hp hS => ?_)
          rcases hp with ⟨hc107, rfl, hM9⟩ | ⟨di9107, hc107, rfl, hM9⟩
          · have hM : MW G B0 o H H106 (enc S) sp sv (fun j => nI (t j)) sa (nI tn) th (nI (pp + 1 + 1)) (nI 0) (nI (t pp)) on ot nu (nI ((t (pp + 1)) - 48)) := hM.tr hM9
            refine lv_istore_n (lv' := [(2, .int (nI 1)), (1, .int (nI 1)), (0, .ref (o 0))]) hx hb dX3_readOrder_114 rfl hl (Nat.le_of_ble_eq_true rfl) rfl (fun ls hl => ?_)
            refine lv_aload_n hx hb dX3_readOrder_115 rfl (lv_at hl 2 rfl) ?_
            refine lv_aload_n hx hb dX3_readOrder_116 rfl (lv_at hl 2 rfl) ?_
            refine gf_X3_135_8 CX hM.o0 rfl dX3_readOrder_117 ?_
            refine pf_X3_151_8 CX hM.o0 hS (hM.B (by decide)) rfl rfl (Nat.le_of_ble_eq_true rfl) dX3_readOrder_120 (fun H108 locs hat hu hS => ?_)
            have hM : MW G B0 o H H108 (enc S) sp sv (fun j => nI (t j)) sa (nI tn) th (nI (pp + 1 + 1)) (nI 0) (nI (t pp)) (nI ((t (pp + 1)) - 48)) ot nu (nI ((t (pp + 1)) - 48)) := hM.set0 hat hu
            refine lv_iload_n hx hb dX3_readOrder_123 rfl (lv_at hl 0 rfl) ?_
            refine lv_if_eq (tgt := 179) hx hb dX3_readOrder_124 (by decide) (fun c_124 => ?_) (fun c_124 => ?_)
            · exact absurd c_124 (by decide)
            · refine lv_aload_n hx hb dX3_readOrder_127 rfl (lv_at hl 2 rfl) ?_
              refine lv_iload_n hx hb dX3_readOrder_128 rfl (lv_at hl 1 rfl) ?_
              refine lv_if_eq (tgt := 137) hx hb dX3_readOrder_129 (by decide) (fun c_129 => ?_) (fun c_129 => ?_)
              · exact absurd c_129 (by decide)
              · refine lv_bipush (v := nI 62) hx hb dX3_readOrder_132 rfl ?_
                refine lv_goto (tgt := 139) hx hb dX3_readOrder_134 (by decide) ?_
                refine b_ci (cs_X3_154 (rest := []) CX hl.1 (m_X3_sign l (x := 62) hM ht (by omega) (by omega) (by omega)) rfl rfl rfl hM.o0 hS rfl ⟨rfl, rfl, Nat.le_of_ble_eq_true rfl, Nat.le_of_ble_eq_true rfl⟩ (Nat.le_of_ble_eq_true rfl) dX3_readOrder_139 ⟨Nat.le_of_ble_eq_true rfl, Nat.le_of_ble_eq_true rfl⟩) hS (fun r H109 locs hp hS => ?_)
                rcases hp with ⟨hc110, rfl, hM9⟩ | ⟨hc110, rfl, hM9⟩
                · have hM : MW G B0 o H H109 (enc S) sp sv (fun j => nI (t j)) sa (nI tn) th (nI (pp + 1 + 1 + 1)) (nI 0) (nI (t pp)) (nI ((t (pp + 1)) - 48)) ot nu (nI ((t (pp + 1)) - 48)) := hM.tr hM9
                  refine lv_if_eq (tgt := 179) hx hb dX3_readOrder_142 (by decide) (fun c_142 => ?_) (fun c_142 => ?_)
                  · exact absurd c_142 (by decide)
                  · refine lv_aload_n hx hb dX3_readOrder_145 rfl (lv_at hl 2 rfl) ?_
                    refine lv_iload_n hx hb dX3_readOrder_146 rfl (lv_at hl 1 rfl) ?_
                    refine lv_if_eq (tgt := 154) hx hb dX3_readOrder_147 (by decide) (fun c_147 => ?_) (fun c_147 => ?_)
                    · exact absurd c_147 (by decide)
                    · refine lv_iconst (v := nI 5) hx hb dX3_readOrder_150 rfl ?_
                      refine lv_goto (tgt := 169) hx hb dX3_readOrder_151 (by decide) ?_
                      refine b_ci (cs_X3_148 (rest := []) CX hl.1 (m_X3_digitTo l (hi := 5) hM ht (by omega) (by omega) (by omega)) rfl rfl rfl hM.o0 hS rfl ⟨rfl, rfl, Nat.le_of_ble_eq_true rfl, Nat.le_of_ble_eq_true rfl⟩ (Nat.le_of_ble_eq_true rfl) dX3_readOrder_169 ⟨Nat.le_of_ble_eq_true rfl, Nat.le_of_ble_eq_true rfl⟩) hS (fun r H111 locs hp hS => ?_)
                      rcases hp with ⟨hc112, rfl, hM9⟩ | ⟨di9112, hc112, rfl, hM9⟩
                      · have hM : MW G B0 o H H111 (enc S) sp sv (fun j => nI (t j)) sa (nI tn) th (nI (pp + 1 + 1 + 1 + 1)) (nI 0) (nI (t pp)) (nI ((t (pp + 1)) - 48)) ot nu (nI ((t (pp + 1 + 1 + 1)) - 48)) := hM.tr hM9
                        refine lv_if_eq (tgt := 179) hx hb dX3_readOrder_172 (by decide) (fun c_172 => ?_) (fun c_172 => ?_)
                        · exact absurd c_172 (by decide)
                        · refine lv_iconst (v := nI 1) hx hb dX3_readOrder_175 rfl ?_
                          refine lv_goto (tgt := 180) hx hb dX3_readOrder_176 (by decide) ?_
                          refine lv_istore_n (lv' := [(2, .int (nI 1)), (1, .int (nI 1)), (0, .ref (o 0))]) hx hb dX3_readOrder_180 rfl hl (Nat.le_of_ble_eq_true rfl) rfl (fun ls hl => ?_)
                          refine lv_aload_n hx hb dX3_readOrder_181 rfl (lv_at hl 2 rfl) ?_
                          refine lv_aload_n hx hb dX3_readOrder_182 rfl (lv_at hl 2 rfl) ?_
                          refine gf_X3_135_8 CX hM.o0 rfl dX3_readOrder_183 ?_
                          refine pf_X3_157_8 CX hM.o0 hS (hM.B (by decide)) rfl rfl (Nat.le_of_ble_eq_true rfl) dX3_readOrder_186 (fun H113 locs hat hu hS => ?_)
                          have hM : MW G B0 o H H113 (enc S) sp sv (fun j => nI (t j)) sa (nI tn) th (nI (pp + 1 + 1 + 1 + 1)) (nI 0) (nI (t pp)) (nI ((t (pp + 1)) - 48)) (nI ((t (pp + 1 + 1 + 1)) - 48)) nu (nI ((t (pp + 1 + 1 + 1)) - 48)) := hM.set0 hat hu
                          refine lv_aload_n hx hb dX3_readOrder_189 rfl (lv_at hl 2 rfl) ?_
                          refine lv_iload_n hx hb dX3_readOrder_190 rfl (lv_at hl 0 rfl) ?_
                          refine lv_if_eq (tgt := 235) hx hb dX3_readOrder_191 (by decide) (fun c_191 => ?_) (fun c_191 => ?_)
                          · exact absurd c_191 (by decide)
                          · refine lv_aload_n hx hb dX3_readOrder_194 rfl (lv_at hl 2 rfl) ?_
                            refine lv_bipush (v := nI 42) hx hb dX3_readOrder_195 rfl ?_
                            refine b_ci (cs_X3_154 (rest := [.ref (o 0)]) CX hl.1 (m_X3_sign l (x := 42) hM ht (by omega) (by omega) (by omega)) rfl rfl rfl hM.o0 hS rfl ⟨rfl, rfl, Nat.le_of_ble_eq_true rfl, Nat.le_of_ble_eq_true rfl⟩ (Nat.le_of_ble_eq_true rfl) dX3_readOrder_197 ⟨Nat.le_of_ble_eq_true rfl, Nat.le_of_ble_eq_true rfl⟩) hS (fun r H114 locs hp hS => ?_)
                            rcases hp with ⟨hc115, rfl, hM9⟩ | ⟨hc115, rfl, hM9⟩
                            · have hM : MW G B0 o H H114 (enc S) sp sv (fun j => nI (t j)) sa (nI tn) th (nI (pp + 1 + 1 + 1 + 1 + 1)) (nI 0) (nI (t pp)) (nI ((t (pp + 1)) - 48)) (nI ((t (pp + 1 + 1 + 1)) - 48)) nu (nI ((t (pp + 1 + 1 + 1)) - 48)) := hM.tr hM9
                              refine lv_if_eq (tgt := 235) hx hb dX3_readOrder_200 (by decide) (fun c_200 => ?_) (fun c_200 => ?_)
                              · exact absurd c_200 (by decide)
                              · refine lv_aload_n hx hb dX3_readOrder_203 rfl (lv_at hl 2 rfl) ?_
                                refine lv_iload_n hx hb dX3_readOrder_204 rfl (lv_at hl 1 rfl) ?_
                                refine lv_if_ne (tgt := 217) hx hb dX3_readOrder_205 (by decide) (fun c_205 => ?_) (fun c_205 => ?_)
                                · refine lv_bipush (v := nI 50) hx hb dX3_readOrder_217 rfl ?_
                                  refine lv_goto (tgt := 225) hx hb dX3_readOrder_219 (by decide) ?_
                                  refine b_ci (cs_X3_160 (rest := [.ref (o 0)]) CX hl.1 (m_X3_readNumber l (hi := 50) hM ht (by omega) (by omega) (by omega)) rfl rfl rfl hM.o0 hS rfl ⟨rfl, rfl, Nat.le_of_ble_eq_true rfl, Nat.le_of_ble_eq_true rfl⟩ (Nat.le_of_ble_eq_true rfl) dX3_readOrder_225 ⟨Nat.le_of_ble_eq_true rfl, Nat.le_of_ble_eq_true rfl⟩) hS (fun r H116 locs hp hS => ?_)
                                  rcases hp with ⟨p9117, v9117, hq117, hv117, hp117, rfl, hM9⟩ | ⟨p9117, v9117, hq117, hv117, hp117, rfl, hM9⟩
                                  · have hM : MW G B0 o H H116 (enc S) sp sv (fun j => nI (t j)) sa (nI tn) th (nI p9117) (nI 0) (nI (t pp)) (nI ((t (pp + 1)) - 48)) (nI ((t (pp + 1 + 1 + 1)) - 48)) (nI v9117) (nI ((t (pp + 1 + 1 + 1)) - 48)) := hM.tr hM9
                                    refine lv_if_eq (tgt := 235) hx hb dX3_readOrder_228 (by decide) (fun c_228 => ?_) (fun c_228 => ?_)
                                    · exact absurd c_228 (by decide)
                                    · refine lv_iconst (v := nI 1) hx hb dX3_readOrder_231 rfl ?_
                                      refine lv_goto (tgt := 236) hx hb dX3_readOrder_232 (by decide) ?_
                                      refine pf_X3_141_8 CX hM.o0 hS (hM.B (by decide)) rfl rfl (Nat.le_of_ble_eq_true rfl) dX3_readOrder_236 (fun H118 locs hat hu hS => ?_)
                                      have hM : MW G B0 o H H118 (enc S) sp sv (fun j => nI (t j)) sa (nI tn) th (nI p9117) (nI 1) (nI (t pp)) (nI ((t (pp + 1)) - 48)) (nI ((t (pp + 1 + 1 + 1)) - 48)) (nI v9117) (nI ((t (pp + 1 + 1 + 1)) - 48)) := hM.set0 hat hu
                                      refine lv_aload_n hx hb dX3_readOrder_239 rfl (lv_at hl 2 rfl) ?_
                                      refine gf_X3_141_8 CX hM.o0 rfl dX3_readOrder_240 ?_
                                      refine lv_if_eq (tgt := 259) hx hb dX3_readOrder_243 (by decide) (fun c_243 => ?_) (fun c_243 => ?_)
                                      · exact absurd c_243 (by decide)
                                      · refine lv_aload_n hx hb dX3_readOrder_246 rfl (lv_at hl 2 rfl) ?_
                                        refine lv_bipush (v := nI 59) hx hb dX3_readOrder_247 rfl ?_
                                        refine b_ci (cs_X3_154 (rest := []) CX hl.1 (m_X3_sign l (x := 59) hM ht (by omega) (by omega) (by omega)) rfl rfl rfl hM.o0 hS rfl ⟨rfl, rfl, Nat.le_of_ble_eq_true rfl, Nat.le_of_ble_eq_true rfl⟩ (Nat.le_of_ble_eq_true rfl) dX3_readOrder_249 ⟨Nat.le_of_ble_eq_true rfl, Nat.le_of_ble_eq_true rfl⟩) hS (fun r H119 locs hp hS => ?_)
                                        rcases hp with ⟨hc120, rfl, hM9⟩ | ⟨hc120, rfl, hM9⟩
                                        · have hM : MW G B0 o H H119 (enc S) sp sv (fun j => nI (t j)) sa (nI tn) th (nI (p9117 + 1)) (nI 1) (nI (t pp)) (nI ((t (pp + 1)) - 48)) (nI ((t (pp + 1 + 1 + 1)) - 48)) (nI v9117) (nI ((t (pp + 1 + 1 + 1)) - 48)) := hM.tr hM9
                                          refine lv_if_eq (tgt := 259) hx hb dX3_readOrder_252 (by decide) (fun c_252 => ?_) (fun c_252 => ?_)
                                          · exact absurd c_252 (by decide)
                                          · refine lv_iconst (v := nI 1) hx hb dX3_readOrder_255 rfl ?_
                                            refine lv_goto (tgt := 260) hx hb dX3_readOrder_256 (by decide) ?_
                                            rw [← hQ]
                                            exact b_zret CX hr hlk hS (Nat.le_of_ble_eq_true rfl) (Nat.le_of_ble_eq_true rfl) rfl dX3_readOrder_260 (Or.inl ⟨_, _, _, _, _, _, (by unfold q_ord; simp only [if_pos c_39, if_pos e50, hq117]; repeat (first | rw [if_pos (by first | assumption | omega)] | rw [if_neg (by first | assumption | omega)])), (by first | assumption | omega), (by omega), rfl, hM⟩)
                                        · have hM : MW G B0 o H H119 (enc S) sp sv (fun j => nI (t j)) sa (nI tn) th (nI p9117) (nI 1) (nI (t pp)) (nI ((t (pp + 1)) - 48)) (nI ((t (pp + 1 + 1 + 1)) - 48)) (nI v9117) (nI ((t (pp + 1 + 1 + 1)) - 48)) := hM.tr hM9
                                          refine lv_if_eq (tgt := 259) hx hb dX3_readOrder_252 (by decide) (fun c_252 => ?_) (fun c_252 => ?_)
                                          · refine lv_iconst (v := nI 0) hx hb dX3_readOrder_259 rfl ?_
                                            rw [← hQ]
                                            exact b_zret CX hr hlk hS (Nat.le_of_ble_eq_true rfl) (Nat.le_of_ble_eq_true rfl) rfl dX3_readOrder_260 (Or.inr (Or.inl ⟨_, _, _, _, _, _, (by unfold q_ord; simp only [if_pos c_39, if_pos e50, hq117]; repeat (first | rw [if_pos (by first | assumption | omega)] | rw [if_neg (by first | assumption | omega)])), (by first | assumption | omega), (by omega), rfl, hM⟩))
                                          · exact absurd c_252 (by decide)
                                  · have hM : MW G B0 o H H116 (enc S) sp sv (fun j => nI (t j)) sa (nI tn) th (nI p9117) (nI 0) (nI (t pp)) (nI ((t (pp + 1)) - 48)) (nI ((t (pp + 1 + 1 + 1)) - 48)) (nI v9117) (nI ((t (pp + 1 + 1 + 1)) - 48)) := hM.tr hM9
                                    refine lv_if_eq (tgt := 235) hx hb dX3_readOrder_228 (by decide) (fun c_228 => ?_) (fun c_228 => ?_)
                                    · refine lv_iconst (v := nI 0) hx hb dX3_readOrder_235 rfl ?_
                                      refine pf_X3_141_8 CX hM.o0 hS (hM.B (by decide)) rfl rfl (Nat.le_of_ble_eq_true rfl) dX3_readOrder_236 (fun H121 locs hat hu hS => ?_)
                                      have hM : MW G B0 o H H121 (enc S) sp sv (fun j => nI (t j)) sa (nI tn) th (nI p9117) (nI 0) (nI (t pp)) (nI ((t (pp + 1)) - 48)) (nI ((t (pp + 1 + 1 + 1)) - 48)) (nI v9117) (nI ((t (pp + 1 + 1 + 1)) - 48)) := hM.set0 hat hu
                                      refine lv_aload_n hx hb dX3_readOrder_239 rfl (lv_at hl 2 rfl) ?_
                                      refine gf_X3_141_8 CX hM.o0 rfl dX3_readOrder_240 ?_
                                      refine lv_if_eq (tgt := 259) hx hb dX3_readOrder_243 (by decide) (fun c_243 => ?_) (fun c_243 => ?_)
                                      · refine lv_iconst (v := nI 0) hx hb dX3_readOrder_259 rfl ?_
                                        rw [← hQ]
                                        exact b_zret CX hr hlk hS (Nat.le_of_ble_eq_true rfl) (Nat.le_of_ble_eq_true rfl) rfl dX3_readOrder_260 (Or.inr (Or.inr (⟨_, _, _, _, _, _, (by unfold q_ord; simp only [if_pos c_39, if_pos e50, hq117]; repeat (first | rw [if_pos (by first | assumption | omega)] | rw [if_neg (by first | assumption | omega)])), (by omega), rfl, hM⟩)))
                                      · exact absurd c_243 (by decide)
                                    · exact absurd c_228 (by decide)
                                · exact absurd c_205 (by decide)
                            · have hM : MW G B0 o H H114 (enc S) sp sv (fun j => nI (t j)) sa (nI tn) th (nI (pp + 1 + 1 + 1 + 1)) (nI 0) (nI (t pp)) (nI ((t (pp + 1)) - 48)) (nI ((t (pp + 1 + 1 + 1)) - 48)) nu (nI ((t (pp + 1 + 1 + 1)) - 48)) := hM.tr hM9
                              refine lv_if_eq (tgt := 235) hx hb dX3_readOrder_200 (by decide) (fun c_200 => ?_) (fun c_200 => ?_)
                              · refine lv_iconst (v := nI 0) hx hb dX3_readOrder_235 rfl ?_
                                refine pf_X3_141_8 CX hM.o0 hS (hM.B (by decide)) rfl rfl (Nat.le_of_ble_eq_true rfl) dX3_readOrder_236 (fun H122 locs hat hu hS => ?_)
                                have hM : MW G B0 o H H122 (enc S) sp sv (fun j => nI (t j)) sa (nI tn) th (nI (pp + 1 + 1 + 1 + 1)) (nI 0) (nI (t pp)) (nI ((t (pp + 1)) - 48)) (nI ((t (pp + 1 + 1 + 1)) - 48)) nu (nI ((t (pp + 1 + 1 + 1)) - 48)) := hM.set0 hat hu
                                refine lv_aload_n hx hb dX3_readOrder_239 rfl (lv_at hl 2 rfl) ?_
                                refine gf_X3_141_8 CX hM.o0 rfl dX3_readOrder_240 ?_
                                refine lv_if_eq (tgt := 259) hx hb dX3_readOrder_243 (by decide) (fun c_243 => ?_) (fun c_243 => ?_)
                                · refine lv_iconst (v := nI 0) hx hb dX3_readOrder_259 rfl ?_
                                  rw [← hQ]
                                  exact b_zret CX hr hlk hS (Nat.le_of_ble_eq_true rfl) (Nat.le_of_ble_eq_true rfl) rfl dX3_readOrder_260 (Or.inr (Or.inr (⟨_, _, _, _, _, _, (by unfold q_ord; simp only [if_pos c_39, if_pos e50]; repeat (first | rw [if_pos (by first | assumption | omega)] | rw [if_neg (by first | assumption | omega)])), (by omega), rfl, hM⟩)))
                                · exact absurd c_243 (by decide)
                              · exact absurd c_200 (by decide)
                      · have hM : MW G B0 o H H111 (enc S) sp sv (fun j => nI (t j)) sa (nI tn) th (nI (pp + 1 + 1 + 1)) (nI 0) (nI (t pp)) (nI ((t (pp + 1)) - 48)) ot nu di9112 := hM.tr hM9
                        refine lv_if_eq (tgt := 179) hx hb dX3_readOrder_172 (by decide) (fun c_172 => ?_) (fun c_172 => ?_)
                        · refine lv_iconst (v := nI 0) hx hb dX3_readOrder_179 rfl ?_
                          refine lv_istore_n (lv' := [(2, .int (nI 0)), (1, .int (nI 1)), (0, .ref (o 0))]) hx hb dX3_readOrder_180 rfl hl (Nat.le_of_ble_eq_true rfl) rfl (fun ls hl => ?_)
                          refine lv_aload_n hx hb dX3_readOrder_181 rfl (lv_at hl 2 rfl) ?_
                          refine lv_aload_n hx hb dX3_readOrder_182 rfl (lv_at hl 2 rfl) ?_
                          refine gf_X3_135_8 CX hM.o0 rfl dX3_readOrder_183 ?_
                          refine pf_X3_157_8 CX hM.o0 hS (hM.B (by decide)) rfl rfl (Nat.le_of_ble_eq_true rfl) dX3_readOrder_186 (fun H123 locs hat hu hS => ?_)
                          have hM : MW G B0 o H H123 (enc S) sp sv (fun j => nI (t j)) sa (nI tn) th (nI (pp + 1 + 1 + 1)) (nI 0) (nI (t pp)) (nI ((t (pp + 1)) - 48)) di9112 nu di9112 := hM.set0 hat hu
                          refine lv_aload_n hx hb dX3_readOrder_189 rfl (lv_at hl 2 rfl) ?_
                          refine lv_iload_n hx hb dX3_readOrder_190 rfl (lv_at hl 0 rfl) ?_
                          refine lv_if_eq (tgt := 235) hx hb dX3_readOrder_191 (by decide) (fun c_191 => ?_) (fun c_191 => ?_)
                          · refine lv_iconst (v := nI 0) hx hb dX3_readOrder_235 rfl ?_
                            refine pf_X3_141_8 CX hM.o0 hS (hM.B (by decide)) rfl rfl (Nat.le_of_ble_eq_true rfl) dX3_readOrder_236 (fun H124 locs hat hu hS => ?_)
                            have hM : MW G B0 o H H124 (enc S) sp sv (fun j => nI (t j)) sa (nI tn) th (nI (pp + 1 + 1 + 1)) (nI 0) (nI (t pp)) (nI ((t (pp + 1)) - 48)) di9112 nu di9112 := hM.set0 hat hu
                            refine lv_aload_n hx hb dX3_readOrder_239 rfl (lv_at hl 2 rfl) ?_
                            refine gf_X3_141_8 CX hM.o0 rfl dX3_readOrder_240 ?_
                            refine lv_if_eq (tgt := 259) hx hb dX3_readOrder_243 (by decide) (fun c_243 => ?_) (fun c_243 => ?_)
                            · refine lv_iconst (v := nI 0) hx hb dX3_readOrder_259 rfl ?_
                              rw [← hQ]
                              exact b_zret CX hr hlk hS (Nat.le_of_ble_eq_true rfl) (Nat.le_of_ble_eq_true rfl) rfl dX3_readOrder_260 (Or.inr (Or.inr (⟨_, _, _, _, _, _, (by unfold q_ord; simp only [if_pos c_39, if_pos e50]; repeat (first | rw [if_pos (by first | assumption | omega)] | rw [if_neg (by first | assumption | omega)])), (by omega), rfl, hM⟩)))
                            · exact absurd c_243 (by decide)
                          · exact absurd c_191 (by decide)
                        · exact absurd c_172 (by decide)
                · have hM : MW G B0 o H H109 (enc S) sp sv (fun j => nI (t j)) sa (nI tn) th (nI (pp + 1 + 1)) (nI 0) (nI (t pp)) (nI ((t (pp + 1)) - 48)) ot nu (nI ((t (pp + 1)) - 48)) := hM.tr hM9
                  refine lv_if_eq (tgt := 179) hx hb dX3_readOrder_142 (by decide) (fun c_142 => ?_) (fun c_142 => ?_)
                  · refine lv_iconst (v := nI 0) hx hb dX3_readOrder_179 rfl ?_
                    refine lv_istore_n (lv' := [(2, .int (nI 0)), (1, .int (nI 1)), (0, .ref (o 0))]) hx hb dX3_readOrder_180 rfl hl (Nat.le_of_ble_eq_true rfl) rfl (fun ls hl => ?_)
                    refine lv_aload_n hx hb dX3_readOrder_181 rfl (lv_at hl 2 rfl) ?_
                    refine lv_aload_n hx hb dX3_readOrder_182 rfl (lv_at hl 2 rfl) ?_
                    refine gf_X3_135_8 CX hM.o0 rfl dX3_readOrder_183 ?_
                    refine pf_X3_157_8 CX hM.o0 hS (hM.B (by decide)) rfl rfl (Nat.le_of_ble_eq_true rfl) dX3_readOrder_186 (fun H125 locs hat hu hS => ?_)
                    have hM : MW G B0 o H H125 (enc S) sp sv (fun j => nI (t j)) sa (nI tn) th (nI (pp + 1 + 1)) (nI 0) (nI (t pp)) (nI ((t (pp + 1)) - 48)) (nI ((t (pp + 1)) - 48)) nu (nI ((t (pp + 1)) - 48)) := hM.set0 hat hu
                    refine lv_aload_n hx hb dX3_readOrder_189 rfl (lv_at hl 2 rfl) ?_
                    refine lv_iload_n hx hb dX3_readOrder_190 rfl (lv_at hl 0 rfl) ?_
                    refine lv_if_eq (tgt := 235) hx hb dX3_readOrder_191 (by decide) (fun c_191 => ?_) (fun c_191 => ?_)
                    · refine lv_iconst (v := nI 0) hx hb dX3_readOrder_235 rfl ?_
                      refine pf_X3_141_8 CX hM.o0 hS (hM.B (by decide)) rfl rfl (Nat.le_of_ble_eq_true rfl) dX3_readOrder_236 (fun H126 locs hat hu hS => ?_)
                      have hM : MW G B0 o H H126 (enc S) sp sv (fun j => nI (t j)) sa (nI tn) th (nI (pp + 1 + 1)) (nI 0) (nI (t pp)) (nI ((t (pp + 1)) - 48)) (nI ((t (pp + 1)) - 48)) nu (nI ((t (pp + 1)) - 48)) := hM.set0 hat hu
                      refine lv_aload_n hx hb dX3_readOrder_239 rfl (lv_at hl 2 rfl) ?_
                      refine gf_X3_141_8 CX hM.o0 rfl dX3_readOrder_240 ?_
                      refine lv_if_eq (tgt := 259) hx hb dX3_readOrder_243 (by decide) (fun c_243 => ?_) (fun c_243 => ?_)
                      · refine lv_iconst (v := nI 0) hx hb dX3_readOrder_259 rfl ?_
                        rw [← hQ]
                        exact b_zret CX hr hlk hS (Nat.le_of_ble_eq_true rfl) (Nat.le_of_ble_eq_true rfl) rfl dX3_readOrder_260 (Or.inr (Or.inr (⟨_, _, _, _, _, _, (by unfold q_ord; simp only [if_pos c_39, if_pos e50]; repeat (first | rw [if_pos (by first | assumption | omega)] | rw [if_neg (by first | assumption | omega)])), (by omega), rfl, hM⟩)))
                      · exact absurd c_243 (by decide)
                    · exact absurd c_191 (by decide)
                  · exact absurd c_142 (by decide)
          · have hM : MW G B0 o H H106 (enc S) sp sv (fun j => nI (t j)) sa (nI tn) th (nI (pp + 1)) (nI 0) (nI (t pp)) on ot nu di9107 := hM.tr hM9
            refine lv_istore_n (lv' := [(2, .int (nI 0)), (1, .int (nI 1)), (0, .ref (o 0))]) hx hb dX3_readOrder_114 rfl hl (Nat.le_of_ble_eq_true rfl) rfl (fun ls hl => ?_)
            refine lv_aload_n hx hb dX3_readOrder_115 rfl (lv_at hl 2 rfl) ?_
            refine lv_aload_n hx hb dX3_readOrder_116 rfl (lv_at hl 2 rfl) ?_
            refine gf_X3_135_8 CX hM.o0 rfl dX3_readOrder_117 ?_
            refine pf_X3_151_8 CX hM.o0 hS (hM.B (by decide)) rfl rfl (Nat.le_of_ble_eq_true rfl) dX3_readOrder_120 (fun H127 locs hat hu hS => ?_)
            have hM : MW G B0 o H H127 (enc S) sp sv (fun j => nI (t j)) sa (nI tn) th (nI (pp + 1)) (nI 0) (nI (t pp)) di9107 ot nu di9107 := hM.set0 hat hu
            refine lv_iload_n hx hb dX3_readOrder_123 rfl (lv_at hl 0 rfl) ?_
            refine lv_if_eq (tgt := 179) hx hb dX3_readOrder_124 (by decide) (fun c_124 => ?_) (fun c_124 => ?_)
            · refine lv_iconst (v := nI 0) hx hb dX3_readOrder_179 rfl ?_
              refine lv_istore_n (lv' := [(2, .int (nI 0)), (1, .int (nI 1)), (0, .ref (o 0))]) hx hb dX3_readOrder_180 rfl hl (Nat.le_of_ble_eq_true rfl) rfl (fun ls hl => ?_)
              refine lv_aload_n hx hb dX3_readOrder_181 rfl (lv_at hl 2 rfl) ?_
              refine lv_aload_n hx hb dX3_readOrder_182 rfl (lv_at hl 2 rfl) ?_
              refine gf_X3_135_8 CX hM.o0 rfl dX3_readOrder_183 ?_
              refine pf_X3_157_8 CX hM.o0 hS (hM.B (by decide)) rfl rfl (Nat.le_of_ble_eq_true rfl) dX3_readOrder_186 (fun H128 locs hat hu hS => ?_)
              have hM : MW G B0 o H H128 (enc S) sp sv (fun j => nI (t j)) sa (nI tn) th (nI (pp + 1)) (nI 0) (nI (t pp)) di9107 di9107 nu di9107 := hM.set0 hat hu
              refine lv_aload_n hx hb dX3_readOrder_189 rfl (lv_at hl 2 rfl) ?_
              refine lv_iload_n hx hb dX3_readOrder_190 rfl (lv_at hl 0 rfl) ?_
              refine lv_if_eq (tgt := 235) hx hb dX3_readOrder_191 (by decide) (fun c_191 => ?_) (fun c_191 => ?_)
              · refine lv_iconst (v := nI 0) hx hb dX3_readOrder_235 rfl ?_
                refine pf_X3_141_8 CX hM.o0 hS (hM.B (by decide)) rfl rfl (Nat.le_of_ble_eq_true rfl) dX3_readOrder_236 (fun H129 locs hat hu hS => ?_)
                have hM : MW G B0 o H H129 (enc S) sp sv (fun j => nI (t j)) sa (nI tn) th (nI (pp + 1)) (nI 0) (nI (t pp)) di9107 di9107 nu di9107 := hM.set0 hat hu
                refine lv_aload_n hx hb dX3_readOrder_239 rfl (lv_at hl 2 rfl) ?_
                refine gf_X3_141_8 CX hM.o0 rfl dX3_readOrder_240 ?_
                refine lv_if_eq (tgt := 259) hx hb dX3_readOrder_243 (by decide) (fun c_243 => ?_) (fun c_243 => ?_)
                · refine lv_iconst (v := nI 0) hx hb dX3_readOrder_259 rfl ?_
                  rw [← hQ]
                  exact b_zret CX hr hlk hS (Nat.le_of_ble_eq_true rfl) (Nat.le_of_ble_eq_true rfl) rfl dX3_readOrder_260 (Or.inr (Or.inr (⟨_, _, _, _, _, _, (by unfold q_ord; simp only [if_pos c_39, if_pos e50]; repeat (first | rw [if_pos (by first | assumption | omega)] | rw [if_neg (by first | assumption | omega)])), (by omega), rfl, hM⟩)))
                · exact absurd c_243 (by decide)
              · exact absurd c_191 (by decide)
            · exact absurd c_124 (by decide)
      · exact absurd c_49 (by decide)
