/-! the reference: what would be collected; what is answered -/
set_option maxRecDepth 100000
/-- the reference's state as the law sees it: the table, how many are saved, the saved ones, the text's length, the text -/
abbrev b_Z : Type := b_St × Nat × (Nat → b_St) × Nat × (Nat → Nat)
/-- an answer: what was thrown (0 nothing), the value, the state -/
abbrev b_Rs : Type := Int32 × Int32 × b_Z
def MZ (G : b_G) (B0 : Nat) (o : Nat → Nat) (Hr H : Heap) (th : Int32) (z : b_Z) : Prop := ∃ (sp sv : Nat → Int32) (pl iw lt on ot nu di : Int32), MW G B0 o Hr H (enc z.1) sp sv (fun j => nI (z.2.2.2.2 j)) (nI z.2.1) (nI z.2.2.2.1) th pl iw lt on ot nu di ∧ b_Sv sv z.2.1 z.2.2.1
def ix (x : Int32) : Nat := x.toNatClampNeg
theorem ix_n {n : Nat} (h : n < 2147483648) : ix (nI n) = n := nI_cl h
def f_no (k : Nat) (z : b_Z) : b_Rs := (nI k, nI 0, z)
def f_ok (v : Int32) (z : b_Z) : b_Rs := (nI 0, v, z)
def z_save (z : b_Z) (S : b_St) : b_Z := (S, p_sn z.2.1, p_L z.2.2.1 z.1 z.2.1, z.2.2.2)
abbrev isB (S : b_St) (x : Int32) : Prop := nI 0 ≤ x ∧ x ≤ nI (nb S) - nI 1
abbrev isS (S : b_St) (x : Int32) : Prop := nI 0 ≤ x ∧ x ≤ nI (ns S) - nI 1
abbrev rg (a b : Nat) (x : Int32) : Prop := nI a ≤ x ∧ x ≤ nI b
theorem p_rg {a b : Nat} {x : Int32} (hb : b < 2147483648) (h : nI a ≤ x ∧ x ≤ nI b) (ha : a < 2147483648) : ∃ j : Nat, a ≤ j ∧ j ≤ b ∧ x = nI j := by
  obtain ⟨h0, h1⟩ := h
  have h2 : ¬ x < 0 := by
    intro q
    have h3 := Int32.lt_of_le_of_lt h0 q
    exact absurd ((nI_ltI (b := 0) ha (by decide)).mp h3) (by omega)
  obtain ⟨j, hj, rfl⟩ := nI_of h2
  exact ⟨j, (nI_leI ha hj).mp h0, (nI_leI hj hb).mp h1, rfl⟩
def s_addB (S : b_St) (k n : Int32) : b_St := u3 (u3 (u3 S 1 (nb S) 0 k) 1 (nb S) 1 n) 0 0 0 (nI (nb S + 1))
def s_addS (S : b_St) (m : Int32) : b_St := u3 (u3 S 2 (ns S) 0 m) 0 0 1 (nI (ns S + 1))
def s_buy (S : b_St) (m : Int32) : b_St := u3 S 0 0 2 (S 0 0 2 + m)
def s_set (S : b_St) (j : Nat) (x : Int32) : b_St := u3 S 0 0 (7 + j) x
def s_lose (S : b_St) (b : Nat) (n : Int32) : b_St := u3 (u3 (u3 S 1 b 3 (S 1 b 3 - n)) 1 b 6 (S 1 b 6 + n)) 0 0 4 (S 0 0 4 + n * p_dep S b)
def o_addBrand (z : b_Z) (k n : Int32) : b_Rs := if rg 0 2 k ∧ rg 0 5000 n then (if nb z.1 = 8 then f_no 2 z else f_ok (nI (nb z.1)) (z_save z (s_addB z.1 k n))) else f_no 1 z
def o_addShop (z : b_Z) (n : Int32) : b_Rs := if rg 0 100000 n then (if ns z.1 = 6 then f_no 2 z else f_ok (nI (ns z.1)) (z_save z (s_addS z.1 n))) else f_no 1 z
def o_buy (z : b_Z) (n : Int32) : b_Rs := if rg 1 500 n then (if z.1 0 0 2 + p_crates z.1 + n ≤ nI 1000 then f_ok (z.1 0 0 2 + n) (z_save z (s_buy z.1 n)) else f_no 2 z) else f_no 1 z
def o_set (z : b_Z) (x v : Int32) : b_Rs := if rg 0 5 x then (if b_least (ix x) ≤ v ∧ v ≤ b_most (ix x) then (if ix x < 4 ∧ ¬ z.1 0 0 3 ≤ 0 then f_no 3 z else f_ok (z.1 0 0 (7 + ix x)) (z_save z (s_set z.1 (ix x) v))) else f_no 2 z) else f_no 1 z
def o_fill (z : b_Z) (x n : Int32) : b_Rs := if isB z.1 x then (if rg 1 5000 n then (if z.1 1 (ix x) 1 < n then f_no 3 z else f_ok (p_full z.1 (ix x) n) (z_save z (s_fill z.1 (ix x) n))) else f_no 2 z) else f_no 1 z
def o_deliver (z : b_Z) (x y c : Int32) : b_Rs := if isB z.1 x ∧ isS z.1 y then (if rg 1 50 c then (if a_deliver z.1 (ix x) (ix y) c ≤ 0 then f_ok (p_price z.1 (ix x) c) (z_save z (s_deliver z.1 (ix x) (ix y) c)) else f_no 3 z) else f_no 2 z) else f_no 1 z
def o_sell (z : b_Z) (x y c : Int32) : b_Rs := if isS z.1 x ∧ isB z.1 y then (if rg 1 500 c then (if a_sell z.1 (ix x) (ix y) c ≤ 0 then f_ok (z.1 2 (ix x) 0 + c * p_dep z.1 (ix y)) (z_save z (s_sell z.1 (ix x) (ix y) c)) else f_no 3 z) else f_no 2 z) else f_no 1 z
def o_take (z : b_Z) (x y c : Int32) : b_Rs := if isS z.1 x ∧ isB z.1 y then (if rg 1 500 c then (if a_take z.1 (ix x) (ix y) c ≤ 0 then f_ok (z.1 2 (ix x) 0 - c * p_dep z.1 (ix y)) (z_save z (s_take z.1 (ix x) (ix y) c)) else f_no 3 z) else f_no 2 z) else f_no 1 z
def o_break (z : b_Z) (x y c : Int32) : b_Rs := if isS z.1 x ∧ isB z.1 y then (if rg 1 500 c then (if a_break z.1 (ix x) (ix y) c ≤ 0 then f_ok (p_paid z.1 (ix y) c) (z_save z (s_break z.1 (ix x) (ix y) c)) else f_no 3 z) else f_no 2 z) else f_no 1 z
def o_lose (z : b_Z) (x n : Int32) : b_Rs := if isB z.1 x then (if rg 1 5000 n then (if z.1 1 (ix x) 3 < n then f_no 3 z else f_ok (z.1 1 (ix x) 3 - n) (z_save z (s_lose z.1 (ix x) n))) else f_no 2 z) else f_no 1 z
def o_collect (z : b_Z) (x k c : Int32) : b_Rs := if isS z.1 x then (if rg 0 2 k ∧ rg 1 50 c then (if a_collect z.1 (ix x) (ix k) c ≤ 0 then f_ok (p_deps z.1 (ix k) c) (z_save z (s_collect z.1 (ix x) (ix k) (ix c))) else f_no 3 z) else f_no 2 z) else f_no 1 z
def updT (t : Nat → Nat) (n c : Nat) : Nat → Nat := fun j => if j = n then c else t j
theorem updT_e (t : Nat → Nat) (n c : Nat) : upd (fun j => nI (t j)) n (nI c) = fun j => nI (updT t n c j) := by
  funext j
  unfold upd updT
  split <;> rfl
def o_append (z : b_Z) (c : Int32) : b_Rs := if rg 33 126 c then (if z.2.2.2.1 = 60 then f_no 2 z else f_ok (nI (z.2.2.2.1 + 1)) (z.1, z.2.1, z.2.2.1, z.2.2.2.1 + 1, updT z.2.2.2.2 z.2.2.2.1 (ix c))) else f_no 1 z
def o_clear (z : b_Z) : b_Rs := f_ok (nI z.2.2.2.1) (z.1, z.2.1, z.2.2.1, 0, z.2.2.2.2)
def o_first (z : b_Z) : b_Rs := f_ok (nI (q_all z.2.2.2.2 z.2.2.2.1 (z.2.2.2.1 + 1) 0).2.1) z
def o_brand (z : b_Z) (x k : Int32) : b_Rs := if isB z.1 x then (if rg 0 11 k then f_ok (p_about z.1 (ix x) (ix k)) z else f_no 2 z) else f_no 1 z
def o_shop (z : b_Z) (x k : Int32) : b_Rs := if isS z.1 x then (if rg 0 6 k ∨ rg 10 17 k ∨ rg 20 27 k then f_ok (p_shop z.1 (ix x) (ix k)) z else f_no 2 z) else f_no 1 z
def o_count (z : b_Z) (k : Int32) : b_Rs := if rg 0 10 k then f_ok (p_number z.1 z.2.1 (ix k)) z else f_no 1 z
def o_setting (z : b_Z) (k : Int32) : b_Rs := if rg 0 5 k then f_ok (z.1 0 0 (7 + ix k)) z else f_no 1 z
def o_whyD (z : b_Z) (x y c : Int32) : b_Rs := if isB z.1 x ∧ isS z.1 y then (if rg 1 50 c then f_ok (a_deliver z.1 (ix x) (ix y) c) z else f_no 2 z) else f_no 1 z
def o_whyC (z : b_Z) (x k c : Int32) : b_Rs := if isS z.1 x then (if rg 0 2 k ∧ rg 1 50 c then f_ok (a_collect z.1 (ix x) (ix k) c) z else f_no 2 z) else f_no 1 z
def o_most (z : b_Z) (x y : Int32) : b_Rs := if isB z.1 x ∧ isS z.1 y then f_ok (nI (p_dl z.1 (ix x) (ix y) 50 0)) z else f_no 1 z
def o_collected (z : b_Z) (x y c : Int32) : b_Rs := if isS z.1 x ∧ isB z.1 y then (if rg 1 50 c then f_ok (p_would z.1 (ix x) (ix y) (ix c)) z else f_no 2 z) else f_no 1 z
def o_filled (z : b_Z) (x n : Int32) : b_Rs := if isB z.1 x then (if rg 1 5000 n then f_ok (p_full z.1 (ix x) n) z else f_no 2 z) else f_no 1 z
def o_best (z : b_Z) (k : Int32) : b_Rs := if rg 0 2 k then f_ok (p_shopFor z.1 (ix k)) z else f_no 1 z
def z_undo (z : b_Z) : b_Z := (z.2.2.1 (z.2.1 - 1), z.2.1 - 1, z.2.2.1, z.2.2.2)
def o_undo (z : b_Z) : b_Rs := if z.2.1 = 0 then f_no 1 z else f_ok (nI (z.2.1 - 1)) (z_undo z)
theorem a_coll0 {S : b_St} {s k : Nat} {c : Int32} (h : a_collect S s k c ≤ 0) : a_collect S s k c = nI 0 := by
  revert h
  unfold a_collect
  split
  · intro h; exact absurd h (by decide)
  · split
    · intro h; exact absurd h (by decide)
    · intro _; rfl
theorem isB_lt {S : b_St} (h : b_WF S) {x : Int32} (hx : isB S x) : ∃ j, j < nb S ∧ x = nI j := p_ix (by have := h.nb8; omega) hx
theorem isS_lt {S : b_St} (h : b_WF S) {x : Int32} (hx : isS S x) : ∃ j, j < ns S ∧ x = nI j := p_ix (by have := h.ns6; omega) hx
theorem gf_X3_13_8 {p : Program} {l : Launch} {e : Env} {R : Room} {s : State} {m : MethodId} {args : Array Value} {below : List Frame} {meth : Method} {c : Code} {H : Heap} {locs : List Loc} {cells slots : Nat} {Q : State → Prop} {cc : ByteArray} {pc nL a : Nat} {ls : Array Slot} {rest : List Value} {G : b_G} {B0 : Nat} (CX : b_Cx p s m args c cc nL RX3 G B0) {fs : List Value} (hP : b_at G a (.inr (8, fs)) H) {v : Value} (hv : fs[1]? = some v) (hdg : decode cc pc = .ok (.getfield 13, 3)) (kk : W p l e R s m args below meth c H locs cells slots Q (F0 m (pc + 3) ls (v :: rest))) : W p l e R s m args below meth c H locs cells slots Q (F0 m pc ls (.ref a :: rest)) := b_get CX in_X3 rfl 1 (by decide) q1847 (Or.inl rfl) hP hv hdg kk
set_option maxHeartbeats 2000000 in
set_option maxRecDepth 100000 in
theorem m_X3_wouldCollect (l : Launch) {G : b_G} {B0 : Nat} {o : Nat → Nat} {Hr H : Heap} {S : b_St} {sp sv tx : Nat → Int32} {sa le th pl iw lt on ot nu di : Int32} {s_ : Nat} {b : Nat} {c_ : Nat} (hM : MW G B0 o Hr H (enc S) sp sv tx sa le th pl iw lt on ot nu di) (hW : b_WF S) (hs : s_ < 6) (hb : b < 8) (hc : c_ ≤ 50) (hpk1 : a_collect S s_ (kd S b) (nI c_) ≤ 0 → p_picks S s_ (kd S b) c_) : Met l yX3_wouldCollect (ws_ yX3_wouldCollect cX3_wouldCollect 7 (Option.some Jvm.ClassFile.FieldType.int)) ({ frames := 4, cells := 0, slots := 0, locals := 93 } : Room) (b_Pc G B0 H [.ref (o 0), .int (nI s_), .int (nI b), .int (nI c_)]) (b_Qi B0 (fun r H1 => (∃ sp9 : Nat → Int32, r = p_would S s_ b c_ ∧ MW G B0 o H H1 (enc S) sp9 sv tx sa le th pl iw lt on ot nu di))) 0 0 (b_A B0) := by
  refine b_of (by decide) (Nat.le_of_ble_eq_true rfl) ?_
  intro p e s m below meth c CX hr hlk hnm hS ls hl
  have CX : b_Cx p s m _ c cX3_wouldCollect 7 RX3 G B0 := CX
  have hx := CX.hx
  have hb := CX.hb
  have hl : lv_has ls 7 [(0, .ref (o 0)), (1, .int (nI s_)), (2, .int (nI b)), (3, .int (nI c_))] := hl
  generalize hQ : MQ below (b_Qi B0 (fun r H1 => (∃ sp9 : Nat → Int32, r = p_would S s_ b c_ ∧ MW G B0 o H H1 (enc S) sp9 sv tx sa le th pl iw lt on ot nu di))) ([.ref (o 0), .int (nI s_), .int (nI b), .int (nI c_)] : List Value).toArray s 0 0 (b_A B0) = Q
  have hM := hM.re
  have hkd := hW.kd3 (b := b) (by omega)
  refine lv_aload_n hx hb dX3_wouldCollect_0 rfl (lv_at hl 0 rfl) ?_
  refine lv_iload_n hx hb dX3_wouldCollect_1 rfl (lv_at hl 2 rfl) ?_
  refine lv_iconst (v := nI 0) hx hb dX3_wouldCollect_2 rfl ?_
  refine b_ci0 (cs_X3_46 (rest := []) CX hl.1 (m_X3_of l (b := b) (w := 0) hM (by omega) (by omega)) rfl rfl rfl hM.o0 hS rfl ⟨rfl, rfl, Nat.le_of_ble_eq_true rfl, Nat.le_of_ble_eq_true rfl⟩ (Nat.le_of_ble_eq_true rfl) dX3_wouldCollect_3 ⟨Nat.le_of_ble_eq_true rfl, Nat.le_of_ble_eq_true rfl⟩) hS (fun locs hS => ?_)
  refine b_top (x := S 1 b 0) (y := nI (kd S b)) ((hW.kdE (by omega))) ?_
  refine lv_istore (lv' := [(4, .int (nI (kd S b))), (0, .ref (o 0)), (1, .int (nI s_)), (2, .int (nI b)), (3, .int (nI c_))]) hx hb dX3_wouldCollect_6 hl (Nat.le_of_ble_eq_true rfl) rfl (fun ls hl => ?_)
  refine lv_aload_n hx hb dX3_wouldCollect_8 rfl (lv_at hl 1 rfl) ?_
  refine lv_iload_n hx hb dX3_wouldCollect_9 rfl (lv_at hl 2 rfl) ?_
  refine lv_iload hx hb dX3_wouldCollect_10 (lv_at hl 0 rfl) ?_
  refine lv_iload_n hx hb dX3_wouldCollect_12 rfl (lv_at hl 4 rfl) ?_
  refine b_ci0 (cs_X3_120 (rest := []) CX hl.1 (m_X3_againstCollect l (s_ := s_) (k := kd S b) (c_ := nI c_) hM hW (by omega) (by omega)) rfl rfl rfl hM.o0 hS rfl ⟨rfl, rfl, Nat.le_of_ble_eq_true rfl, Nat.le_of_ble_eq_true rfl⟩ (Nat.le_of_ble_eq_true rfl) dX3_wouldCollect_13 ⟨Nat.le_of_ble_eq_true rfl, Nat.le_of_ble_eq_true rfl⟩) hS (fun locs hS => ?_)
  refine lv_if_le (tgt := 21) hx hb dX3_wouldCollect_16 (by decide) (fun c_16 => ?_) (fun c_16 => ?_)
  · have hpk := hpk1 c_16
    refine lv_iconst (v := nI 0) hx hb dX3_wouldCollect_21 rfl ?_
    refine lv_istore (lv' := [(5, .int (nI 0)), (4, .int (nI (kd S b))), (0, .ref (o 0)), (1, .int (nI s_)), (2, .int (nI b)), (3, .int (nI c_))]) hx hb dX3_wouldCollect_22 hl (Nat.le_of_ble_eq_true rfl) rfl (fun ls hl => ?_)
    have hM : MW G B0 o H H (enc S) (p_ud sp (enc S) 0) sv tx sa le th pl iw lt on ot nu di := by rw [p_ud_0]; exact hM
    have lp24_1 : ∀ (n_ : Nat) (i : Nat), i ≤ 283 → 283 - i < n_ → ∀ (H2 : Heap), MW G B0 o H H2 (enc S) (p_ud sp (enc S) i) sv tx sa le th pl iw lt on ot nu di → ∀ (locs : List Loc), va_S (b_A B0) s.heap H2 locs → ∀ ls : Array Slot, lv_has ls 7 [(5, .int (nI i)), (4, .int (nI (kd S b))), (0, .ref (o 0)), (1, .int (nI s_)), (2, .int (nI b)), (3, .int (nI c_))] → W p l e ({ frames := 4, cells := 0, slots := 0, locals := 93 } : Room) s m ([.ref (o 0), .int (nI s_), .int (nI b), .int (nI c_)] : List Value).toArray below meth c H2 locs 0 0 Q (F0 m 24 ls []) := by
      intro n_
      induction n_ with
      | zero => intro i hi hlt H2 hM locs hS ls hl; exact absurd hlt (Nat.not_lt_zero _)
      | succ n_ ih24 =>
        intro i hi hlt H2 hM locs hS ls hl
        refine lv_iload hx hb dX3_wouldCollect_24 (lv_at hl 0 rfl) ?_
        refine lv_sipush (v := nI 283) hx hb dX3_wouldCollect_26 rfl ?_
        refine b_icmp_geN (tgt := 52) CX (by omega) (by omega) dX3_wouldCollect_29 (by decide) (fun c_29 => ?_) (fun c_29 => ?_)
        · obtain rfl : i = 283 := by omega
          refine lv_aload_n hx hb dX3_wouldCollect_52 rfl (lv_at hl 2 rfl) ?_
          refine lv_iload_n hx hb dX3_wouldCollect_53 rfl (lv_at hl 3 rfl) ?_
          refine lv_iload hx hb dX3_wouldCollect_54 (lv_at hl 1 rfl) ?_
          refine lv_iload_n hx hb dX3_wouldCollect_56 rfl (lv_at hl 5 rfl) ?_
          refine b_ci (cs_X3_123 (rest := []) CX hl.1 (m_X3_collects l (s_ := s_) (k := kd S b) (c_ := c_) hM hW (by omega) (by omega) (by omega) hpk) rfl rfl rfl hM.o0 hS rfl ⟨rfl, rfl, Nat.le_of_ble_eq_true rfl, Nat.le_of_ble_eq_true rfl⟩ (Nat.le_of_ble_eq_true rfl) dX3_wouldCollect_57 ⟨Nat.le_of_ble_eq_true rfl, Nat.le_of_ble_eq_true rfl⟩) hS (fun r H3 locs hp hS => ?_)
          obtain ⟨rfl, hM9⟩ := hp
          have hM : MW G B0 o H H3 (enc ((s_collect S s_ (kd S b) c_))) (p_ud sp (enc S) 283) sv tx sa le th pl iw lt on ot nu di := hM.tr hM9
          refine lv_pop hx hb dX3_wouldCollect_60 rfl ?_
          refine lv_aload_n hx hb dX3_wouldCollect_61 rfl (lv_at hl 2 rfl) ?_
          refine lv_iload_n hx hb dX3_wouldCollect_62 rfl (lv_at hl 4 rfl) ?_
          refine lv_iconst (v := nI 4) hx hb dX3_wouldCollect_63 rfl ?_
          refine b_ci0 (cs_X3_46 (rest := []) CX hl.1 (m_X3_of l (b := b) (w := 4) hM (by omega) (by omega)) rfl rfl rfl hM.o0 hS rfl ⟨rfl, rfl, Nat.le_of_ble_eq_true rfl, Nat.le_of_ble_eq_true rfl⟩ (Nat.le_of_ble_eq_true rfl) dX3_wouldCollect_64 ⟨Nat.le_of_ble_eq_true rfl, Nat.le_of_ble_eq_true rfl⟩) hS (fun locs hS => ?_)
          refine lv_istore (lv' := [(5, .int (((s_collect S s_ (kd S b) c_)) 1 b 4)), (4, .int (nI (kd S b))), (0, .ref (o 0)), (1, .int (nI s_)), (2, .int (nI b)), (3, .int (nI c_))]) hx hb dX3_wouldCollect_67 hl (Nat.le_of_ble_eq_true rfl) rfl (fun ls hl => ?_)
          refine lv_iconst (v := nI 0) hx hb dX3_wouldCollect_69 rfl ?_
          refine lv_istore (lv' := [(6, .int (nI 0)), (5, .int (((s_collect S s_ (kd S b) c_)) 1 b 4)), (4, .int (nI (kd S b))), (0, .ref (o 0)), (1, .int (nI s_)), (2, .int (nI b)), (3, .int (nI c_))]) hx hb dX3_wouldCollect_70 hl (Nat.le_of_ble_eq_true rfl) rfl (fun ls hl => ?_)
          have hM : MW G B0 o H H3 (p_ud (enc (s_collect S s_ (kd S b) c_)) (p_ud sp (enc S) 283) 0) (p_ud sp (enc S) 283) sv tx sa le th pl iw lt on ot nu di := by rw [p_ud_0]; exact hM
          have lp72_4 : ∀ (n_ : Nat) (i : Nat), i ≤ 283 → 283 - i < n_ → ∀ (H5 : Heap), MW G B0 o H H5 (p_ud (enc (s_collect S s_ (kd S b) c_)) (p_ud sp (enc S) 283) i) (p_ud sp (enc S) 283) sv tx sa le th pl iw lt on ot nu di → ∀ (locs : List Loc), va_S (b_A B0) s.heap H5 locs → ∀ ls : Array Slot, lv_has ls 7 [(6, .int (nI i)), (5, .int (((s_collect S s_ (kd S b) c_)) 1 b 4)), (4, .int (nI (kd S b))), (0, .ref (o 0)), (1, .int (nI s_)), (2, .int (nI b)), (3, .int (nI c_))] → W p l e ({ frames := 4, cells := 0, slots := 0, locals := 93 } : Room) s m ([.ref (o 0), .int (nI s_), .int (nI b), .int (nI c_)] : List Value).toArray below meth c H5 locs 0 0 Q (F0 m 72 ls []) := by
            intro n_
            induction n_ with
            | zero => intro i hi hlt H5 hM locs hS ls hl; exact absurd hlt (Nat.not_lt_zero _)
            | succ n_ ih72 =>
              intro i hi hlt H5 hM locs hS ls hl
              refine lv_iload hx hb dX3_wouldCollect_72 (lv_at hl 0 rfl) ?_
              refine lv_sipush (v := nI 283) hx hb dX3_wouldCollect_74 rfl ?_
              refine b_icmp_geN (tgt := 100) CX (by omega) (by omega) dX3_wouldCollect_77 (by decide) (fun c_77 => ?_) (fun c_77 => ?_)
              · obtain rfl : i = 283 := by omega
                have hM : MW G B0 o H H5 (enc S) (p_ud sp (enc S) 283) sv tx sa le th pl iw lt on ot nu di := hM.cg (p_ud_e (fun j hj => if_pos hj))
                refine lv_iload hx hb dX3_wouldCollect_100 (lv_at hl 1 rfl) ?_
                refine lv_aload_n hx hb dX3_wouldCollect_102 rfl (lv_at hl 3 rfl) ?_
                refine lv_iload_n hx hb dX3_wouldCollect_103 rfl (lv_at hl 5 rfl) ?_
                refine lv_iconst (v := nI 4) hx hb dX3_wouldCollect_104 rfl ?_
                refine b_ci0 (cs_X3_46 (rest := [.int (((s_collect S s_ (kd S b) c_)) 1 b 4)]) CX hl.1 (m_X3_of l (b := b) (w := 4) hM (by omega) (by omega)) rfl rfl rfl hM.o0 hS rfl ⟨rfl, rfl, Nat.le_of_ble_eq_true rfl, Nat.le_of_ble_eq_true rfl⟩ (Nat.le_of_ble_eq_true rfl) dX3_wouldCollect_105 ⟨Nat.le_of_ble_eq_true rfl, Nat.le_of_ble_eq_true rfl⟩) hS (fun locs hS => ?_)
                refine lv_isub hx hb dX3_wouldCollect_108 ?_
                refine b_top (x := (((s_collect S s_ (kd S b) c_)) 1 b 4) - (S 1 b 4)) (y := p_would S s_ b c_) (p_would_v.trans (if_pos c_16).symm) ?_
                rw [← hQ]
                exact b_iret CX hr hlk hS (Nat.le_of_ble_eq_true rfl) (Nat.le_of_ble_eq_true rfl) dX3_wouldCollect_109 (⟨_, rfl, hM⟩)
              · refine lv_aload_n hx hb dX3_wouldCollect_80 rfl (lv_at hl 3 rfl) ?_
                refine gf_X3_7_8 CX hM.o0 rfl dX3_wouldCollect_81 ?_
                refine lv_iload hx hb dX3_wouldCollect_84 (lv_at hl 0 rfl) ?_
                refine lv_aload_n hx hb dX3_wouldCollect_86 rfl (lv_at hl 3 rfl) ?_
                refine gf_X3_13_8 CX hM.o0 rfl dX3_wouldCollect_87 ?_
                refine lv_iload hx hb dX3_wouldCollect_90 (lv_at hl 0 rfl) ?_
                refine b_ild CX hM.o2 (x := (p_ud sp (enc S) 283) i) (vp_in_nI (by omega) (by omega)) (b_at_nI (f := p_ud sp (enc S) 283) (n := i) (by omega) rfl) dX3_wouldCollect_92 ?_
                refine b_ist CX hM.o1 hS (hM.B (by decide)) (vp_in_nI (by omega) (by omega)) dX3_wouldCollect_93 (fun H6 locs hat hu hS => ?_)
                have hM : MW G B0 o H H6 (p_ud (enc (s_collect S s_ (kd S b) c_)) (p_ud sp (enc S) 283) (i + 1)) (p_ud sp (enc S) 283) sv tx sa le th pl iw lt on ot nu di := hM.set1 (b_up_nI (by omega) (p_ud_s _ _ _)) hat hu
                refine lv_iinc (v := nI (i + 1)) (lv' := [(6, .int (nI (i + 1))), (5, .int (((s_collect S s_ (kd S b) c_)) 1 b 4)), (4, .int (nI (kd S b))), (0, .ref (o 0)), (1, .int (nI s_)), (2, .int (nI b)), (3, .int (nI c_))]) hx hb dX3_wouldCollect_94 hl (k := 0) rfl (nI_1 _) (Nat.le_of_ble_eq_true rfl) rfl (fun ls hl => ?_)
                refine lv_goto (tgt := 72) hx hb dX3_wouldCollect_97 (by decide) ?_
                exact ih72 (i + 1) (by omega) (by omega) H6 hM _ hS ls (lv_sub hl [0, 1, 2, 3, 4, 5, 6] rfl)
          exact lp72_4 _ 0 (Nat.zero_le _) (Nat.lt_succ_self _) H3 hM _ hS ls (lv_sub hl [0, 1, 2, 3, 4, 5, 6] rfl)
        · refine lv_aload_n hx hb dX3_wouldCollect_32 rfl (lv_at hl 2 rfl) ?_
          refine gf_X3_13_8 CX hM.o0 rfl dX3_wouldCollect_33 ?_
          refine lv_iload hx hb dX3_wouldCollect_36 (lv_at hl 0 rfl) ?_
          refine lv_aload_n hx hb dX3_wouldCollect_38 rfl (lv_at hl 2 rfl) ?_
          refine gf_X3_7_8 CX hM.o0 rfl dX3_wouldCollect_39 ?_
          refine lv_iload hx hb dX3_wouldCollect_42 (lv_at hl 0 rfl) ?_
          refine b_ild CX hM.o1 (x := enc S i) (vp_in_nI (by omega) (by omega)) (b_at_nI (by omega) rfl) dX3_wouldCollect_44 ?_
          refine b_ist CX hM.o2 hS (hM.B (by decide)) (vp_in_nI (by omega) (by omega)) dX3_wouldCollect_45 (fun H7 locs hat hu hS => ?_)
          have hM : MW G B0 o H H7 (enc S) (p_ud sp (enc S) (i + 1)) sv tx sa le th pl iw lt on ot nu di := hM.set2 (b_up_nI (by omega) (p_ud_s _ _ _)) hat hu
          refine lv_iinc (v := nI (i + 1)) (lv' := [(5, .int (nI (i + 1))), (4, .int (nI (kd S b))), (0, .ref (o 0)), (1, .int (nI s_)), (2, .int (nI b)), (3, .int (nI c_))]) hx hb dX3_wouldCollect_46 hl (k := 0) rfl (nI_1 _) (Nat.le_of_ble_eq_true rfl) rfl (fun ls hl => ?_)
          refine lv_goto (tgt := 24) hx hb dX3_wouldCollect_49 (by decide) ?_
          exact ih24 (i + 1) (by omega) (by omega) H7 hM _ hS ls (lv_sub hl [0, 1, 2, 3, 4, 5] rfl)
    exact lp24_1 _ 0 (Nat.zero_le _) (Nat.lt_succ_self _) H hM _ hS ls (lv_sub hl [0, 1, 2, 3, 4, 5] rfl)
  · refine lv_iconst (v := -1) hx hb dX3_wouldCollect_19 rfl ?_
    refine b_top (x := -1) (y := p_would S s_ b c_) ((if_neg c_16).symm) ?_
    rw [← hQ]
    exact b_iret CX hr hlk hS (Nat.le_of_ble_eq_true rfl) (Nat.le_of_ble_eq_true rfl) dX3_wouldCollect_20 (⟨_, rfl, hM⟩)
