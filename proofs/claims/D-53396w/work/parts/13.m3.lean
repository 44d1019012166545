/-! the reference: collecting and saving -/
set_option maxRecDepth 100000
/-! which brand has the most, which bottles are taken -/
def oI : Option Nat → Int32
  | none => -1
  | some b => nI b
def p_bst (K : Nat → Nat) (k : Nat) (E : Nat → Int32) : Nat → Option Nat
  | 0 => none
  | i + 1 => if K i = k then (match p_bst K k E i with
    | none => some i
    | some a => if E a < E i then some i else some a) else p_bst K k E i
theorem p_bst_n {K : Nat → Nat} {k : Nat} {E : Nat → Int32} {i : Nat} (h : ¬ K i = k) : p_bst K k E (i + 1) = p_bst K k E i := if_neg h
theorem p_bst_0 {K : Nat → Nat} {k : Nat} {E : Nat → Int32} {i : Nat} (h : K i = k) (h2 : p_bst K k E i = none) : p_bst K k E (i + 1) = some i := by
  rw [p_bst, if_pos h, h2]
theorem p_bst_1 {K : Nat → Nat} {k : Nat} {E : Nat → Int32} {i a : Nat} (h : K i = k) (h2 : p_bst K k E i = some a) (h3 : E a < E i) : p_bst K k E (i + 1) = some i := by
  rw [p_bst, if_pos h, h2]
  exact if_pos h3
theorem p_bst_2 {K : Nat → Nat} {k : Nat} {E : Nat → Int32} {i a : Nat} (h : K i = k) (h2 : p_bst K k E i = some a) (h3 : ¬ E a < E i) : p_bst K k E (i + 1) = some a := by
  rw [p_bst, if_pos h, h2]
  exact if_neg h3
theorem p_bst_lt {K : Nat → Nat} {k : Nat} {E : Nat → Int32} : ∀ {i a : Nat}, p_bst K k E i = some a → a < i
  | 0, a, h => by cases h
  | i + 1, a, h => by
    by_cases h1 : K i = k
    · cases h2 : p_bst K k E i with
      | none =>
        rw [p_bst_0 h1 h2] at h
        cases h
        exact Nat.lt_succ_self _
      | some b =>
        by_cases h3 : E b < E i
        · rw [p_bst_1 h1 h2 h3] at h
          cases h
          exact Nat.lt_succ_self _
        · rw [p_bst_2 h1 h2 h3] at h
          cases h
          exact Nat.lt_succ_of_lt (p_bst_lt h2)
    · rw [p_bst_n h1] at h
      exact Nat.lt_succ_of_lt (p_bst_lt h)
theorem oI_none {x : Option Nat} {n : Nat} (hx : ∀ a, x = some a → a < n) (hn : n < 2147483648) (h : oI x < 0) : x = none := by
  cases x with
  | none => rfl
  | some a => exact absurd h (nI_pos (Nat.lt_trans (hx a rfl) hn))
theorem oI_some {x : Option Nat} (h : ¬ oI x < 0) : ∃ a, x = some a := by
  cases x with
  | none => exact absurd (show (-1 : Int32) < 0 by decide) h
  | some a => exact ⟨a, rfl⟩
def p_tk (S : b_St) (s k : Nat) : Nat → Nat → Nat
  | 0 => fun _ => 0
  | n + 1 => match p_bst (kd S) k (fun b => S 5 s b - nI (p_tk S s k n b)) (nb S) with
    | none => p_tk S s k n
    | some b => fun j => if j = b then p_tk S s k n b + 1 else p_tk S s k n j
theorem p_tk_s {S : b_St} {s k n b : Nat} (h : p_bst (kd S) k (fun b => S 5 s b - nI (p_tk S s k n b)) (nb S) = some b) : p_tk S s k (n + 1) = fun j => if j = b then p_tk S s k n b + 1 else p_tk S s k n j := by
  rw [p_tk]
  simp only [h]
def s_coll (S : b_St) (s : Nat) (t : Nat → Nat) : b_St := fun k i j => if k = 5 ∧ i = s then S 5 s j - nI (t j) else if k = 1 ∧ j = 4 then S 1 i 4 + nI (t i) else S k i j
theorem s_coll_0 (S : b_St) (s : Nat) : s_coll S s (fun _ => 0) = S := by
  funext k i j
  unfold s_coll
  split
  · rename_i h
    obtain ⟨rfl, rfl⟩ := h
    show S 5 i j - 0 = _
    rw [Int32.sub_zero]
  · split
    · rename_i h
      obtain ⟨rfl, rfl⟩ := h
      show S 1 i 4 + 0 = _
      rw [Int32.add_zero]
    · rfl
theorem nI_sub1 (x : Int32) (n : Nat) : x - nI n - nI 1 = x - nI (n + 1) := by
  rw [show nI (n + 1) = nI n + nI 1 from nI_succ n]
  grind
theorem nI_add1 (x : Int32) (n : Nat) : x + nI n + nI 1 = x + nI (n + 1) := by
  rw [show nI (n + 1) = nI n + nI 1 from nI_succ n, Int32.add_assoc]
theorem s_coll_s (S : b_St) (s b : Nat) (t : Nat → Nat) : u3 (u3 (s_coll S s t) 5 s b (s_coll S s t 5 s b - nI 1)) 1 b 4 (s_coll S s t 1 b 4 + nI 1) = s_coll S s (fun j => if j = b then t b + 1 else t j) := by
  have e5 : s_coll S s t 5 s b = S 5 s b - nI (t b) := by simp [s_coll]
  have e1 : s_coll S s t 1 b 4 = S 1 b 4 + nI (t b) := by simp [s_coll]
  rw [e5, e1, nI_sub1, nI_add1]
  funext k i j
  unfold u3 s_coll
  by_cases h1 : k = 1 ∧ j = 4 ∧ i = b
  · obtain ⟨rfl, rfl, rfl⟩ := h1
    simp
  · rw [if_neg h1]
    by_cases h2 : k = 5 ∧ j = b ∧ i = s
    · obtain ⟨rfl, rfl, rfl⟩ := h2
      simp
    · rw [if_neg h2]
      by_cases h3 : k = 5 ∧ i = s
      · rw [if_pos h3, if_pos h3]
        show _ = S 5 s j - nI (if j = b then t b + 1 else t j)
        rw [if_neg (fun q => h2 ⟨h3.1, q, h3.2⟩)]
      · rw [if_neg h3, if_neg h3]
        by_cases h4 : k = 1 ∧ j = 4
        · rw [if_pos h4, if_pos h4]
          show _ = S 1 i 4 + nI (if i = b then t b + 1 else t i)
          rw [if_neg (fun q => h1 ⟨h4.1, h4.2, q⟩)]
        · rw [if_neg h4, if_neg h4]
theorem b_WF.coll {S : b_St} (h : b_WF S) (s : Nat) (t : Nat → Nat) : b_WF (s_coll S s t) := by
  have e0 : ∀ j, s_coll S s t 0 0 j = S 0 0 j := fun j => by simp [s_coll]
  have e3 : ∀ b, s_coll S s t 1 b 0 = S 1 b 0 := fun b => by simp [s_coll]
  unfold b_WF nb ns kd
  simp only [e0, e3]
  exact h
theorem s_coll_bst (S : b_St) (s k : Nat) (t : Nat → Nat) : p_bst (kd (s_coll S s t)) k (fun b => s_coll S s t 5 s b) (nb (s_coll S s t)) = p_bst (kd S) k (fun b => S 5 s b - nI (t b)) (nb S) := by
  have e0 : nb (s_coll S s t) = nb S := by simp [s_coll, nb]
  have e1 : kd (s_coll S s t) = kd S := by funext b; simp [s_coll, kd]
  have e2 : (fun b => s_coll S s t 5 s b) = (fun b => S 5 s b - nI (t b)) := by funext b; simp [s_coll]
  rw [e0, e1, e2]
def s_collB (B : b_St) (s k c : Nat) : b_St :=
  u3 (u3 (u3 (u3 (u3 B 2 s 1 (B 2 s 1 - nI c)) 0 0 2 (B 0 0 2 + nI c)) 2 s 0 (B 2 s 0 + p_deps B k (nI c))) 2 s 2 (B 2 s 2 - p_deps B k (nI c))) 0 0 3 (B 0 0 3 - p_deps B k (nI c))
def s_collect (S : b_St) (s k c : Nat) : b_St := s_collB (s_coll S s (p_tk S s k (12 * c))) s k c
def p_picks (S : b_St) (s k c : Nat) : Prop := ∀ n, n < 12 * c → ∃ b, p_bst (kd S) k (fun b => S 5 s b - nI (p_tk S s k n b)) (nb S) = some b
/-! saving -/
def p_sh (f : Nat → Int32) (i : Nat) : Nat → Int32 := fun j => if j < i then f (j + 283) else f j
def p_cp (f v : Nat → Int32) (n i : Nat) : Nat → Int32 := fun j => if 283 * n ≤ j ∧ j < 283 * n + i then v (j - 283 * n) else f j
def p_sv (f v : Nat → Int32) (n : Nat) : Nat → Int32 := if n = 6 then p_cp (p_sh f 1415) v 5 283 else p_cp f v n 283
def p_sn (n : Nat) : Nat := if n = 6 then 6 else n + 1
def p_L (L : Nat → b_St) (S : b_St) (n : Nat) : Nat → b_St := if n = 6 then fun k => if k = 5 then S else L (k + 1) else fun k => if k = n then S else L k
def b_Sv (f : Nat → Int32) (n : Nat) (L : Nat → b_St) : Prop := ∀ k, k < n → ∀ j, j < 283 → f (283 * k + j) = enc (L k) j
theorem p_sh_0 (f : Nat → Int32) : p_sh f 0 = f := by funext j; unfold p_sh; rw [if_neg (Nat.not_lt_zero _)]
theorem p_sh_s (f : Nat → Int32) (i : Nat) : upd (p_sh f i) i (p_sh f i (i + 283)) = p_sh f (i + 1) := by
  funext j
  unfold upd p_sh
  by_cases h : j = i
  · subst h
    rw [if_pos rfl, if_neg (by omega), if_pos (by omega)]
  · rw [if_neg h]
    by_cases h2 : j < i
    · rw [if_pos h2, if_pos (by omega)]
    · rw [if_neg h2, if_neg (by omega)]
theorem p_cp_0 (f v : Nat → Int32) (n : Nat) : p_cp f v n 0 = f := by funext j; unfold p_cp; rw [if_neg (by omega)]
theorem p_cp_s (f v : Nat → Int32) (n i : Nat) : upd (p_cp f v n i) (283 * n + i) (v i) = p_cp f v n (i + 1) := by
  funext j
  unfold upd p_cp
  by_cases h : j = 283 * n + i
  · subst h
    rw [if_pos rfl, if_pos (by omega), show 283 * n + i - 283 * n = i by omega]
  · rw [if_neg h]
    by_cases h2 : 283 * n ≤ j ∧ j < 283 * n + i
    · rw [if_pos h2, if_pos (by omega)]
    · rw [if_neg h2, if_neg (by omega)]
theorem b_Sv.save {f : Nat → Int32} {n : Nat} {L : Nat → b_St} (h : b_Sv f n L) (hn : n ≤ 6) (S : b_St) : b_Sv (p_sv f (enc S) n) (p_sn n) (p_L L S n) := by
  intro k hk j hj
  unfold p_sn at hk
  unfold p_sv p_L
  by_cases h6 : n = 6
  · rw [if_pos h6] at hk ⊢
    rw [if_pos h6]
    by_cases h5 : k = 5
    · subst h5
      simp only [if_true]
      unfold p_cp
      rw [if_pos (by omega), show 283 * 5 + j - 283 * 5 = j by omega]
    · rw [if_neg h5]
      unfold p_cp
      rw [if_neg (by omega)]
      unfold p_sh
      rw [if_pos (by omega), show 283 * k + j + 283 = 283 * (k + 1) + j by omega]
      exact h (k + 1) (by omega) j hj
  · rw [if_neg h6] at hk ⊢
    rw [if_neg h6]
    by_cases h5 : k = n
    · subst h5
      simp only [if_true]
      unfold p_cp
      rw [if_pos (by omega), show 283 * k + j - 283 * k = j by omega]
    · rw [if_neg h5]
      unfold p_cp
      rw [if_neg (by omega)]
      exact h k (by omega) j hj
/-! one array's ints count only below its length -/
theorem b_cg {G : b_G} {a cA n : Nat} {f g : Nat → Int32} {H : Heap} (h : b_at G a (.inl (cA, n, .inl f)) H) (he : ∀ j, j < n → f j = g j) : b_at G a (.inl (cA, n, .inl g)) H := by
  refine Eq.trans h ?_
  show some (arrV cA n (fun j => .int (f j))) = some (arrV cA n (fun j => .int (g j)))
  have e : ∀ j, j < n → (Value.int (f j)) = Value.int (g j) := fun j hj => by rw [he j hj]
  unfold arrV
  simp only [Option.some.injEq, Cell.mk.injEq, true_and, and_true]
  first
    | exact congrArg _ (List.map_congr_left (fun j hj => by simp at hj; exact e j hj))
    | (apply Array.ext_getElem?; intro i; simp; intro hi; exact he i hi)
    | (apply Array.ext; simp; intro i h1 h2; simp; exact he i (by simpa using h1))
theorem MW.cg {G : b_G} {B0 : Nat} {o : Nat → Nat} {Hr H : Heap} {v sp sv tx v' : Nat → Int32} {sa le th pl iw lt on ot nu di : Int32} (h : MW G B0 o Hr H v sp sv tx sa le th pl iw lt on ot nu di) (he : ∀ j, j < 283 → v j = v' j) : MW G B0 o Hr H v' sp sv tx sa le th pl iw lt on ot nu di :=
  ⟨⟨h.o0, b_cg h.o1 he, h.o2, h.o3, h.o4, h.o5, h.o6⟩, h.2⟩
set_option maxHeartbeats 2000000 in
set_option maxRecDepth 100000 in
theorem m_X3_mostEmpties (l : Launch) {G : b_G} {B0 : Nat} {o : Nat → Nat} {Hr H : Heap} {S : b_St} {sp sv tx : Nat → Int32} {sa le th pl iw lt on ot nu di : Int32} {s_ : Nat} {k : Nat} (hM : MW G B0 o Hr H (enc S) sp sv tx sa le th pl iw lt on ot nu di) (hW : b_WF S) (hs : s_ < 6) (hk : k < 3) : Met l yX3_mostEmpties (ws_ yX3_mostEmpties cX3_mostEmpties 6 (Option.some Jvm.ClassFile.FieldType.int)) ({ frames := 2, cells := 0, slots := 0, locals := 43 } : Room) (b_Pc G B0 H [.ref (o 0), .int (nI s_), .int (nI k)]) (b_Qi B0 (fun r H1 => r = oI (p_bst (kd S) k (fun b => S 5 s_ b) (nb S)) ∧ H1 = H)) 0 0 (b_A B0) := by
  refine b_of (by decide) (Nat.le_of_ble_eq_true rfl) ?_
  intro p e s m below meth c CX hr hlk hnm hS ls hl
  have CX : b_Cx p s m _ c cX3_mostEmpties 6 RX3 G B0 := CX
  have hx := CX.hx
  have hb := CX.hb
  have hl : lv_has ls 6 [(0, .ref (o 0)), (1, .int (nI s_)), (2, .int (nI k))] := hl
  generalize hQ : MQ below (b_Qi B0 (fun r H1 => r = oI (p_bst (kd S) k (fun b => S 5 s_ b) (nb S)) ∧ H1 = H)) ([.ref (o 0), .int (nI s_), .int (nI k)] : List Value).toArray s 0 0 (b_A B0) = Q
  have hn8 := hW.nb8
  have hn6 := hW.ns6
  refine lv_iconst (v := -1) hx hb dX3_mostEmpties_0 rfl ?_
  refine lv_istore_n (lv' := [(3, .int (-1)), (0, .ref (o 0)), (1, .int (nI s_)), (2, .int (nI k))]) hx hb dX3_mostEmpties_1 rfl hl (Nat.le_of_ble_eq_true rfl) rfl (fun ls hl => ?_)
  refine lv_iconst (v := nI 0) hx hb dX3_mostEmpties_2 rfl ?_
  refine lv_istore (lv' := [(4, .int (nI 0)), (3, .int (-1)), (0, .ref (o 0)), (1, .int (nI s_)), (2, .int (nI k))]) hx hb dX3_mostEmpties_3 hl (Nat.le_of_ble_eq_true rfl) rfl (fun ls hl => ?_)
  have lp5_1 : ∀ (n_ : Nat) (i : Nat), i ≤ nb S → nb S - i < n_ → ∀ (locs : List Loc), va_S (b_A B0) s.heap H locs → ∀ ls : Array Slot, lv_has ls 6 [(3, .int (oI (p_bst (kd S) k (fun b => S 5 s_ b) i))), (4, .int (nI i)), (0, .ref (o 0)), (1, .int (nI s_)), (2, .int (nI k))] → W p l e ({ frames := 2, cells := 0, slots := 0, locals := 43 } : Room) s m ([.ref (o 0), .int (nI s_), .int (nI k)] : List Value).toArray below meth c H locs 0 0 Q (F0 m 5 ls []) := by
    intro n_
    induction n_ with
    | zero => intro i hi hlt locs hS ls hl; exact absurd hlt (Nat.not_lt_zero _)
    | succ n_ ih5 =>
      intro i hi hlt locs hS ls hl
      refine lv_iload hx hb dX3_mostEmpties_5 (lv_at hl 1 rfl) ?_
      refine lv_aload_n hx hb dX3_mostEmpties_7 rfl (lv_at hl 2 rfl) ?_
      refine gf_X3_7_8 CX hM.o0 rfl dX3_mostEmpties_8 ?_
      refine lv_iconst (v := nI 0) hx hb dX3_mostEmpties_11 rfl ?_
      refine b_ild CX hM.o1 (x := nI (nb S)) (vp_in_nI (by omega) (by omega)) (b_at_nI (by omega) (((enc_0 _ (by decide))).trans hW.nbE)) dX3_mostEmpties_12 ?_
      refine b_icmp_geN (tgt := 78) CX (by omega) (by omega) dX3_mostEmpties_13 (by decide) (fun c_13 => ?_) (fun c_13 => ?_)
      · obtain rfl : i = nb S := by omega
        refine lv_iload_n hx hb dX3_mostEmpties_78 rfl (lv_at hl 0 rfl) ?_
        rw [← hQ]
        exact b_iret CX hr hlk hS (Nat.le_of_ble_eq_true rfl) (Nat.le_of_ble_eq_true rfl) dX3_mostEmpties_79 (⟨rfl, rfl⟩)
      · have hkd := hW.kd3 (b := i) (by omega)
        refine lv_aload_n hx hb dX3_mostEmpties_16 rfl (lv_at hl 2 rfl) ?_
        refine lv_iload hx hb dX3_mostEmpties_17 (lv_at hl 1 rfl) ?_
        refine lv_iconst (v := nI 0) hx hb dX3_mostEmpties_19 rfl ?_
        refine b_ci0 (cs_X3_46 (rest := []) CX hl.1 (m_X3_of l (b := i) (w := 0) hM (by omega) (by omega)) rfl rfl rfl hM.o0 hS rfl ⟨rfl, rfl, Nat.le_of_ble_eq_true rfl, Nat.le_of_ble_eq_true rfl⟩ (Nat.le_of_ble_eq_true rfl) dX3_mostEmpties_20 ⟨Nat.le_of_ble_eq_true rfl, Nat.le_of_ble_eq_true rfl⟩) hS (fun locs hS => ?_)
        refine b_top (x := S 1 i 0) (y := nI (kd S i)) ((hW.kdE (by omega))) ?_
        refine lv_iload_n hx hb dX3_mostEmpties_23 rfl (lv_at hl 4 rfl) ?_
        refine b_icmp_neN (tgt := 57) CX (by omega) (by omega) dX3_mostEmpties_24 (by decide) (fun c_24 => ?_) (fun c_24 => ?_)
        · refine lv_iconst (v := nI 0) hx hb dX3_mostEmpties_57 rfl ?_
          refine lv_istore (lv' := [(5, .int (nI 0)), (3, .int (oI (p_bst (kd S) k (fun b => S 5 s_ b) i))), (4, .int (nI i)), (0, .ref (o 0)), (1, .int (nI s_)), (2, .int (nI k))]) hx hb dX3_mostEmpties_58 hl (Nat.le_of_ble_eq_true rfl) rfl (fun ls hl => ?_)
          refine lv_iload hx hb dX3_mostEmpties_60 (lv_at hl 0 rfl) ?_
          refine lv_if_eq (tgt := 70) hx hb dX3_mostEmpties_62 (by decide) (fun c_62 => ?_) (fun c_62 => ?_)
          · refine lv_iload_n hx hb dX3_mostEmpties_70 rfl (lv_at hl 1 rfl) ?_
            refine b_top (x := oI (p_bst (kd S) k (fun b => S 5 s_ b) i)) (y := oI (p_bst (kd S) k (fun b => S 5 s_ b) (i + 1))) (by first | (rw [p_bst_n c_24]) | (rw [p_bst_0 c_24 h0]; rfl) | (rw [p_bst_2 c_24 ha (Int32.not_lt.mpr c_50)]; rfl) | (rw [p_bst_1 c_24 ha (Int32.not_le.mp c_50)]; rfl)) ?_
            refine lv_istore_n (lv' := [(3, .int (oI (p_bst (kd S) k (fun b => S 5 s_ b) (i + 1)))), (5, .int (nI 0)), (4, .int (nI i)), (0, .ref (o 0)), (1, .int (nI s_)), (2, .int (nI k))]) hx hb dX3_mostEmpties_71 rfl hl (Nat.le_of_ble_eq_true rfl) rfl (fun ls hl => ?_)
            refine lv_iinc (v := nI (i + 1)) (lv' := [(4, .int (nI (i + 1))), (3, .int (oI (p_bst (kd S) k (fun b => S 5 s_ b) (i + 1)))), (5, .int (nI 0)), (0, .ref (o 0)), (1, .int (nI s_)), (2, .int (nI k))]) hx hb dX3_mostEmpties_72 hl (k := 2) rfl (nI_1 _) (Nat.le_of_ble_eq_true rfl) rfl (fun ls hl => ?_)
            refine lv_goto (tgt := 5) hx hb dX3_mostEmpties_75 (by decide) ?_
            exact ih5 (i + 1) (by omega) (by omega) _ hS ls (lv_sub hl [1, 0, 3, 4, 5] rfl)
          · exact absurd c_62 (by decide)
        · refine lv_iload_n hx hb dX3_mostEmpties_27 rfl (lv_at hl 0 rfl) ?_
          refine lv_if_lt (tgt := 53) hx hb dX3_mostEmpties_28 (by decide) (fun c_28 => ?_) (fun c_28 => ?_)
          · have h0 := oI_none (fun a h => p_bst_lt h) (n := i) (by omega) c_28
            refine lv_iconst (v := nI 1) hx hb dX3_mostEmpties_53 rfl ?_
            refine lv_goto (tgt := 58) hx hb dX3_mostEmpties_54 (by decide) ?_
            refine lv_istore (lv' := [(5, .int (nI 1)), (3, .int (oI (p_bst (kd S) k (fun b => S 5 s_ b) i))), (4, .int (nI i)), (0, .ref (o 0)), (1, .int (nI s_)), (2, .int (nI k))]) hx hb dX3_mostEmpties_58 hl (Nat.le_of_ble_eq_true rfl) rfl (fun ls hl => ?_)
            refine lv_iload hx hb dX3_mostEmpties_60 (lv_at hl 0 rfl) ?_
            refine lv_if_eq (tgt := 70) hx hb dX3_mostEmpties_62 (by decide) (fun c_62 => ?_) (fun c_62 => ?_)
            · exact absurd c_62 (by decide)
            · refine lv_iload hx hb dX3_mostEmpties_65 (lv_at hl 2 rfl) ?_
              refine lv_goto (tgt := 71) hx hb dX3_mostEmpties_67 (by decide) ?_
              refine b_top (x := nI i) (y := oI (p_bst (kd S) k (fun b => S 5 s_ b) (i + 1))) (by first | (rw [p_bst_n c_24]) | (rw [p_bst_0 c_24 h0]; rfl) | (rw [p_bst_2 c_24 ha (Int32.not_lt.mpr c_50)]; rfl) | (rw [p_bst_1 c_24 ha (Int32.not_le.mp c_50)]; rfl)) ?_
              refine lv_istore_n (lv' := [(3, .int (oI (p_bst (kd S) k (fun b => S 5 s_ b) (i + 1)))), (5, .int (nI 1)), (4, .int (nI i)), (0, .ref (o 0)), (1, .int (nI s_)), (2, .int (nI k))]) hx hb dX3_mostEmpties_71 rfl hl (Nat.le_of_ble_eq_true rfl) rfl (fun ls hl => ?_)
              refine lv_iinc (v := nI (i + 1)) (lv' := [(4, .int (nI (i + 1))), (3, .int (oI (p_bst (kd S) k (fun b => S 5 s_ b) (i + 1)))), (5, .int (nI 1)), (0, .ref (o 0)), (1, .int (nI s_)), (2, .int (nI k))]) hx hb dX3_mostEmpties_72 hl (k := 2) rfl (nI_1 _) (Nat.le_of_ble_eq_true rfl) rfl (fun ls hl => ?_)
              refine lv_goto (tgt := 5) hx hb dX3_mostEmpties_75 (by decide) ?_
              exact ih5 (i + 1) (by omega) (by omega) _ hS ls (lv_sub hl [1, 0, 3, 4, 5] rfl)
          · obtain ⟨a, ha⟩ := oI_some c_28
            have ha8 := p_bst_lt ha
            rw [show oI (p_bst (kd S) k (fun b => S 5 s_ b) i) = nI a by rw [ha]; rfl] at hl
            refine lv_aload_n hx hb dX3_mostEmpties_31 rfl (lv_at hl 2 rfl) ?_
            refine lv_iload_n hx hb dX3_mostEmpties_32 rfl (lv_at hl 3 rfl) ?_
            refine lv_bipush (v := nI 13) hx hb dX3_mostEmpties_33 rfl ?_
            refine lv_iload hx hb dX3_mostEmpties_35 (lv_at hl 1 rfl) ?_
            refine b_iaddN CX dX3_mostEmpties_37 ?_
            refine b_ci0 (cs_X3_57 (rest := []) CX hl.1 (m_X3_ofShop_b l (s_ := s_) (b := i) hM (by omega) (by omega)) rfl rfl rfl hM.o0 hS rfl ⟨rfl, rfl, Nat.le_of_ble_eq_true rfl, Nat.le_of_ble_eq_true rfl⟩ (Nat.le_of_ble_eq_true rfl) dX3_mostEmpties_38 ⟨Nat.le_of_ble_eq_true rfl, Nat.le_of_ble_eq_true rfl⟩) hS (fun locs hS => ?_)
            refine lv_aload_n hx hb dX3_mostEmpties_41 rfl (lv_at hl 2 rfl) ?_
            refine lv_iload_n hx hb dX3_mostEmpties_42 rfl (lv_at hl 3 rfl) ?_
            refine lv_bipush (v := nI 13) hx hb dX3_mostEmpties_43 rfl ?_
            refine lv_iload_n hx hb dX3_mostEmpties_45 rfl (lv_at hl 0 rfl) ?_
            refine b_iaddN CX dX3_mostEmpties_46 ?_
            refine b_ci0 (cs_X3_57 (rest := [.int (S 5 s_ i)]) CX hl.1 (m_X3_ofShop_b l (s_ := s_) (b := a) hM (by omega) (by omega)) rfl rfl rfl hM.o0 hS rfl ⟨rfl, rfl, Nat.le_of_ble_eq_true rfl, Nat.le_of_ble_eq_true rfl⟩ (Nat.le_of_ble_eq_true rfl) dX3_mostEmpties_47 ⟨Nat.le_of_ble_eq_true rfl, Nat.le_of_ble_eq_true rfl⟩) hS (fun locs hS => ?_)
            refine lv_icmp_le (tgt := 57) hx hb dX3_mostEmpties_50 (by decide) (fun c_50 => ?_) (fun c_50 => ?_)
            · refine lv_iconst (v := nI 0) hx hb dX3_mostEmpties_57 rfl ?_
              refine lv_istore (lv' := [(5, .int (nI 0)), (3, .int (nI a)), (4, .int (nI i)), (0, .ref (o 0)), (1, .int (nI s_)), (2, .int (nI k))]) hx hb dX3_mostEmpties_58 hl (Nat.le_of_ble_eq_true rfl) rfl (fun ls hl => ?_)
              refine lv_iload hx hb dX3_mostEmpties_60 (lv_at hl 0 rfl) ?_
              refine lv_if_eq (tgt := 70) hx hb dX3_mostEmpties_62 (by decide) (fun c_62 => ?_) (fun c_62 => ?_)
              · refine lv_iload_n hx hb dX3_mostEmpties_70 rfl (lv_at hl 1 rfl) ?_
                refine b_top (x := nI a) (y := oI (p_bst (kd S) k (fun b => S 5 s_ b) (i + 1))) (by first | (rw [p_bst_n c_24]) | (rw [p_bst_0 c_24 h0]; rfl) | (rw [p_bst_2 c_24 ha (Int32.not_lt.mpr c_50)]; rfl) | (rw [p_bst_1 c_24 ha (Int32.not_le.mp c_50)]; rfl)) ?_
                refine lv_istore_n (lv' := [(3, .int (oI (p_bst (kd S) k (fun b => S 5 s_ b) (i + 1)))), (5, .int (nI 0)), (4, .int (nI i)), (0, .ref (o 0)), (1, .int (nI s_)), (2, .int (nI k))]) hx hb dX3_mostEmpties_71 rfl hl (Nat.le_of_ble_eq_true rfl) rfl (fun ls hl => ?_)
                refine lv_iinc (v := nI (i + 1)) (lv' := [(4, .int (nI (i + 1))), (3, .int (oI (p_bst (kd S) k (fun b => S 5 s_ b) (i + 1)))), (5, .int (nI 0)), (0, .ref (o 0)), (1, .int (nI s_)), (2, .int (nI k))]) hx hb dX3_mostEmpties_72 hl (k := 2) rfl (nI_1 _) (Nat.le_of_ble_eq_true rfl) rfl (fun ls hl => ?_)
                refine lv_goto (tgt := 5) hx hb dX3_mostEmpties_75 (by decide) ?_
                exact ih5 (i + 1) (by omega) (by omega) _ hS ls (lv_sub hl [1, 0, 3, 4, 5] rfl)
              · exact absurd c_62 (by decide)
            · refine lv_iconst (v := nI 1) hx hb dX3_mostEmpties_53 rfl ?_
              refine lv_goto (tgt := 58) hx hb dX3_mostEmpties_54 (by decide) ?_
              refine lv_istore (lv' := [(5, .int (nI 1)), (3, .int (nI a)), (4, .int (nI i)), (0, .ref (o 0)), (1, .int (nI s_)), (2, .int (nI k))]) hx hb dX3_mostEmpties_58 hl (Nat.le_of_ble_eq_true rfl) rfl (fun ls hl => ?_)
              refine lv_iload hx hb dX3_mostEmpties_60 (lv_at hl 0 rfl) ?_
              refine lv_if_eq (tgt := 70) hx hb dX3_mostEmpties_62 (by decide) (fun c_62 => ?_) (fun c_62 => ?_)
              · exact absurd c_62 (by decide)
              · refine lv_iload hx hb dX3_mostEmpties_65 (lv_at hl 2 rfl) ?_
                refine lv_goto (tgt := 71) hx hb dX3_mostEmpties_67 (by decide) ?_
                refine b_top (x := nI i) (y := oI (p_bst (kd S) k (fun b => S 5 s_ b) (i + 1))) (by first | (rw [p_bst_n c_24]) | (rw [p_bst_0 c_24 h0]; rfl) | (rw [p_bst_2 c_24 ha (Int32.not_lt.mpr c_50)]; rfl) | (rw [p_bst_1 c_24 ha (Int32.not_le.mp c_50)]; rfl)) ?_
                refine lv_istore_n (lv' := [(3, .int (oI (p_bst (kd S) k (fun b => S 5 s_ b) (i + 1)))), (5, .int (nI 1)), (4, .int (nI i)), (0, .ref (o 0)), (1, .int (nI s_)), (2, .int (nI k))]) hx hb dX3_mostEmpties_71 rfl hl (Nat.le_of_ble_eq_true rfl) rfl (fun ls hl => ?_)
                refine lv_iinc (v := nI (i + 1)) (lv' := [(4, .int (nI (i + 1))), (3, .int (oI (p_bst (kd S) k (fun b => S 5 s_ b) (i + 1)))), (5, .int (nI 1)), (0, .ref (o 0)), (1, .int (nI s_)), (2, .int (nI k))]) hx hb dX3_mostEmpties_72 hl (k := 2) rfl (nI_1 _) (Nat.le_of_ble_eq_true rfl) rfl (fun ls hl => ?_)
                refine lv_goto (tgt := 5) hx hb dX3_mostEmpties_75 (by decide) ?_
                exact ih5 (i + 1) (by omega) (by omega) _ hS ls (lv_sub hl [1, 0, 3, 4, 5] rfl)
  exact lp5_1 _ 0 (Nat.zero_le _) (Nat.lt_succ_self _) _ hS ls (lv_sub hl [1, 0, 2, 3, 4] rfl)
theorem cs_X3_82 {p : Program} {l : Launch} {e : Env} {R : Room} {s : State} {m : MethodId} {args : Array Value} {below : List Frame} {meth : Method} {c : Code} {H : Heap} {locs : List Loc} {cells slots : Nat} {cc : ByteArray} {pc nL a : Nat} {ls : Array Slot} {rest : List Value} {G : b_G} {B0 : Nat} (CX : b_Cx p s m args c cc nL RX3 G B0) (hls : ls.size = nL) {rm : Room} {mc ms : Nat} {As st0 : List Value} {Qc : Array Value → State → Outcome → State → Prop} (hM : Met l yX3_mostEmpties (ws_ yX3_mostEmpties cX3_mostEmpties 6 (Option.some Jvm.ClassFile.FieldType.int)) rm (b_Pc G B0 H (.ref a :: As)) Qc mc ms (b_A B0)) (hn : As.length = 2) {fs : List Value} {ci : Nat} {qc : vw_C} (hc : b_cl[ci]? = some qc) (hq : qc.1 = RX3) (hP : b_at G a (.inr (ci, fs)) H) (hS : va_S (b_A B0) s.heap H locs) (hst : st0 = As.reverse ++ .ref a :: rest) (hr : rm.cells = mc ∧ rm.slots = ms ∧ rm.frames + 1 ≤ R.frames ∧ 8 + (6 + 11) + rm.locals ≤ R.locals) (hw : (rest.map fun v => v.category).sum ≤ 8) (hdg : decode cc pc = .ok (.invokevirtual 82, 3)) (hf : cells + mc ≤ R.cells ∧ slots + ms ≤ R.slots) : va_Run p l e R s m args below meth c H locs cells slots mc ms (F0 m pc ls st0) rest (Qc (Value.ref a :: As).toArray) (b_A B0) := va_runV CX.fix hM (cwV 2 CX.ts (lw_V q2048 q2050 qs60 q88 q2051) rfl hr.1 hr.2.1 (by decide +kernel) ⟨hr.2.2.1, hr.2.2.2⟩) ⟨b_blind G B0 H _, by have h9 := b_recv CX.K hc hP; rw [hq] at h9; exact h9, b_pre _ CX.K hS⟩ rfl hn hls hst (lv_room hw) hdg hf
set_option maxHeartbeats 2000000 in
set_option maxRecDepth 100000 in
theorem m_X3_collects (l : Launch) {G : b_G} {B0 : Nat} {o : Nat → Nat} {Hr H : Heap} {S : b_St} {sp sv tx : Nat → Int32} {sa le th pl iw lt on ot nu di : Int32} {s_ : Nat} {k : Nat} {c_ : Nat} (hM : MW G B0 o Hr H (enc S) sp sv tx sa le th pl iw lt on ot nu di) (hW : b_WF S) (hs : s_ < 6) (hk : k < 3) (hc : c_ ≤ 50) (hpk : p_picks S s_ k c_) : Met l yX3_collects (ws_ yX3_collects cX3_collects 6 (Option.some Jvm.ClassFile.FieldType.int)) ({ frames := 3, cells := 0, slots := 0, locals := 68 } : Room) (b_Pc G B0 H [.ref (o 0), .int (nI s_), .int (nI k), .int (nI c_)]) (b_Qi B0 (fun r H1 => r = p_deps (s_coll S s_ (p_tk S s_ k (12 * c_))) k (nI c_) ∧ MW G B0 o H H1 (enc ((s_collect S s_ k c_))) sp sv tx sa le th pl iw lt on ot nu di)) 0 0 (b_A B0) := by
  refine b_of (by decide) (Nat.le_of_ble_eq_true rfl) ?_
  intro p e s m below meth c CX hr hlk hnm hS ls hl
  have CX : b_Cx p s m _ c cX3_collects 6 RX3 G B0 := CX
  have hx := CX.hx
  have hb := CX.hb
  have hl : lv_has ls 6 [(0, .ref (o 0)), (1, .int (nI s_)), (2, .int (nI k)), (3, .int (nI c_))] := hl
  generalize hQ : MQ below (b_Qi B0 (fun r H1 => r = p_deps (s_coll S s_ (p_tk S s_ k (12 * c_))) k (nI c_) ∧ MW G B0 o H H1 (enc ((s_collect S s_ k c_))) sp sv tx sa le th pl iw lt on ot nu di)) ([.ref (o 0), .int (nI s_), .int (nI k), .int (nI c_)] : List Value).toArray s 0 0 (b_A B0) = Q
  have hM := hM.re
  refine lv_iconst (v := nI 0) hx hb dX3_collects_0 rfl ?_
  refine lv_istore (lv' := [(4, .int (nI 0)), (0, .ref (o 0)), (1, .int (nI s_)), (2, .int (nI k)), (3, .int (nI c_))]) hx hb dX3_collects_1 hl (Nat.le_of_ble_eq_true rfl) rfl (fun ls hl => ?_)
  have hM : MW G B0 o H H (enc ((s_coll S s_ (p_tk S s_ k 0)))) sp sv tx sa le th pl iw lt on ot nu di := by rw [show p_tk S s_ k 0 = (fun _ => 0) from rfl, s_coll_0]; exact hM
  have lp3_1 : ∀ (n_ : Nat) (i : Nat), i ≤ 12 * c_ → 12 * c_ - i < n_ → ∀ (H2 : Heap), MW G B0 o H H2 (enc ((s_coll S s_ (p_tk S s_ k i)))) sp sv tx sa le th pl iw lt on ot nu di → ∀ (locs : List Loc), va_S (b_A B0) s.heap H2 locs → ∀ ls : Array Slot, lv_has ls 6 [(4, .int (nI i)), (0, .ref (o 0)), (1, .int (nI s_)), (2, .int (nI k)), (3, .int (nI c_))] → W p l e ({ frames := 3, cells := 0, slots := 0, locals := 68 } : Room) s m ([.ref (o 0), .int (nI s_), .int (nI k), .int (nI c_)] : List Value).toArray below meth c H2 locs 0 0 Q (F0 m 3 ls []) := by
    intro n_
    induction n_ with
    | zero => intro i hi hlt H2 hM locs hS ls hl; exact absurd hlt (Nat.not_lt_zero _)
    | succ n_ ih3 =>
      intro i hi hlt H2 hM locs hS ls hl
      refine lv_iload hx hb dX3_collects_3 (lv_at hl 0 rfl) ?_
      refine lv_bipush (v := nI 12) hx hb dX3_collects_5 rfl ?_
      refine lv_iload_n hx hb dX3_collects_7 rfl (lv_at hl 4 rfl) ?_
      refine b_imulN CX dX3_collects_8 ?_
      refine b_icmp_geN (tgt := 59) CX (by omega) (by omega) dX3_collects_9 (by decide) (fun c_9 => ?_) (fun c_9 => ?_)
      · obtain rfl : i = 12 * c_ := by omega
        refine lv_aload_n hx hb dX3_collects_59 rfl (lv_at hl 1 rfl) ?_
        refine lv_iload_n hx hb dX3_collects_60 rfl (lv_at hl 3 rfl) ?_
        refine lv_iload_n hx hb dX3_collects_61 rfl (lv_at hl 4 rfl) ?_
        refine b_ci0 (cs_X3_67 (rest := []) CX hl.1 (m_X3_depositsFor l (k := k) (c_ := nI c_) hM (by omega)) rfl rfl rfl hM.o0 hS rfl ⟨rfl, rfl, Nat.le_of_ble_eq_true rfl, Nat.le_of_ble_eq_true rfl⟩ (Nat.le_of_ble_eq_true rfl) dX3_collects_62 ⟨Nat.le_of_ble_eq_true rfl, Nat.le_of_ble_eq_true rfl⟩) hS (fun locs hS => ?_)
        refine lv_istore (lv' := [(4, .int ((nI c_) * (nI 12 * ((s_coll S s_ (p_tk S s_ k (12 * c_)))) 0 0 (7 + k) + ((s_coll S s_ (p_tk S s_ k (12 * c_)))) 0 0 10))), (0, .ref (o 0)), (1, .int (nI s_)), (2, .int (nI k)), (3, .int (nI c_))]) hx hb dX3_collects_65 hl (Nat.le_of_ble_eq_true rfl) rfl (fun ls hl => ?_)
        refine lv_aload_n hx hb dX3_collects_67 rfl (lv_at hl 1 rfl) ?_
        refine gf_X3_7_8 CX hM.o0 rfl dX3_collects_68 ?_
        refine lv_iload_n hx hb dX3_collects_71 rfl (lv_at hl 2 rfl) ?_
        refine lv_iconst (v := nI 1) hx hb dX3_collects_72 rfl ?_
        refine b_ci0 (cs_X3_43 (rest := [.ref (o 1)]) CX hl.1 (m_X3_shopAt_c l (b := s_) (w := 1)  ) rfl hS rfl ⟨rfl, rfl, Nat.le_of_ble_eq_true rfl, Nat.le_of_ble_eq_true rfl⟩ (Nat.le_of_ble_eq_true rfl) dX3_collects_73 ⟨Nat.le_of_ble_eq_true rfl, Nat.le_of_ble_eq_true rfl⟩) hS (fun locs hS => ?_)
        refine lv_dup2_11 hx hb dX3_collects_76 rfl rfl ?_
        refine b_ild CX hM.o1 (x := (s_coll S s_ (p_tk S s_ k (12 * c_))) 2 s_ 1) (vp_in_nI (by omega) (by omega)) (b_at_nI (by omega) ((enc_2 _ (by omega) (by omega)))) dX3_collects_77 ?_
        refine lv_iload_n hx hb dX3_collects_78 rfl (lv_at hl 4 rfl) ?_
        refine lv_isub hx hb dX3_collects_79 ?_
        refine b_ist CX hM.o1 hS (hM.B (by decide)) (vp_in_nI (by omega) (by omega)) dX3_collects_80 (fun H3 locs hat hu hS => ?_)
        have hM : MW G B0 o H H3 (enc ((u3 (s_coll S s_ (p_tk S s_ k (12 * c_))) 2 s_ 1 (((s_coll S s_ (p_tk S s_ k (12 * c_))) 2 s_ 1) - (nI c_))))) sp sv tx sa le th pl iw lt on ot nu di := hM.set1 (b_up_nI (by omega) (enc_u2 _ (by omega) (by omega) _)) hat hu
        refine lv_aload_n hx hb dX3_collects_81 rfl (lv_at hl 1 rfl) ?_
        refine gf_X3_7_8 CX hM.o0 rfl dX3_collects_82 ?_
        refine lv_iconst (v := nI 2) hx hb dX3_collects_85 rfl ?_
        refine lv_dup2_11 hx hb dX3_collects_86 rfl rfl ?_
        refine b_ild CX hM.o1 (x := (s_coll S s_ (p_tk S s_ k (12 * c_))) 0 0 2) (vp_in_nI (by omega) (by omega)) (b_at_nI (by omega) ((enc_0 _ (by decide)).trans (by simp [u3]))) dX3_collects_87 ?_
        refine lv_iload_n hx hb dX3_collects_88 rfl (lv_at hl 4 rfl) ?_
        refine lv_iadd hx hb dX3_collects_89 ?_
        refine b_ist CX hM.o1 hS (hM.B (by decide)) (vp_in_nI (by omega) (by omega)) dX3_collects_90 (fun H4 locs hat hu hS => ?_)
        have hM : MW G B0 o H H4 (enc ((u3 (u3 (s_coll S s_ (p_tk S s_ k (12 * c_))) 2 s_ 1 (((s_coll S s_ (p_tk S s_ k (12 * c_))) 2 s_ 1) - (nI c_))) 0 0 2 (((s_coll S s_ (p_tk S s_ k (12 * c_))) 0 0 2) + (nI c_))))) sp sv tx sa le th pl iw lt on ot nu di := hM.set1 (b_up_nI (by omega) (enc_u0 _ (by decide) _)) hat hu
        refine lv_aload_n hx hb dX3_collects_91 rfl (lv_at hl 1 rfl) ?_
        refine gf_X3_7_8 CX hM.o0 rfl dX3_collects_92 ?_
        refine lv_iload_n hx hb dX3_collects_95 rfl (lv_at hl 2 rfl) ?_
        refine lv_iconst (v := nI 0) hx hb dX3_collects_96 rfl ?_
        refine b_ci0 (cs_X3_43 (rest := [.ref (o 1)]) CX hl.1 (m_X3_shopAt_c l (b := s_) (w := 0)  ) rfl hS rfl ⟨rfl, rfl, Nat.le_of_ble_eq_true rfl, Nat.le_of_ble_eq_true rfl⟩ (Nat.le_of_ble_eq_true rfl) dX3_collects_97 ⟨Nat.le_of_ble_eq_true rfl, Nat.le_of_ble_eq_true rfl⟩) hS (fun locs hS => ?_)
        refine lv_dup2_11 hx hb dX3_collects_100 rfl rfl ?_
        refine b_ild CX hM.o1 (x := (s_coll S s_ (p_tk S s_ k (12 * c_))) 2 s_ 0) (vp_in_nI (by omega) (by omega)) (b_at_nI (by omega) ((enc_2 _ (by omega) (by omega)).trans (by simp [u3]))) dX3_collects_101 ?_
        refine lv_iload hx hb dX3_collects_102 (lv_at hl 0 rfl) ?_
        refine lv_iadd hx hb dX3_collects_104 ?_
        refine b_ist CX hM.o1 hS (hM.B (by decide)) (vp_in_nI (by omega) (by omega)) dX3_collects_105 (fun H5 locs hat hu hS => ?_)
        have hM : MW G B0 o H H5 (enc ((u3 (u3 (u3 (s_coll S s_ (p_tk S s_ k (12 * c_))) 2 s_ 1 (((s_coll S s_ (p_tk S s_ k (12 * c_))) 2 s_ 1) - (nI c_))) 0 0 2 (((s_coll S s_ (p_tk S s_ k (12 * c_))) 0 0 2) + (nI c_))) 2 s_ 0 (((s_coll S s_ (p_tk S s_ k (12 * c_))) 2 s_ 0) + ((nI c_) * (nI 12 * ((s_coll S s_ (p_tk S s_ k (12 * c_)))) 0 0 (7 + k) + ((s_coll S s_ (p_tk S s_ k (12 * c_)))) 0 0 10)))))) sp sv tx sa le th pl iw lt on ot nu di := hM.set1 (b_up_nI (by omega) (enc_u2 _ (by omega) (by omega) _)) hat hu
        refine lv_aload_n hx hb dX3_collects_106 rfl (lv_at hl 1 rfl) ?_
        refine gf_X3_7_8 CX hM.o0 rfl dX3_collects_107 ?_
        refine lv_iload_n hx hb dX3_collects_110 rfl (lv_at hl 2 rfl) ?_
        refine lv_iconst (v := nI 2) hx hb dX3_collects_111 rfl ?_
        refine b_ci0 (cs_X3_43 (rest := [.ref (o 1)]) CX hl.1 (m_X3_shopAt_c l (b := s_) (w := 2)  ) rfl hS rfl ⟨rfl, rfl, Nat.le_of_ble_eq_true rfl, Nat.le_of_ble_eq_true rfl⟩ (Nat.le_of_ble_eq_true rfl) dX3_collects_112 ⟨Nat.le_of_ble_eq_true rfl, Nat.le_of_ble_eq_true rfl⟩) hS (fun locs hS => ?_)
        refine lv_dup2_11 hx hb dX3_collects_115 rfl rfl ?_
        refine b_ild CX hM.o1 (x := (s_coll S s_ (p_tk S s_ k (12 * c_))) 2 s_ 2) (vp_in_nI (by omega) (by omega)) (b_at_nI (by omega) ((enc_2 _ (by omega) (by omega)).trans (by simp [u3]))) dX3_collects_116 ?_
        refine lv_iload hx hb dX3_collects_117 (lv_at hl 0 rfl) ?_
        refine lv_isub hx hb dX3_collects_119 ?_
        refine b_ist CX hM.o1 hS (hM.B (by decide)) (vp_in_nI (by omega) (by omega)) dX3_collects_120 (fun H6 locs hat hu hS => ?_)
        have hM : MW G B0 o H H6 (enc ((u3 (u3 (u3 (u3 (s_coll S s_ (p_tk S s_ k (12 * c_))) 2 s_ 1 (((s_coll S s_ (p_tk S s_ k (12 * c_))) 2 s_ 1) - (nI c_))) 0 0 2 (((s_coll S s_ (p_tk S s_ k (12 * c_))) 0 0 2) + (nI c_))) 2 s_ 0 (((s_coll S s_ (p_tk S s_ k (12 * c_))) 2 s_ 0) + ((nI c_) * (nI 12 * ((s_coll S s_ (p_tk S s_ k (12 * c_)))) 0 0 (7 + k) + ((s_coll S s_ (p_tk S s_ k (12 * c_)))) 0 0 10)))) 2 s_ 2 (((s_coll S s_ (p_tk S s_ k (12 * c_))) 2 s_ 2) - ((nI c_) * (nI 12 * ((s_coll S s_ (p_tk S s_ k (12 * c_)))) 0 0 (7 + k) + ((s_coll S s_ (p_tk S s_ k (12 * c_)))) 0 0 10)))))) sp sv tx sa le th pl iw lt on ot nu di := hM.set1 (b_up_nI (by omega) (enc_u2 _ (by omega) (by omega) _)) hat hu
        refine lv_aload_n hx hb dX3_collects_121 rfl (lv_at hl 1 rfl) ?_
        refine gf_X3_7_8 CX hM.o0 rfl dX3_collects_122 ?_
        refine lv_iconst (v := nI 3) hx hb dX3_collects_125 rfl ?_
        refine lv_dup2_11 hx hb dX3_collects_126 rfl rfl ?_
        refine b_ild CX hM.o1 (x := (s_coll S s_ (p_tk S s_ k (12 * c_))) 0 0 3) (vp_in_nI (by omega) (by omega)) (b_at_nI (by omega) ((enc_0 _ (by decide)).trans (by simp [u3]))) dX3_collects_127 ?_
        refine lv_iload hx hb dX3_collects_128 (lv_at hl 0 rfl) ?_
        refine lv_isub hx hb dX3_collects_130 ?_
        refine b_ist CX hM.o1 hS (hM.B (by decide)) (vp_in_nI (by omega) (by omega)) dX3_collects_131 (fun H7 locs hat hu hS => ?_)
        have hM : MW G B0 o H H7 (enc ((u3 (u3 (u3 (u3 (u3 (s_coll S s_ (p_tk S s_ k (12 * c_))) 2 s_ 1 (((s_coll S s_ (p_tk S s_ k (12 * c_))) 2 s_ 1) - (nI c_))) 0 0 2 (((s_coll S s_ (p_tk S s_ k (12 * c_))) 0 0 2) + (nI c_))) 2 s_ 0 (((s_coll S s_ (p_tk S s_ k (12 * c_))) 2 s_ 0) + ((nI c_) * (nI 12 * ((s_coll S s_ (p_tk S s_ k (12 * c_)))) 0 0 (7 + k) + ((s_coll S s_ (p_tk S s_ k (12 * c_)))) 0 0 10)))) 2 s_ 2 (((s_coll S s_ (p_tk S s_ k (12 * c_))) 2 s_ 2) - ((nI c_) * (nI 12 * ((s_coll S s_ (p_tk S s_ k (12 * c_)))) 0 0 (7 + k) + ((s_coll S s_ (p_tk S s_ k (12 * c_)))) 0 0 10)))) 0 0 3 (((s_coll S s_ (p_tk S s_ k (12 * c_))) 0 0 3) - ((nI c_) * (nI 12 * ((s_coll S s_ (p_tk S s_ k (12 * c_)))) 0 0 (7 + k) + ((s_coll S s_ (p_tk S s_ k (12 * c_)))) 0 0 10)))))) sp sv tx sa le th pl iw lt on ot nu di := hM.set1 (b_up_nI (by omega) (enc_u0 _ (by decide) _)) hat hu
        refine lv_iload hx hb dX3_collects_132 (lv_at hl 0 rfl) ?_
        rw [← hQ]
        exact b_iret CX hr hlk hS (Nat.le_of_ble_eq_true rfl) (Nat.le_of_ble_eq_true rfl) dX3_collects_134 (⟨rfl, hM⟩)
      · refine lv_aload_n hx hb dX3_collects_12 rfl (lv_at hl 1 rfl) ?_
        refine lv_iload_n hx hb dX3_collects_13 rfl (lv_at hl 2 rfl) ?_
        refine lv_iload_n hx hb dX3_collects_14 rfl (lv_at hl 3 rfl) ?_
        refine b_ci0 (cs_X3_82 (rest := []) CX hl.1 (m_X3_mostEmpties l (s_ := s_) (k := k) hM (hW.coll _ _) (by omega) (by omega)) rfl rfl rfl hM.o0 hS rfl ⟨rfl, rfl, Nat.le_of_ble_eq_true rfl, Nat.le_of_ble_eq_true rfl⟩ (Nat.le_of_ble_eq_true rfl) dX3_collects_15 ⟨Nat.le_of_ble_eq_true rfl, Nat.le_of_ble_eq_true rfl⟩) hS (fun locs hS => ?_)
        obtain ⟨bb, hbb⟩ := hpk i (by omega)
        have hb8 := Nat.lt_of_lt_of_le (p_bst_lt hbb) hW.nb8
        refine b_top (x := oI (p_bst (kd ((s_coll S s_ (p_tk S s_ k i)))) k (fun b => ((s_coll S s_ (p_tk S s_ k i))) 5 s_ b) (nb ((s_coll S s_ (p_tk S s_ k i)))))) (y := nI bb) (by rw [s_coll_bst, hbb]; rfl) ?_
        refine lv_istore (lv' := [(5, .int (nI bb)), (4, .int (nI i)), (0, .ref (o 0)), (1, .int (nI s_)), (2, .int (nI k)), (3, .int (nI c_))]) hx hb dX3_collects_18 hl (Nat.le_of_ble_eq_true rfl) rfl (fun ls hl => ?_)
        refine lv_aload_n hx hb dX3_collects_20 rfl (lv_at hl 2 rfl) ?_
        refine gf_X3_7_8 CX hM.o0 rfl dX3_collects_21 ?_
        refine lv_iload_n hx hb dX3_collects_24 rfl (lv_at hl 3 rfl) ?_
        refine lv_bipush (v := nI 13) hx hb dX3_collects_25 rfl ?_
        refine lv_iload hx hb dX3_collects_27 (lv_at hl 0 rfl) ?_
        refine b_iaddN CX dX3_collects_29 ?_
        refine b_ci0 (cs_X3_43 (rest := [.ref (o 1)]) CX hl.1 (m_X3_shopAt_b l (b := s_) (w := bb)  ) rfl hS rfl ⟨rfl, rfl, Nat.le_of_ble_eq_true rfl, Nat.le_of_ble_eq_true rfl⟩ (Nat.le_of_ble_eq_true rfl) dX3_collects_30 ⟨Nat.le_of_ble_eq_true rfl, Nat.le_of_ble_eq_true rfl⟩) hS (fun locs hS => ?_)
        refine lv_dup2_11 hx hb dX3_collects_33 rfl rfl ?_
        refine b_ild CX hM.o1 (x := (s_coll S s_ (p_tk S s_ k i)) 5 s_ bb) (vp_in_nI (by omega) (by omega)) (b_at_nI (by omega) ((enc_5 _ (by omega) (by omega)))) dX3_collects_34 ?_
        refine lv_iconst (v := nI 1) hx hb dX3_collects_35 rfl ?_
        refine lv_isub hx hb dX3_collects_36 ?_
        refine b_ist CX hM.o1 hS (hM.B (by decide)) (vp_in_nI (by omega) (by omega)) dX3_collects_37 (fun H8 locs hat hu hS => ?_)
        have hM : MW G B0 o H H8 (enc ((u3 (s_coll S s_ (p_tk S s_ k i)) 5 s_ bb (((s_coll S s_ (p_tk S s_ k i)) 5 s_ bb) - (nI 1))))) sp sv tx sa le th pl iw lt on ot nu di := hM.set1 (b_up_nI (by omega) (enc_u5 _ (by omega) (by omega) _)) hat hu
        refine lv_aload_n hx hb dX3_collects_38 rfl (lv_at hl 2 rfl) ?_
        refine gf_X3_7_8 CX hM.o0 rfl dX3_collects_39 ?_
        refine lv_iload hx hb dX3_collects_42 (lv_at hl 0 rfl) ?_
        refine lv_iconst (v := nI 4) hx hb dX3_collects_44 rfl ?_
        refine b_ci0 (cs_X3_39 (rest := [.ref (o 1)]) CX hl.1 (m_X3_brandAt l (b := bb) (w := 4)  ) rfl hS rfl ⟨rfl, rfl, Nat.le_of_ble_eq_true rfl, Nat.le_of_ble_eq_true rfl⟩ (Nat.le_of_ble_eq_true rfl) dX3_collects_45 ⟨Nat.le_of_ble_eq_true rfl, Nat.le_of_ble_eq_true rfl⟩) hS (fun locs hS => ?_)
        refine lv_dup2_11 hx hb dX3_collects_48 rfl rfl ?_
        refine b_ild CX hM.o1 (x := (s_coll S s_ (p_tk S s_ k i)) 1 bb 4) (vp_in_nI (by omega) (by omega)) (b_at_nI (by omega) ((enc_1 _ (by omega) (by omega)).trans (by simp [u3]))) dX3_collects_49 ?_
        refine lv_iconst (v := nI 1) hx hb dX3_collects_50 rfl ?_
        refine lv_iadd hx hb dX3_collects_51 ?_
        refine b_ist CX hM.o1 hS (hM.B (by decide)) (vp_in_nI (by omega) (by omega)) dX3_collects_52 (fun H9 locs hat hu hS => ?_)
        have hM : MW G B0 o H H9 (enc ((u3 (u3 (s_coll S s_ (p_tk S s_ k i)) 5 s_ bb (((s_coll S s_ (p_tk S s_ k i)) 5 s_ bb) - (nI 1))) 1 bb 4 (((s_coll S s_ (p_tk S s_ k i)) 1 bb 4) + (nI 1))))) sp sv tx sa le th pl iw lt on ot nu di := hM.set1 (b_up_nI (by omega) (enc_u1 _ (by omega) (by omega) _)) hat hu
        refine lv_iinc (v := nI (i + 1)) (lv' := [(4, .int (nI (i + 1))), (5, .int (nI bb)), (0, .ref (o 0)), (1, .int (nI s_)), (2, .int (nI k)), (3, .int (nI c_))]) hx hb dX3_collects_53 hl (k := 1) rfl (nI_1 _) (Nat.le_of_ble_eq_true rfl) rfl (fun ls hl => ?_)
        refine lv_goto (tgt := 3) hx hb dX3_collects_56 (by decide) ?_
        have hM : MW G B0 o H H9 (enc ((s_coll S s_ (p_tk S s_ k (i + 1))))) sp sv tx sa le th pl iw lt on ot nu di := by rw [p_tk_s hbb, ← s_coll_s]; exact hM
        exact ih3 (i + 1) (by omega) (by omega) H9 hM _ hS ls (lv_sub hl [0, 2, 3, 4, 5] rfl)
  exact lp3_1 _ 0 (Nat.zero_le _) (Nat.lt_succ_self _) H hM _ hS ls (lv_sub hl [0, 1, 2, 3, 4] rfl)
theorem gf_X3_32_8 {p : Program} {l : Launch} {e : Env} {R : Room} {s : State} {m : MethodId} {args : Array Value} {below : List Frame} {meth : Method} {c : Code} {H : Heap} {locs : List Loc} {cells slots : Nat} {Q : State → Prop} {cc : ByteArray} {pc nL a : Nat} {ls : Array Slot} {rest : List Value} {G : b_G} {B0 : Nat} (CX : b_Cx p s m args c cc nL RX3 G B0) {fs : List Value} (hP : b_at G a (.inr (8, fs)) H) {v : Value} (hv : fs[3]? = some v) (hdg : decode cc pc = .ok (.getfield 32, 3)) (kk : W p l e R s m args below meth c H locs cells slots Q (F0 m (pc + 3) ls (v :: rest))) : W p l e R s m args below meth c H locs cells slots Q (F0 m pc ls (.ref a :: rest)) := b_get CX in_X3 rfl 3 (by decide) q1849 (Or.inl rfl) hP hv hdg kk
theorem pf_X3_32_8 {p : Program} {l : Launch} {e : Env} {R : Room} {s : State} {m : MethodId} {args : Array Value} {below : List Frame} {meth : Method} {c : Code} {H : Heap} {locs : List Loc} {cells slots : Nat} {Q : State → Prop} {cc : ByteArray} {pc nL a : Nat} {ls : Array Slot} {rest : List Value} {G : b_G} {B0 : Nat} (CX : b_Cx p s m args c cc nL RX3 G B0) {fs : List Value} (hP : b_at G a (.inr (8, fs)) H) (hS : va_S (b_A B0) s.heap H locs) (ha : B0 ≤ a) {v : Value} (hn : narrow (tyX3 3) v = v) (hfit : fits (tyX3 3) v = true) (hl : 3 < fs.length) (hdg : decode cc pc = .ok (.putfield 32, 3)) (kk : ∀ (H1 : Heap) (locs1 : List Loc), b_at G a (.inr (8, fs.set 3 v)) H1 → b_Up a H H1 → va_S (b_A B0) s.heap H1 locs1 → W p l e R s m args below meth c H1 locs1 cells slots Q (F0 m (pc + 3) ls rest)) : W p l e R s m args below meth c H locs cells slots Q (F0 m pc ls (v :: .ref a :: rest)) := b_put CX in_X3 tyX3 tyX3_ok rfl 3 (by decide) (by decide +kernel) q1849 (Or.inl rfl) rfl hP hS ha hn hfit hl hdg kk
theorem gf_X3_16_8 {p : Program} {l : Launch} {e : Env} {R : Room} {s : State} {m : MethodId} {args : Array Value} {below : List Frame} {meth : Method} {c : Code} {H : Heap} {locs : List Loc} {cells slots : Nat} {Q : State → Prop} {cc : ByteArray} {pc nL a : Nat} {ls : Array Slot} {rest : List Value} {G : b_G} {B0 : Nat} (CX : b_Cx p s m args c cc nL RX3 G B0) {fs : List Value} (hP : b_at G a (.inr (8, fs)) H) {v : Value} (hv : fs[2]? = some v) (hdg : decode cc pc = .ok (.getfield 16, 3)) (kk : W p l e R s m args below meth c H locs cells slots Q (F0 m (pc + 3) ls (v :: rest))) : W p l e R s m args below meth c H locs cells slots Q (F0 m pc ls (.ref a :: rest)) := b_get CX in_X3 rfl 2 (by decide) q1848 (Or.inl rfl) hP hv hdg kk
set_option maxHeartbeats 2000000 in
set_option maxRecDepth 100000 in
theorem m_X3_save (l : Launch) {G : b_G} {B0 : Nat} {o : Nat → Nat} {Hr H : Heap} {S : b_St} {sp sv tx : Nat → Int32} {n : Nat} {le th pl iw lt on ot nu di : Int32} (hM : MW G B0 o Hr H (enc S) sp sv tx (nI n) le th pl iw lt on ot nu di) (hn : n ≤ 6) : Met l yX3_save (ws_ yX3_save cX3_save 2 (Option.none)) ({ frames := 0, cells := 0, slots := 0, locals := 0 } : Room) (b_Pc G B0 H [.ref (o 0)]) (b_Qv B0 (fun H1 => MW G B0 o H H1 (enc S) sp (p_sv sv (enc S) n) tx (nI (p_sn n)) le th pl iw lt on ot nu di)) 0 0 (b_A B0) := by
  refine b_of (by decide) (Nat.le_of_ble_eq_true rfl) ?_
  intro p e s m below meth c CX hr hlk hnm hS ls hl
  have CX : b_Cx p s m _ c cX3_save 2 RX3 G B0 := CX
  have hx := CX.hx
  have hb := CX.hb
  have hl : lv_has ls 2 [(0, .ref (o 0))] := hl
  generalize hQ : MQ below (b_Qv B0 (fun H1 => MW G B0 o H H1 (enc S) sp (p_sv sv (enc S) n) tx (nI (p_sn n)) le th pl iw lt on ot nu di)) ([.ref (o 0)] : List Value).toArray s 0 0 (b_A B0) = Q
  have hM := hM.re
  refine lv_aload_n hx hb dX3_save_0 rfl (lv_at hl 0 rfl) ?_
  refine gf_X3_32_8 CX hM.o0 rfl dX3_save_1 ?_
  refine lv_bipush (v := nI 6) hx hb dX3_save_4 rfl ?_
  refine b_icmp_neN (tgt := 50) CX (by omega) (by omega) dX3_save_6 (by decide) (fun c_6 => ?_) (fun c_6 => ?_)
  · refine lv_iconst (v := nI 0) hx hb dX3_save_50 rfl ?_
    refine lv_istore_n (lv' := [(1, .int (nI 0)), (0, .ref (o 0))]) hx hb dX3_save_51 rfl hl (Nat.le_of_ble_eq_true rfl) rfl (fun ls hl => ?_)
    have hM : MW G B0 o H H (enc S) sp (p_cp sv (enc S) n 0) tx (nI n) le th pl iw lt on ot nu di := by rw [p_cp_0]; exact hM
    have lp52_1 : ∀ (n_ : Nat) (i : Nat), i ≤ 283 → 283 - i < n_ → ∀ (H2 : Heap), MW G B0 o H H2 (enc S) sp (p_cp sv (enc S) n i) tx (nI n) le th pl iw lt on ot nu di → ∀ (locs : List Loc), va_S (b_A B0) s.heap H2 locs → ∀ ls : Array Slot, lv_has ls 2 [(1, .int (nI i)), (0, .ref (o 0))] → W p l e ({ frames := 0, cells := 0, slots := 0, locals := 0 } : Room) s m ([.ref (o 0)] : List Value).toArray below meth c H2 locs 0 0 Q (F0 m 52 ls []) := by
      intro n_
      induction n_ with
      | zero => intro i hi hlt H2 hM locs hS ls hl; exact absurd hlt (Nat.not_lt_zero _)
      | succ n_ ih52 =>
        intro i hi hlt H2 hM locs hS ls hl
        refine lv_iload_n hx hb dX3_save_52 rfl (lv_at hl 0 rfl) ?_
        refine lv_sipush (v := nI 283) hx hb dX3_save_53 rfl ?_
        refine b_icmp_geN (tgt := 86) CX (by omega) (by omega) dX3_save_56 (by decide) (fun c_56 => ?_) (fun c_56 => ?_)
        · obtain rfl : i = 283 := by omega
          refine lv_aload_n hx hb dX3_save_86 rfl (lv_at hl 1 rfl) ?_
          refine lv_dup hx hb dX3_save_87 rfl ?_
          refine gf_X3_32_8 CX hM.o0 rfl dX3_save_88 ?_
          refine lv_iconst (v := nI 1) hx hb dX3_save_91 rfl ?_
          refine b_iaddN CX dX3_save_92 ?_
          refine pf_X3_32_8 CX hM.o0 hS (hM.B (by decide)) rfl rfl (Nat.le_of_ble_eq_true rfl) dX3_save_93 (fun H3 locs hat hu hS => ?_)
          have hM : MW G B0 o H H3 (enc S) sp (p_cp sv (enc S) n 283) tx (nI (n + 1)) le th pl iw lt on ot nu di := hM.set0 hat hu
          rw [← hQ]
          exact b_vret CX hr hlk hS (Nat.le_of_ble_eq_true rfl) (Nat.le_of_ble_eq_true rfl) dX3_save_96 ((by unfold p_sv p_sn; first | exact hM | (rw [if_neg c_6, if_neg c_6]; exact hM)))
        · refine lv_aload_n hx hb dX3_save_59 rfl (lv_at hl 1 rfl) ?_
          refine gf_X3_16_8 CX hM.o0 rfl dX3_save_60 ?_
          refine lv_sipush (v := nI 283) hx hb dX3_save_63 rfl ?_
          refine lv_aload_n hx hb dX3_save_66 rfl (lv_at hl 1 rfl) ?_
          refine gf_X3_32_8 CX hM.o0 rfl dX3_save_67 ?_
          refine b_imulN CX dX3_save_70 ?_
          refine lv_iload_n hx hb dX3_save_71 rfl (lv_at hl 0 rfl) ?_
          refine b_iaddN CX dX3_save_72 ?_
          refine lv_aload_n hx hb dX3_save_73 rfl (lv_at hl 1 rfl) ?_
          refine gf_X3_7_8 CX hM.o0 rfl dX3_save_74 ?_
          refine lv_iload_n hx hb dX3_save_77 rfl (lv_at hl 0 rfl) ?_
          refine b_ild CX hM.o1 (x := enc S i) (vp_in_nI (by omega) (by omega)) (b_at_nI (by omega) rfl) dX3_save_78 ?_
          refine b_ist CX hM.o3 hS (hM.B (by decide)) (vp_in_nI (by omega) (by omega)) dX3_save_79 (fun H4 locs hat hu hS => ?_)
          have hM : MW G B0 o H H4 (enc S) sp (p_cp sv (enc S) n (i + 1)) tx (nI n) le th pl iw lt on ot nu di := hM.set3 (b_up_nI (by omega) (p_cp_s _ _ _ _)) hat hu
          refine lv_iinc (v := nI (i + 1)) (lv' := [(1, .int (nI (i + 1))), (0, .ref (o 0))]) hx hb dX3_save_80 hl (k := 0) rfl (nI_1 _) (Nat.le_of_ble_eq_true rfl) rfl (fun ls hl => ?_)
          refine lv_goto (tgt := 52) hx hb dX3_save_83 (by decide) ?_
          exact ih52 (i + 1) (by omega) (by omega) H4 hM _ hS ls (lv_sub hl [0, 1] rfl)
    exact lp52_1 _ 0 (Nat.zero_le _) (Nat.lt_succ_self _) H hM _ hS ls (lv_sub hl [0, 1] rfl)
  · obtain rfl : n = 6 := c_6
    refine lv_iconst (v := nI 0) hx hb dX3_save_9 rfl ?_
    refine lv_istore_n (lv' := [(1, .int (nI 0)), (0, .ref (o 0))]) hx hb dX3_save_10 rfl hl (Nat.le_of_ble_eq_true rfl) rfl (fun ls hl => ?_)
    have hM : MW G B0 o H H (enc S) sp (p_sh sv 0) tx (nI 6) le th pl iw lt on ot nu di := by rw [p_sh_0]; exact hM
    have lp11_5 : ∀ (n_ : Nat) (i : Nat), i ≤ 1415 → 1415 - i < n_ → ∀ (H6 : Heap), MW G B0 o H H6 (enc S) sp (p_sh sv i) tx (nI 6) le th pl iw lt on ot nu di → ∀ (locs : List Loc), va_S (b_A B0) s.heap H6 locs → ∀ ls : Array Slot, lv_has ls 2 [(1, .int (nI i)), (0, .ref (o 0))] → W p l e ({ frames := 0, cells := 0, slots := 0, locals := 0 } : Room) s m ([.ref (o 0)] : List Value).toArray below meth c H6 locs 0 0 Q (F0 m 11 ls []) := by
      intro n_
      induction n_ with
      | zero => intro i hi hlt H6 hM locs hS ls hl; exact absurd hlt (Nat.not_lt_zero _)
      | succ n_ ih11 =>
        intro i hi hlt H6 hM locs hS ls hl
        refine lv_iload_n hx hb dX3_save_11 rfl (lv_at hl 0 rfl) ?_
        refine lv_sipush (v := nI 1415) hx hb dX3_save_12 rfl ?_
        refine b_icmp_geN (tgt := 40) CX (by omega) (by omega) dX3_save_15 (by decide) (fun c_15 => ?_) (fun c_15 => ?_)
        · obtain rfl : i = 1415 := by omega
          refine lv_aload_n hx hb dX3_save_40 rfl (lv_at hl 1 rfl) ?_
          refine lv_dup hx hb dX3_save_41 rfl ?_
          refine gf_X3_32_8 CX hM.o0 rfl dX3_save_42 ?_
          refine lv_iconst (v := nI 1) hx hb dX3_save_45 rfl ?_
          refine lv_isub hx hb dX3_save_46 ?_
          refine b_top (x := (nI 6) - (nI 1)) (y := nI 5) (rfl) ?_
          refine pf_X3_32_8 CX hM.o0 hS (hM.B (by decide)) rfl rfl (Nat.le_of_ble_eq_true rfl) dX3_save_47 (fun H7 locs hat hu hS => ?_)
          have hM : MW G B0 o H H7 (enc S) sp (p_sh sv 1415) tx (nI 5) le th pl iw lt on ot nu di := hM.set0 hat hu
          refine lv_iconst (v := nI 0) hx hb dX3_save_50 rfl ?_
          refine lv_istore_n (lv' := [(1, .int (nI 0)), (0, .ref (o 0))]) hx hb dX3_save_51 rfl hl (Nat.le_of_ble_eq_true rfl) rfl (fun ls hl => ?_)
          have hM : MW G B0 o H H7 (enc S) sp (p_cp (p_sh sv 1415) (enc S) 5 0) tx (nI 5) le th pl iw lt on ot nu di := by rw [p_cp_0]; exact hM
          have lp52_8 : ∀ (n_ : Nat) (i : Nat), i ≤ 283 → 283 - i < n_ → ∀ (H9 : Heap), MW G B0 o H H9 (enc S) sp (p_cp (p_sh sv 1415) (enc S) 5 i) tx (nI 5) le th pl iw lt on ot nu di → ∀ (locs : List Loc), va_S (b_A B0) s.heap H9 locs → ∀ ls : Array Slot, lv_has ls 2 [(1, .int (nI i)), (0, .ref (o 0))] → W p l e ({ frames := 0, cells := 0, slots := 0, locals := 0 } : Room) s m ([.ref (o 0)] : List Value).toArray below meth c H9 locs 0 0 Q (F0 m 52 ls []) := by
            intro n_
            induction n_ with
            | zero => intro i hi hlt H9 hM locs hS ls hl; exact absurd hlt (Nat.not_lt_zero _)
            | succ n_ ih52 =>
              intro i hi hlt H9 hM locs hS ls hl
              refine lv_iload_n hx hb dX3_save_52 rfl (lv_at hl 0 rfl) ?_
              refine lv_sipush (v := nI 283) hx hb dX3_save_53 rfl ?_
              refine b_icmp_geN (tgt := 86) CX (by omega) (by omega) dX3_save_56 (by decide) (fun c_56 => ?_) (fun c_56 => ?_)
              · obtain rfl : i = 283 := by omega
                refine lv_aload_n hx hb dX3_save_86 rfl (lv_at hl 1 rfl) ?_
                refine lv_dup hx hb dX3_save_87 rfl ?_
                refine gf_X3_32_8 CX hM.o0 rfl dX3_save_88 ?_
                refine lv_iconst (v := nI 1) hx hb dX3_save_91 rfl ?_
                refine b_iaddN CX dX3_save_92 ?_
                refine pf_X3_32_8 CX hM.o0 hS (hM.B (by decide)) rfl rfl (Nat.le_of_ble_eq_true rfl) dX3_save_93 (fun H10 locs hat hu hS => ?_)
                have hM : MW G B0 o H H10 (enc S) sp (p_cp (p_sh sv 1415) (enc S) 5 283) tx (nI (5 + 1)) le th pl iw lt on ot nu di := hM.set0 hat hu
                rw [← hQ]
                exact b_vret CX hr hlk hS (Nat.le_of_ble_eq_true rfl) (Nat.le_of_ble_eq_true rfl) dX3_save_96 ((by unfold p_sv p_sn; first | exact hM | (rw [if_neg c_6, if_neg c_6]; exact hM)))
              · refine lv_aload_n hx hb dX3_save_59 rfl (lv_at hl 1 rfl) ?_
                refine gf_X3_16_8 CX hM.o0 rfl dX3_save_60 ?_
                refine lv_sipush (v := nI 283) hx hb dX3_save_63 rfl ?_
                refine lv_aload_n hx hb dX3_save_66 rfl (lv_at hl 1 rfl) ?_
                refine gf_X3_32_8 CX hM.o0 rfl dX3_save_67 ?_
                refine b_imulN CX dX3_save_70 ?_
                refine lv_iload_n hx hb dX3_save_71 rfl (lv_at hl 0 rfl) ?_
                refine b_iaddN CX dX3_save_72 ?_
                refine lv_aload_n hx hb dX3_save_73 rfl (lv_at hl 1 rfl) ?_
                refine gf_X3_7_8 CX hM.o0 rfl dX3_save_74 ?_
                refine lv_iload_n hx hb dX3_save_77 rfl (lv_at hl 0 rfl) ?_
                refine b_ild CX hM.o1 (x := enc S i) (vp_in_nI (by omega) (by omega)) (b_at_nI (by omega) rfl) dX3_save_78 ?_
                refine b_ist CX hM.o3 hS (hM.B (by decide)) (vp_in_nI (by omega) (by omega)) dX3_save_79 (fun H11 locs hat hu hS => ?_)
                have hM : MW G B0 o H H11 (enc S) sp (p_cp (p_sh sv 1415) (enc S) 5 (i + 1)) tx (nI 5) le th pl iw lt on ot nu di := hM.set3 (b_up_nI (by omega) (p_cp_s _ _ _ _)) hat hu
                refine lv_iinc (v := nI (i + 1)) (lv' := [(1, .int (nI (i + 1))), (0, .ref (o 0))]) hx hb dX3_save_80 hl (k := 0) rfl (nI_1 _) (Nat.le_of_ble_eq_true rfl) rfl (fun ls hl => ?_)
                refine lv_goto (tgt := 52) hx hb dX3_save_83 (by decide) ?_
                exact ih52 (i + 1) (by omega) (by omega) H11 hM _ hS ls (lv_sub hl [0, 1] rfl)
          exact lp52_8 _ 0 (Nat.zero_le _) (Nat.lt_succ_self _) H7 hM _ hS ls (lv_sub hl [0, 1] rfl)
        · refine lv_aload_n hx hb dX3_save_18 rfl (lv_at hl 1 rfl) ?_
          refine gf_X3_16_8 CX hM.o0 rfl dX3_save_19 ?_
          refine lv_iload_n hx hb dX3_save_22 rfl (lv_at hl 0 rfl) ?_
          refine lv_aload_n hx hb dX3_save_23 rfl (lv_at hl 1 rfl) ?_
          refine gf_X3_16_8 CX hM.o0 rfl dX3_save_24 ?_
          refine lv_iload_n hx hb dX3_save_27 rfl (lv_at hl 0 rfl) ?_
          refine lv_sipush (v := nI 283) hx hb dX3_save_28 rfl ?_
          refine b_iaddN CX dX3_save_31 ?_
          refine b_ild CX hM.o3 (x := (p_sh sv i) (i + 283)) (vp_in_nI (by omega) (by omega)) (b_at_nI (f := p_sh sv i) (n := i + 283) (by omega) rfl) dX3_save_32 ?_
          refine b_ist CX hM.o3 hS (hM.B (by decide)) (vp_in_nI (by omega) (by omega)) dX3_save_33 (fun H12 locs hat hu hS => ?_)
          have hM : MW G B0 o H H12 (enc S) sp (p_sh sv (i + 1)) tx (nI 6) le th pl iw lt on ot nu di := hM.set3 (b_up_nI (by omega) (p_sh_s _ _)) hat hu
          refine lv_iinc (v := nI (i + 1)) (lv' := [(1, .int (nI (i + 1))), (0, .ref (o 0))]) hx hb dX3_save_34 hl (k := 0) rfl (nI_1 _) (Nat.le_of_ble_eq_true rfl) rfl (fun ls hl => ?_)
          refine lv_goto (tgt := 11) hx hb dX3_save_37 (by decide) ?_
          exact ih11 (i + 1) (by omega) (by omega) H12 hM _ hS ls (lv_sub hl [0, 1] rfl)
    exact lp11_5 _ 0 (Nat.zero_le _) (Nat.lt_succ_self _) H hM _ hS ls (lv_sub hl [0, 1] rfl)
