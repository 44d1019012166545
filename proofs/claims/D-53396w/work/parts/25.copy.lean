/-! a loop copied -/
set_option maxRecDepth 100000
def s_cb (S : b_St) (i : Nat) : b_St := fun k x j => if k = 0 ∧ x = 0 ∧ j = 0 then nI i else if k = 1 ∧ x < i then S 1 x j else s_0 k x j
def s_cs (S : b_St) (i : Nat) : b_St := fun k x j => if k = 0 ∧ x = 0 ∧ j = 1 then nI i else if (k = 2 ∨ k = 4 ∨ k = 5) ∧ x < i then S k x j else s_cb S (nb S) k x j
def s_ct (S : b_St) : b_St := fun k x j => if k = 0 ∧ x = 0 ∧ 7 ≤ j then S 0 0 j else s_cs S (ns S) k x j
def s_c9 (S : b_St) : b_St := u3 (u3 (u3 (u3 (u3 (s_ct S) 0 0 2 (S 0 0 2)) 0 0 3 (S 0 0 3)) 0 0 4 (S 0 0 4)) 0 0 5 (S 0 0 5)) 0 0 6 (S 0 0 6)
def zc (Z : Nat → Nat → Int32) (i : Nat) : Nat → Nat → Int32 := fun a => if a < i then Z a else fun _ => 0
theorem zc_0 (Z : Nat → Nat → Int32) : (fun _ _ => 0) = zc Z 0 := by funext a; exact (if_neg (Nat.not_lt_zero a)).symm
theorem s_cb_0 (S : b_St) : s_0 = s_cb S 0 := by
  funext k x j
  unfold s_cb
  by_cases c : k = 0 ∧ x = 0 ∧ j = 0
  · obtain ⟨rfl, rfl, rfl⟩ := c
    rfl
  · rw [if_neg c, if_neg (fun q => Nat.not_lt_zero _ q.2)]
theorem s_cs_0 (S : b_St) : s_cb S (nb S) = s_cs S 0 := by
  funext k x j
  unfold s_cs
  by_cases c : k = 0 ∧ x = 0 ∧ j = 1
  · obtain ⟨rfl, rfl, rfl⟩ := c
    rfl
  · rw [if_neg c, if_neg (fun q => Nat.not_lt_zero _ q.2)]
theorem s_cb_n (S : b_St) {i : Nat} (hi : i ≤ 8) : nb (s_cb S i) = i := by
  show (s_cb S i 0 0 0).toNatClampNeg = i
  unfold s_cb
  rw [if_pos ⟨rfl, rfl, rfl⟩, nI_cl (by omega)]
theorem s_cb_s (S : b_St) (i : Nat) : ns (s_cb S i) = 0 := by
  show (s_cb S i 0 0 1).toNatClampNeg = 0
  unfold s_cb
  rw [if_neg (by omega), if_neg (by omega)]
  rfl
theorem s_cs_n (S : b_St) (i : Nat) (hb : nb S ≤ 8) : nb (s_cs S i) = nb S := by
  show (s_cs S i 0 0 0).toNatClampNeg = nb S
  unfold s_cs
  rw [if_neg (by omega), if_neg (by omega)]
  exact s_cb_n S hb
theorem s_cs_s (S : b_St) {i : Nat} (hi : i ≤ 6) : ns (s_cs S i) = i := by
  show (s_cs S i 0 0 1).toNatClampNeg = i
  unfold s_cs
  rw [if_pos ⟨rfl, rfl, rfl⟩, nI_cl (by omega)]
theorem s_cb_b (S : b_St) (i j : Nat) : s_cb S (i + 1) 1 i j = S 1 i j := by
  unfold s_cb
  rw [if_neg (by omega), if_pos ⟨rfl, by omega⟩]
theorem s_cb_o (S : b_St) (i : Nat) : ∀ k x j, ¬ (k = 0 ∧ x = 0 ∧ j = 0) → ¬ (k = 1 ∧ x = i) → s_cb S (i + 1) k x j = s_cb S i k x j := by
  intro k x j h1 h2
  unfold s_cb
  rw [if_neg h1, if_neg h1]
  by_cases c : k = 1 ∧ x < i
  · rw [if_pos ⟨c.1, by omega⟩, if_pos c]
  · rw [if_neg (by omega), if_neg c]
theorem s_cs_b (S : b_St) (i : Nat) {k : Nat} (hk : k = 2 ∨ k = 4 ∨ k = 5) (j : Nat) : s_cs S (i + 1) k i j = S k i j := by
  unfold s_cs
  rw [if_neg (by omega), if_pos ⟨hk, by omega⟩]
theorem s_cs_o (S : b_St) (i : Nat) : ∀ k x j, ¬ (k = 0 ∧ x = 0 ∧ j = 1) → ¬ (2 ≤ k ∧ k ≤ 5 ∧ ¬ k = 3 ∧ x = i) → s_cs S (i + 1) k x j = s_cs S i k x j := by
  intro k x j h1 h2
  unfold s_cs
  rw [if_neg h1, if_neg h1]
  by_cases c : (k = 2 ∨ k = 4 ∨ k = 5) ∧ x < i
  · rw [if_pos ⟨c.1, by omega⟩, if_pos c]
  · rw [if_neg (by omega), if_neg c]
theorem cpy_n {n : Nat} {f g : Nat → Int32} (hn : n < 2147483648) : ∀ j, j < n → va_cpy f g (nI 0).toNatClampNeg (nI 0).toNatClampNeg (nI n).toNatClampNeg j = f j := by
  intro j hj
  rw [nI_cl hn]
  show va_cpy f g 0 0 n j = f j
  unfold va_cpy
  rw [if_pos (by omega), show 0 + (j - 0) = j by omega]
theorem upF_0 {F : Nat → Nat} {i q r : Nat} : upF F (20 + i) q 2 r 0 = F 0 := by unfold upF; rw [if_neg (by omega), if_neg (by omega)]
theorem upS_0 {F : Nat → Nat} {i q q1 q2 r : Nat} : upS F i q q1 q2 r 0 = F 0 := by unfold upS; rw [if_neg (by omega), if_neg (by omega), if_neg (by omega), if_neg (by omega)]
section CPY
variable {G : b_G} {B0 : Nat} {τ τ1 : b_T} {id : Nat} {F : Nat → Nat} {M : Nat → Int32} {E : Nat → Bool} {H H1 : Heap} {S S1 : b_St} {Z Z1 : Nat → Nat → Int32}
theorem LR.cpB {i q r : Nat} {mc : Int32} (h : LR G B0 τ id F M E H (s_cb S i) Z) (hi : i < 8)
    (ho : ∀ j, l_use (nb (s_cb S i)) (ns (s_cb S i)) E j → ¬ j = 1 → ¬ j = 2 → b_tt G B0 τ1 H1 (F j) (1000 * id + j) (l_cnt G F (s_cb S i) Z M E j))
    (h1 : b_tt G B0 τ1 H1 (F 1) (1000 * id + 1) (.inr (2, [.int mc, .ref r, .int (nI (i + 1))])))
    (h2 : b_tt G B0 τ1 H1 r (1000 * id + 2) (.inl (G.2.1 2, q_refs 10 (fun j => if j < i + 1 then some (if j = i then q else F (20 + j)) else none))))
    (h3 : b_tt G B0 τ1 H1 q (1000 * id + (20 + i)) (.inr (4, [.int (S 1 i 0), .int (S 1 i 1), .int (S 1 i 2), .int (S 1 i 3), .int (S 1 i 4), .int (S 1 i 5), .int (S 1 i 6), .int (S 1 i 7), .int (S 1 i 8), .int (S 1 i 9)]))) :
    LR G B0 τ1 id (upF F (20 + i) q 2 r) (upd M 1 mc) (upB E 1) H1 (s_cb S (i + 1)) Z := by
  have e := s_cb_n S (i := i) (by omega)
  have h9 := h.pushB (S1 := s_cb S (i + 1)) (by rw [e]; exact hi) (q := q) (r := r) (mc := mc) ho (by rw [e]; exact h1) (by rw [e]; exact h2) (by rw [e]; exact h3) (by rw [e]; simp only [s_cb_b]) (by rw [e]; unfold s_cb; rw [if_pos ⟨rfl, rfl, rfl⟩]) (by rw [e]; exact s_cb_o S i)
  rw [e] at h9
  exact h9
theorem LR.cpS {i q q1 q2 r : Nat} {mc : Int32} (h : LR G B0 τ id F M E H (s_cs S i) Z) (hi : i < 6)
    (ho : ∀ j, l_use (nb (s_cs S i)) (ns (s_cs S i)) E j → ¬ j = 3 → ¬ j = 4 → b_tt G B0 τ1 H1 (F j) (1000 * id + j) (l_cnt G F (s_cs S i) Z M E j))
    (h1 : b_tt G B0 τ1 H1 (F 3) (1000 * id + 3) (.inr (2, [.int mc, .ref r, .int (nI (i + 1))])))
    (h2 : b_tt G B0 τ1 H1 r (1000 * id + 4) (.inl (G.2.1 2, q_refs 10 (fun j => if j < i + 1 then some (if j = i then q else F (30 + j)) else none))))
    (h3 : b_tt G B0 τ1 H1 q (1000 * id + (30 + i)) (.inr (5, [.ref q1, .ref q2, .int (S 2 i 0), .int (S 2 i 1), .int (S 2 i 2), .int (S 2 i 3), .int (S 2 i 4)])))
    (h4 : b_tt G B0 τ1 H1 q1 (1000 * id + (40 + i)) (.inl (G.2.1 0, 8, .inl (fun j => S 4 i j))))
    (h5 : b_tt G B0 τ1 H1 q2 (1000 * id + (50 + i)) (.inl (G.2.1 0, 8, .inl (fun j => S 5 i j)))) :
    LR G B0 τ1 id (upS F i q q1 q2 r) (upd M 3 mc) (upB E 3) H1 (s_cs S (i + 1)) Z := by
  have e := s_cs_s S (i := i) (by omega)
  have h9 := h.pushS (S1 := s_cs S (i + 1)) (by rw [e]; exact hi) (q := q) (q1 := q1) (q2 := q2) (r := r) (mc := mc) ho (by rw [e]; exact h1) (by rw [e]; exact h2) (by rw [e]; exact h3) (by rw [e]; simp only [s_cs_b S i (Or.inl rfl : 2 = 2 ∨ 2 = 4 ∨ 2 = 5)]) (by rw [e]; exact h4) (by intro j hj; rw [e]; exact (s_cs_b S i (by omega) j).symm) (by rw [e]; exact h5) (by intro j hj; rw [e]; exact (s_cs_b S i (by omega) j).symm) (by rw [e]; unfold s_cs; rw [if_pos ⟨rfl, rfl, rfl⟩]) (by rw [e]; exact s_cs_o S i)
  rw [e] at h9
  exact h9
theorem LR.putT (h : LR G B0 τ id F M E H (s_cs S (ns S)) Z) (hat : b_at G (F 5) (.inl (G.2.1 0, 6, .inl (fun j => S 0 0 (7 + j)))) H1) (hu : b_Up (F 5) H H1) : LR G B0 τ id F M E H1 (s_ct S) Z := by
  have e0 : ∀ w, w < 7 → s_ct S 0 0 w = s_cs S (ns S) 0 0 w := fun w hw => if_neg (by omega)
  have ek : ∀ k i w, ¬ k = 0 → s_ct S k i w = s_cs S (ns S) k i w := fun k i w hk => if_neg (fun q => hk q.1)
  have en : nb (s_ct S) = nb (s_cs S (ns S)) := by unfold nb; rw [e0 0 (by decide)]
  have es : ns (s_ct S) = ns (s_cs S (ns S)) := by show (s_ct S 0 0 1).toNatClampNeg = (s_cs S (ns S) 0 0 1).toNatClampNeg; rw [e0 1 (by decide)]
  refine h.put (i := 5) (by unfold l_use; omega) hat hu ?_ en es ?_
  · have e5 : (fun j => S 0 0 (7 + j)) = fun j => s_ct S 0 0 (7 + j) := funext fun j => (if_pos ⟨rfl, rfl, by omega⟩ : s_ct S 0 0 (7 + j) = S 0 0 (7 + j)).symm
    rw [e5]
    rfl
  · intro q hq hq5 _
    unfold l_cnt
    rw [en, es, e0 0 (by decide), e0 1 (by decide), e0 2 (by decide), e0 3 (by decide), e0 4 (by decide), e0 5 (by decide), e0 6 (by decide)]
    simp only [hq5, if_false, ek 1 _ _ (by decide), ek 2 _ _ (by decide), ek 4 _ _ (by decide), ek 5 _ _ (by decide)]
theorem LR.setR {i : Nat} (h : LR G B0 τ id F M E H S (zc Z i)) (hi : i < 8) (hat : b_at G (F (10 + i)) (.inl (G.2.1 0, 8, .inl (Z i))) H1) (hu : b_Up (F (10 + i)) H H1) : LR G B0 τ id F M E H1 S (zc Z (i + 1)) := by
  refine h.put (i := 10 + i) (by unfold l_use; omega) hat hu ?_ rfl rfl ?_
  · rw [l_c7 hi, show zc Z (i + 1) i = Z i from if_pos (by omega)]
  · intro j hj hji hj7
    unfold l_cnt
    by_cases c : 10 ≤ j ∧ j < 20
    · have e : zc Z (i + 1) (j - 10) = zc Z i (j - 10) := by
        unfold zc
        by_cases d : j - 10 < i
        · rw [if_pos d, if_pos (by omega)]
        · rw [if_neg d, if_neg (by omega)]
      rw [e]
    · by_cases c7 : j < 7
      · have c6 : j = 0 ∨ j = 1 ∨ j = 2 ∨ j = 3 ∨ j = 4 ∨ j = 5 ∨ j = 6 := by omega
        rcases c6 with rfl | rfl | rfl | rfl | rfl | rfl | rfl
        all_goals rfl
      · have e : ¬ j < 20 := by omega
        rw [if_neg e, if_neg e]
theorem LR.c9 (h : LR G B0 τ id F M E H (s_c9 S) (zc Z 8)) (hW : b_WF S) (hb : nb S ≤ 8) (hs : ns S ≤ 6) : LR G B0 τ id F M E H S Z := by
  have ek : ∀ k i w, ¬ k = 0 → s_c9 S k i w = s_cs S (ns S) k i w := by
    intro k i w hk
    unfold s_c9
    rw [u3_n _ _ (fun q => hk q.1), u3_n _ _ (fun q => hk q.1), u3_n _ _ (fun q => hk q.1), u3_n _ _ (fun q => hk q.1), u3_n _ _ (fun q => hk q.1)]
    exact if_neg (fun q => hk q.1)
  have n0 : s_c9 S 0 0 0 = nI (nb S) := rfl
  have n1 : s_c9 S 0 0 1 = nI (ns S) := rfl
  have en : nb (s_c9 S) = nb S := by show (s_c9 S 0 0 0).toNatClampNeg = _; rw [n0, nI_cl (by omega)]
  have es : ns (s_c9 S) = ns S := by show (s_c9 S 0 0 1).toNatClampNeg = _; rw [n1, nI_cl (by omega)]
  refine h.cgS ?_ ?_ ?_ ?_ ?_ ?_
  · intro j hj
    by_cases c0 : j = 0
    · subst c0; rw [n0, hW.nbE]
    by_cases c1 : j = 1
    · subst c1; rw [n1, hW.nsE]
    by_cases c7 : 7 ≤ j
    · unfold s_c9
      rw [u3_n _ _ (by omega), u3_n _ _ (by omega), u3_n _ _ (by omega), u3_n _ _ (by omega), u3_n _ _ (by omega)]
      exact if_pos ⟨rfl, rfl, c7⟩
    have c6 : j = 2 ∨ j = 3 ∨ j = 4 ∨ j = 5 ∨ j = 6 := by omega
    rcases c6 with rfl | rfl | rfl | rfl | rfl
    all_goals simp [s_c9, u3]
  · intro k j hk hj
    rw [en] at hk
    rw [ek 1 k j (by decide)]
    unfold s_cs
    rw [if_neg (by omega), if_neg (by omega)]
    unfold s_cb
    rw [if_neg (by omega), if_pos ⟨rfl, hk⟩]
  all_goals try (
    intro k j hk hj
    rw [es] at hk
    rw [ek _ k j (by decide)]
    unfold s_cs
    rw [if_neg (by omega), if_pos ⟨by omega, hk⟩])
  · intro i j hi hj
    unfold zc
    rw [if_pos hi]
end CPY
theorem b_tt.cgr {G : b_G} {B0 : Nat} {τ : b_T} {H : Heap} {a t n : Nat} {cA : ClassId} {f g : Nat → Option Nat} (h : b_tt G B0 τ H a t (.inl (cA, q_refs n f))) (he : ∀ j, j < n → f j = g j) : b_tt G B0 τ H a t (.inl (cA, q_refs n g)) := ⟨b_cgq h.1 he, h.2⟩
theorem cs_X2_30 {p : Program} {l : Launch} {e : Env} {R : Room} {s : State} {m : MethodId} {args : Array Value} {below : List Frame} {meth : Method} {c : Code} {H : Heap} {locs : List Loc} {cells slots : Nat} {cc : ByteArray} {pc nL a : Nat} {ls : Array Slot} {rest : List Value} {G : b_G} {B0 : Nat} (CX : b_Cx p s m args c cc nL RX2 G B0) (hls : ls.size = nL) {rm : Room} {mc ms : Nat} {As st0 : List Value} {Qc : Array Value → State → Outcome → State → Prop} (hM : Met l yX2_init (ws_ yX2_init cX2_init 1 (Option.none)) rm (b_Pc G B0 H (.ref a :: As)) Qc mc ms (b_A B0)) (hn : As.length = 0) (hS : va_S (b_A B0) s.heap H locs) (hst : st0 = As.reverse ++ .ref a :: rest) (hr : rm.cells = mc ∧ rm.slots = ms ∧ rm.frames + 1 ≤ R.frames ∧ 8 + (1 + 11) + rm.locals ≤ R.locals) (hw : (rest.map fun v => v.category).sum ≤ 8) (hdg : decode cc pc = .ok (.invokespecial 30, 3)) (hf : cells + mc ≤ R.cells ∧ slots + ms ≤ R.slots) : va_Run p l e R s m args below meth c H locs cells slots mc ms (F0 m pc ls st0) rest (Qc (Value.ref a :: As).toArray) (b_A B0) := va_runI CX.fix hM (cwI 0 CX.ts (lw_meth q138) rfl hr.1 hr.2.1 (CX.ts _ q80) (CX.ts _ q980) (CX.ts _ q137) rfl (by decide +kernel) ⟨hr.2.2.1, hr.2.2.2⟩) ⟨b_blind G B0 H _, b_pre _ CX.K hS⟩ rfl hn hls hst (lv_room hw) hdg hf
theorem gf_X2_18_1 {p : Program} {l : Launch} {e : Env} {R : Room} {s : State} {m : MethodId} {args : Array Value} {below : List Frame} {meth : Method} {c : Code} {H : Heap} {locs : List Loc} {cells slots : Nat} {Q : State → Prop} {cc : ByteArray} {pc nL a : Nat} {ls : Array Slot} {rest : List Value} {G : b_G} {B0 : Nat} (CX : b_Cx p s m args c cc nL RX2 G B0) {fs : List Value} (hP : b_at G a (.inr (1, fs)) H) {v : Value} (hv : fs[1]? = some v) (hdg : decode cc pc = .ok (.getfield 18, 3)) (kk : W p l e R s m args below meth c H locs cells slots Q (F0 m (pc + 3) ls (v :: rest))) : W p l e R s m args below meth c H locs cells slots Q (F0 m pc ls (.ref a :: rest)) := b_get CX in_X2 rfl 1 (by decide) q173 (Or.inl rfl) hP hv hdg kk
theorem gf_X2_73_1 {p : Program} {l : Launch} {e : Env} {R : Room} {s : State} {m : MethodId} {args : Array Value} {below : List Frame} {meth : Method} {c : Code} {H : Heap} {locs : List Loc} {cells slots : Nat} {Q : State → Prop} {cc : ByteArray} {pc nL a : Nat} {ls : Array Slot} {rest : List Value} {G : b_G} {B0 : Nat} (CX : b_Cx p s m args c cc nL RX2 G B0) {fs : List Value} (hP : b_at G a (.inr (1, fs)) H) {v : Value} (hv : fs[8]? = some v) (hdg : decode cc pc = .ok (.getfield 73, 3)) (kk : W p l e R s m args below meth c H locs cells slots Q (F0 m (pc + 3) ls (v :: rest))) : W p l e R s m args below meth c H locs cells slots Q (F0 m pc ls (.ref a :: rest)) := b_get CX in_X2 rfl 8 (by decide) q191 (Or.inl rfl) hP hv hdg kk
theorem pf_X2_73_1 {p : Program} {l : Launch} {e : Env} {R : Room} {s : State} {m : MethodId} {args : Array Value} {below : List Frame} {meth : Method} {c : Code} {H : Heap} {locs : List Loc} {cells slots : Nat} {Q : State → Prop} {cc : ByteArray} {pc nL a : Nat} {ls : Array Slot} {rest : List Value} {G : b_G} {B0 : Nat} (CX : b_Cx p s m args c cc nL RX2 G B0) {fs : List Value} (hP : b_at G a (.inr (1, fs)) H) (hS : va_S (b_A B0) s.heap H locs) (ha : B0 ≤ a) {v : Value} (hn : narrow (tyX2 8) v = v) (hfit : fits (tyX2 8) v = true) (hl : 8 < fs.length) (hdg : decode cc pc = .ok (.putfield 73, 3)) (kk : ∀ (H1 : Heap) (locs1 : List Loc), b_at G a (.inr (1, fs.set 8 v)) H1 → b_Up a H H1 → va_S (b_A B0) s.heap H1 locs1 → W p l e R s m args below meth c H1 locs1 cells slots Q (F0 m (pc + 3) ls rest)) : W p l e R s m args below meth c H locs cells slots Q (F0 m pc ls (v :: .ref a :: rest)) := b_put CX in_X2 tyX2 tyX2_ok rfl 8 (by decide) (by decide +kernel) q191 (Or.inl rfl) rfl hP hS ha hn hfit hl hdg kk
theorem cs_X2_51 {p : Program} {l : Launch} {e : Env} {R : Room} {s : State} {m : MethodId} {args : Array Value} {below : List Frame} {meth : Method} {c : Code} {H : Heap} {locs : List Loc} {cells slots : Nat} {cc : ByteArray} {pc nL a : Nat} {ls : Array Slot} {rest : List Value} {G : b_G} {B0 : Nat} (CX : b_Cx p s m args c cc nL RX2 G B0) (hls : ls.size = nL) {rm : Room} {mc ms : Nat} {As st0 : List Value} {Qc : Array Value → State → Outcome → State → Prop} (hM : Met l yX5_copy (ws_ yX5_copy cX5_copy 2 (Option.some (Jvm.ClassFile.FieldType.object "BottleLoop$Shop"))) rm (b_Pc G B0 H (.ref a :: As)) Qc mc ms (b_A B0)) (hn : As.length = 0) {fs : List Value} {ci : Nat} {qc : vw_C} (hc : b_cl[ci]? = some qc) (hq : qc.1 = RX5) (hP : b_at G a (.inr (ci, fs)) H) (hS : va_S (b_A B0) s.heap H locs) (hst : st0 = As.reverse ++ .ref a :: rest) (hr : rm.cells = mc ∧ rm.slots = ms ∧ rm.frames + 1 ≤ R.frames ∧ 8 + (2 + 11) + rm.locals ≤ R.locals) (hw : (rest.map fun v => v.category).sum ≤ 8) (hdg : decode cc pc = .ok (.invokevirtual 51, 3)) (hf : cells + mc ≤ R.cells ∧ slots + ms ≤ R.slots) : va_Run p l e R s m args below meth c H locs cells slots mc ms (F0 m pc ls st0) rest (Qc (Value.ref a :: As).toArray) (b_A B0) := va_runV CX.fix hM (cwV 0 CX.ts (lw_V q1044 q1045 q1046 q101 q1047) rfl hr.1 hr.2.1 (by decide +kernel) ⟨hr.2.2.1, hr.2.2.2⟩) ⟨b_blind G B0 H _, by have h9 := b_recv CX.K hc hP; rw [hq] at h9; exact h9, b_pre _ CX.K hS⟩ rfl hn hls hst (lv_room hw) hdg hf
theorem cs_X2_45 {p : Program} {l : Launch} {e : Env} {R : Room} {s : State} {m : MethodId} {args : Array Value} {below : List Frame} {meth : Method} {c : Code} {H : Heap} {locs : List Loc} {cells slots : Nat} {cc : ByteArray} {pc nL a : Nat} {ls : Array Slot} {rest : List Value} {G : b_G} {B0 : Nat} (CX : b_Cx p s m args c cc nL RX2 G B0) (hls : ls.size = nL) {rm : Room} {mc ms : Nat} {As st0 : List Value} {Qc : Array Value → State → Outcome → State → Prop} (hM : Met l yJ2_add (ws_ yJ2_add cJ2_add 2 (Option.some Jvm.ClassFile.FieldType.boolean)) rm (b_Pc G B0 H (.ref a :: As)) Qc mc ms (b_A B0)) (hn : As.length = 1) {fs : List Value} {ci : Nat} {qc : vw_C} (hc : b_cl[ci]? = some qc) (hq : qc.1 = RJ2) (hP : b_at G a (.inr (ci, fs)) H) (hS : va_S (b_A B0) s.heap H locs) (hst : st0 = As.reverse ++ .ref a :: rest) (hr : rm.cells = mc ∧ rm.slots = ms ∧ rm.frames + 1 ≤ R.frames ∧ 8 + (2 + 11) + rm.locals ≤ R.locals) (hw : (rest.map fun v => v.category).sum ≤ 8) (hdg : decode cc pc = .ok (.invokevirtual 45, 3)) (hf : cells + mc ≤ R.cells ∧ slots + ms ≤ R.slots) : va_Run p l e R s m args below meth c H locs cells slots mc ms (F0 m pc ls st0) rest (Qc (Value.ref a :: As).toArray) (b_A B0) := va_runV CX.fix hM (cwV 1 CX.ts (lw_V q1042 q724 q725 q83 q726) rfl hr.1 hr.2.1 (by decide +kernel) ⟨hr.2.2.1, hr.2.2.2⟩) ⟨b_blind G B0 H _, by have h9 := b_recv CX.K hc hP; rw [hq] at h9; exact h9, b_pre _ CX.K hS⟩ rfl hn hls hst (lv_room hw) hdg hf
theorem cs_X2_41 {p : Program} {l : Launch} {e : Env} {R : Room} {s : State} {m : MethodId} {args : Array Value} {below : List Frame} {meth : Method} {c : Code} {H : Heap} {locs : List Loc} {cells slots : Nat} {cc : ByteArray} {pc nL a : Nat} {ls : Array Slot} {rest : List Value} {G : b_G} {B0 : Nat} (CX : b_Cx p s m args c cc nL RX2 G B0) (hls : ls.size = nL) {rm : Room} {mc ms : Nat} {As st0 : List Value} {Qc : Array Value → State → Outcome → State → Prop} (hM : Met l yX4_copy (ws_ yX4_copy cX4_copy 2 (Option.some (Jvm.ClassFile.FieldType.object "BottleLoop$Brand"))) rm (b_Pc G B0 H (.ref a :: As)) Qc mc ms (b_A B0)) (hn : As.length = 0) {fs : List Value} {ci : Nat} {qc : vw_C} (hc : b_cl[ci]? = some qc) (hq : qc.1 = RX4) (hP : b_at G a (.inr (ci, fs)) H) (hS : va_S (b_A B0) s.heap H locs) (hst : st0 = As.reverse ++ .ref a :: rest) (hr : rm.cells = mc ∧ rm.slots = ms ∧ rm.frames + 1 ≤ R.frames ∧ 8 + (2 + 11) + rm.locals ≤ R.locals) (hw : (rest.map fun v => v.category).sum ≤ 8) (hdg : decode cc pc = .ok (.invokevirtual 41, 3)) (hf : cells + mc ≤ R.cells ∧ slots + ms ≤ R.slots) : va_Run p l e R s m args below meth c H locs cells slots mc ms (F0 m pc ls st0) rest (Qc (Value.ref a :: As).toArray) (b_A B0) := va_runV CX.fix hM (cwV 0 CX.ts (lw_V q981 q982 q983 q97 q984) rfl hr.1 hr.2.1 (by decide +kernel) ⟨hr.2.2.1, hr.2.2.2⟩) ⟨b_blind G B0 H _, by have h9 := b_recv CX.K hc hP; rw [hq] at h9; exact h9, b_pre _ CX.K hS⟩ rfl hn hls hst (lv_room hw) hdg hf
set_option maxHeartbeats 16000000 in
set_option maxRecDepth 100000 in
theorem m_X2_copy (l : Launch) {G : b_G} {B0 : Nat} {H : Heap} {τ : b_T} {id : Nat} {F : Nat → Nat} {M : Nat → Int32} {E : Nat → Bool} {S : b_St} {Z : Nat → Nat → Int32} {id2 : Nat} (hL : LR G B0 τ id F M E H S Z) (hW : b_WF S) (hid : ¬ id = id2) : Met l yX2_copy (ws_ yX2_copy cX2_copy 3 (Option.some (Jvm.ClassFile.FieldType.object "BottleLoop$Loop"))) ({ frames := 5, cells := 53, slots := 451, locals := 108 } : Room) (b_Pc G B0 H [.ref ((F 0))]) (b_Qq B0 (fun r H1 => ∃ (τ1 : b_T) (F1 : Nat → Nat) (M1 : Nat → Int32) (E1 : Nat → Bool), r = some (F1 0) ∧ b_Ag τ τ1 H ∧ b_Fr τ (fun t => 1000 * id2 ≤ t ∧ t < 1000 * id2 + 1000) H H1 ∧ LR G B0 τ1 id2 F1 M1 E1 H1 S Z)) 53 451 (b_A B0) := by
  refine b_of (by decide) (Nat.le_of_ble_eq_true rfl) ?_
  intro p e s m below meth c CX hr hlk hnm hS ls hl
  have CX : b_Cx p s m _ c cX2_copy 3 RX2 G B0 := CX
  have hx := CX.hx
  have hb := CX.hb
  have hl : lv_has ls 3 [(0, .ref ((F 0)))] := hl
  generalize hQ : MQ below (b_Qq B0 (fun r H1 => ∃ (τ1 : b_T) (F1 : Nat → Nat) (M1 : Nat → Int32) (E1 : Nat → Bool), r = some (F1 0) ∧ b_Ag τ τ1 H ∧ b_Fr τ (fun t => 1000 * id2 ≤ t ∧ t < 1000 * id2 + 1000) H H1 ∧ LR G B0 τ1 id2 F1 M1 E1 H1 S Z)) ([.ref ((F 0))] : List Value).toArray s 53 451 (b_A B0) = Q
  have hF : b_Fr τ (fun t => 1000 * id2 ≤ t ∧ t < 1000 * id2 + 1000) H H := b_Fr.rf
  have hA : b_Ag τ τ H := b_Ag.rf
  have hnb : nb S = nb S := rfl
  have hns : ns S = ns S := rfl
  have hn8 := hL.2.2.2.1
  have hn6 := hL.2.2.2.2
  refine b_new CX in_X2 tyX2 tyX2_ok (ci := 1) rfl q979 q135 q80 (fs := [.null, .null, .null, .null, .int (nI 0), .int (nI 0), .int (nI 0), .int (nI 0), .int (nI 0)]) (nofn_X2) hS (Nat.le_of_ble_eq_true rfl) (Nat.le_of_ble_eq_true rfl) dX2_copy_0 (fun q1 H1 hq hB hat hsz hE hS => ?_)
  have hL := hL.new (tb := 1000 * id2 + 0) hE hq
  have fr_nl : H.size ≤ q1 := by rw [hq]; exact hF.1
  have hA := hA.tr (b_Ag.new (t := 1000 * id2 + 0) hq) hF.1
  have hF := hF.ext hE
  have hc_nl : b_tt G B0 ((upT τ q1 (1000 * id2 + 0))) H1 q1 (1000 * id2 + 0) (.inr (1, [.null, .null, .null, .null, .int (nI 0), .int (nI 0), .int (nI 0), .int (nI 0), .int (nI 0)])) := b_tt.mk hat hB
  refine lv_dup hx hb dX2_copy_3 rfl ?_
  refine b_cv (cs_X2_30 (rest := [.ref q1]) CX hl.1 (m_X2_init l (id := id2) hc_nl) rfl hS rfl ⟨rfl, rfl, Nat.le_of_ble_eq_true rfl, Nat.le_of_ble_eq_true rfl⟩ (Nat.le_of_ble_eq_true rfl) dX2_copy_4 ⟨Nat.le_of_ble_eq_true rfl, Nat.le_of_ble_eq_true rfl⟩) hS (fun H2 locs hp hS => ?_)
  obtain ⟨τ2, q12, q32, q52, q62, hA9, hF9, hr9, hN⟩ := hp
  have hL := hL.ca hF9 hA9 (fun i9 hi9 => show ¬ (1000 * id2 ≤ (1000 * id + i9) ∧ (1000 * id + i9) < 1000 * id2 + 1000) by omega)
  have hF0 := hF.tr hA hF9 (fun q9 hq9 x9 => by have x8 : 1000 * id2 ≤ τ q9 ∧ τ q9 < 1000 * id2 + 1000 := x9; show 1000 * id2 ≤ τ q9 ∧ τ q9 < 1000 * id2 + 1000; omega)
  have hA := hA.tr hA9 hF.1
  have hF := hF0
  refine lv_astore_n (lv' := [(1, .ref (((f_0 q1 q12 q32 q52 q62) 0))), (0, .ref ((F 0)))]) hx hb dX2_copy_7 rfl hl (Nat.le_of_ble_eq_true rfl) rfl (fun ls hl => ?_)
  refine lv_iconst (v := nI 0) hx hb dX2_copy_8 rfl ?_
  refine lv_istore_n (lv' := [(2, .int (nI 0)), (1, .ref (((f_0 q1 q12 q32 q52 q62) 0))), (0, .ref ((F 0)))]) hx hb dX2_copy_9 rfl hl (Nat.le_of_ble_eq_true rfl) rfl (fun ls hl => ?_)
  have hN : LR G B0 τ2 id2 ((f_0 q1 q12 q32 q52 q62)) ((fun _ => nI 0)) ((fun _ => false)) H2 ((s_cb S 0)) ((fun _ _ => 0)) := by rw [← s_cb_0]; exact hN
  have lp10_3 : ∀ (n_ : Nat) (i : Nat), i ≤ nb S → nb S - i < n_ → ∀ (H4 : Heap) (τ1 : b_T) (F1 : Nat → Nat) (M1 : Nat → Int32) (E1 : Nat → Bool), LR G B0 τ1 id F M E H4 S Z → LR G B0 τ1 id2 F1 M1 E1 H4 ((s_cb S i)) ((fun _ _ => 0)) → b_Fr τ (fun t => 1000 * id2 ≤ t ∧ t < 1000 * id2 + 1000) H H4 → b_Ag τ τ1 H → ∀ (locs : List Loc), va_S (b_A B0) s.heap H4 locs → ∀ ls : Array Slot, lv_has ls 3 [(2, .int (nI i)), (1, .ref ((F1 0))), (0, .ref ((F 0)))] → W p l e ({ frames := 5, cells := 53, slots := 451, locals := 108 } : Room) s m ([.ref ((F 0))] : List Value).toArray below meth c H4 locs (13 + 2 * i) (93 + 20 * i) Q (F0 m 10 ls []) := by
    intro n_
    induction n_ with
    | zero => intro i hi hlt H4 τ1 F1 M1 E1 hL hN hF hA locs hS ls hl; exact absurd hlt (Nat.not_lt_zero _)
    | succ n_ ih10 =>
      intro i hi hlt H4 τ1 F1 M1 E1 hL hN hF hA locs hS ls hl
      refine lv_iload_n hx hb dX2_copy_10 rfl (lv_at hl 0 rfl) ?_
      refine lv_aload_n hx hb dX2_copy_11 rfl (lv_at hl 2 rfl) ?_
      refine gf_X2_12_1 CX hL.loop.at rfl dX2_copy_12 ?_
      refine b_ci0 (cs_X2_31 (rest := [.int (nI i)]) CX hl.1 (m_J2_size l (a := (F 1)) (ta := 1000 * id + 1) (mc := M 1) (ra := (if E 1 = true then F 2 else G.2.2 0)) (x := S 0 0 0) hL.al1) rfl rfl rfl hL.al1.at hS rfl ⟨rfl, rfl, Nat.le_of_ble_eq_true rfl, Nat.le_of_ble_eq_true rfl⟩ (Nat.le_of_ble_eq_true rfl) dX2_copy_15 ⟨by show _ ≤ 53; omega, by show _ ≤ 451; omega⟩) hS (fun locs hS => ?_)
      refine b_top (x := (S 0 0 0)) (y := nI (nb S)) (hW.nbE) ?_
      refine b_icmp_geN (tgt := 49) CX (by omega) (by omega) dX2_copy_18 (by decide) (fun c_18 => ?_) (fun c_18 => ?_)
      · obtain rfl : i = nb S := by omega
        refine lv_iconst (v := nI 0) hx hb dX2_copy_49 rfl ?_
        refine lv_istore_n (lv' := [(2, .int (nI 0)), (1, .ref ((F1 0))), (0, .ref ((F 0)))]) hx hb dX2_copy_50 rfl hl (Nat.le_of_ble_eq_true rfl) rfl (fun ls hl => ?_)
        have hN : LR G B0 τ1 id2 F1 M1 E1 H4 ((s_cs S 0)) ((fun _ _ => 0)) := by rw [← s_cs_0]; exact hN
        have lp51_5 : ∀ (n_ : Nat) (i : Nat), i ≤ ns S → ns S - i < n_ → ∀ (H6 : Heap) (τ1 : b_T) (F1 : Nat → Nat) (M1 : Nat → Int32) (E1 : Nat → Bool), LR G B0 τ1 id F M E H6 S Z → LR G B0 τ1 id2 F1 M1 E1 H6 ((s_cs S i)) ((fun _ _ => 0)) → b_Fr τ (fun t => 1000 * id2 ≤ t ∧ t < 1000 * id2 + 1000) H H6 → b_Ag τ τ1 H → ∀ (locs : List Loc), va_S (b_A B0) s.heap H6 locs → ∀ ls : Array Slot, lv_has ls 3 [(2, .int (nI i)), (1, .ref ((F1 0))), (0, .ref ((F 0)))] → W p l e ({ frames := 5, cells := 53, slots := 451, locals := 108 } : Room) s m ([.ref ((F 0))] : List Value).toArray below meth c H6 locs (29 + 4 * i) (253 + 33 * i) Q (F0 m 51 ls []) := by
          intro n_
          induction n_ with
          | zero => intro i hi hlt H6 τ1 F1 M1 E1 hL hN hF hA locs hS ls hl; exact absurd hlt (Nat.not_lt_zero _)
          | succ n_ ih51 =>
            intro i hi hlt H6 τ1 F1 M1 E1 hL hN hF hA locs hS ls hl
            refine lv_iload_n hx hb dX2_copy_51 rfl (lv_at hl 0 rfl) ?_
            refine lv_aload_n hx hb dX2_copy_52 rfl (lv_at hl 2 rfl) ?_
            refine gf_X2_18_1 CX hL.loop.at rfl dX2_copy_53 ?_
            refine b_ci0 (cs_X2_31 (rest := [.int (nI i)]) CX hl.1 (m_J2_size l (a := (F 3)) (ta := 1000 * id + 3) (mc := M 3) (ra := (if E 3 = true then F 4 else G.2.2 0)) (x := S 0 0 1) hL.al3) rfl rfl rfl hL.al3.at hS rfl ⟨rfl, rfl, Nat.le_of_ble_eq_true rfl, Nat.le_of_ble_eq_true rfl⟩ (Nat.le_of_ble_eq_true rfl) dX2_copy_56 ⟨by show _ ≤ 53; omega, by show _ ≤ 451; omega⟩) hS (fun locs hS => ?_)
            refine b_top (x := (S 0 0 1)) (y := nI (ns S)) (hW.nsE) ?_
            refine b_icmp_geN (tgt := 90) CX (by omega) (by omega) dX2_copy_59 (by decide) (fun c_59 => ?_) (fun c_59 => ?_)
            · obtain rfl : i = ns S := by omega
              refine lv_aload_n hx hb dX2_copy_90 rfl (lv_at hl 2 rfl) ?_
              refine gf_X2_21_1 CX hL.loop.at rfl dX2_copy_91 ?_
              refine lv_iconst (v := nI 0) hx hb dX2_copy_94 rfl ?_
              refine lv_aload_n hx hb dX2_copy_95 rfl (lv_at hl 1 rfl) ?_
              refine gf_X2_21_1 CX hN.loop.at rfl dX2_copy_96 ?_
              refine lv_iconst (v := nI 0) hx hb dX2_copy_99 rfl ?_
              refine lv_bipush (v := nI 6) hx hb dX2_copy_100 rfl ?_
              refine b_copyi CX hl.1 q1091 q348 q347 q96 hL.sett.at hN.sett.at hS hN.sett.B (nI_pos (by decide)) (nI_pos (by decide)) (nI_pos (by decide)) (by decide) (by decide) (Nat.le_of_ble_eq_true rfl) (Nat.le_of_ble_eq_true rfl) dX2_copy_102 (fun H7 locs hat hu hS => ?_)
              have hat := b_cg hat (cpy_n (n := 6) (f := (fun j => S 0 0 (7 + j))) (by decide))
              have hL := hL.up hu hN.sett.tag (by omega)
              have hF := hF.up hA hu hN.sett.tag (fun _ => show 1000 * id2 ≤ (1000 * id2 + 5) ∧ (1000 * id2 + 5) < 1000 * id2 + 1000 by omega)
              have hN : LR G B0 τ1 id2 F1 M1 E1 H7 ((s_ct S)) ((fun _ _ => 0)) := hN.putT hat hu
              refine lv_iconst (v := nI 0) hx hb dX2_copy_105 rfl ?_
              refine lv_istore_n (lv' := [(2, .int (nI 0)), (1, .ref ((F1 0))), (0, .ref ((F 0)))]) hx hb dX2_copy_106 rfl hl (Nat.le_of_ble_eq_true rfl) rfl (fun ls hl => ?_)
              have hN : LR G B0 τ1 id2 F1 M1 E1 H7 ((s_ct S)) ((zc Z 0)) := by rw [← zc_0]; exact hN
              have lp107_8 : ∀ (n_ : Nat) (i : Nat), i ≤ 8 → 8 - i < n_ → ∀ (H9 : Heap), LR G B0 τ1 id F M E H9 S Z → LR G B0 τ1 id2 F1 M1 E1 H9 ((s_ct S)) ((zc Z i)) → b_Fr τ (fun t => 1000 * id2 ≤ t ∧ t < 1000 * id2 + 1000) H H9 → b_Ag τ τ1 H → ∀ (locs : List Loc), va_S (b_A B0) s.heap H9 locs → ∀ ls : Array Slot, lv_has ls 3 [(2, .int (nI i)), (1, .ref ((F1 0))), (0, .ref ((F 0)))] → W p l e ({ frames := 5, cells := 53, slots := 451, locals := 108 } : Room) s m ([.ref ((F 0))] : List Value).toArray below meth c H9 locs (29 + 4 * (ns S)) (253 + 33 * (ns S)) Q (F0 m 107 ls []) := by
                intro n_
                induction n_ with
                | zero => intro i hi hlt H9 hL hN hF hA locs hS ls hl; exact absurd hlt (Nat.not_lt_zero _)
                | succ n_ ih107 =>
                  intro i hi hlt H9 hL hN hF hA locs hS ls hl
                  refine lv_iload_n hx hb dX2_copy_107 rfl (lv_at hl 0 rfl) ?_
                  refine lv_bipush (v := nI 8) hx hb dX2_copy_108 rfl ?_
                  refine b_icmp_geN (tgt := 138) CX (by omega) (by omega) dX2_copy_110 (by decide) (fun c_110 => ?_) (fun c_110 => ?_)
                  · obtain rfl : i = 8 := by omega
                    refine lv_aload_n hx hb dX2_copy_138 rfl (lv_at hl 1 rfl) ?_
                    refine lv_aload_n hx hb dX2_copy_139 rfl (lv_at hl 2 rfl) ?_
                    refine gf_X2_60_1 CX hL.loop.at rfl dX2_copy_140 ?_
                    refine pf_X2_60_1 CX hN.loop.at hS hN.loop.B rfl rfl (Nat.le_of_ble_eq_true rfl) dX2_copy_143 (fun H10 locs hat hu hS => ?_)
                    have hL := hL.up hu hN.loop.tag (by omega)
                    have hF := hF.up hA hu hN.loop.tag (fun _ => show 1000 * id2 ≤ (1000 * id2 + 0) ∧ (1000 * id2 + 0) < 1000 * id2 + 1000 by omega)
                    have hN : LR G B0 τ1 id2 F1 M1 E1 H10 ((u3 (s_ct S) 0 0 2 (S 0 0 2))) ((zc Z 8)) := hN.set0 (w := 2) (by decide) hat hu (by simp [l_cnt, u3])
                    refine lv_aload_n hx hb dX2_copy_146 rfl (lv_at hl 1 rfl) ?_
                    refine lv_aload_n hx hb dX2_copy_147 rfl (lv_at hl 2 rfl) ?_
                    refine gf_X2_64_1 CX hL.loop.at rfl dX2_copy_148 ?_
                    refine pf_X2_64_1 CX hN.loop.at hS hN.loop.B rfl rfl (Nat.le_of_ble_eq_true rfl) dX2_copy_151 (fun H11 locs hat hu hS => ?_)
                    have hL := hL.up hu hN.loop.tag (by omega)
                    have hF := hF.up hA hu hN.loop.tag (fun _ => show 1000 * id2 ≤ (1000 * id2 + 0) ∧ (1000 * id2 + 0) < 1000 * id2 + 1000 by omega)
                    have hN : LR G B0 τ1 id2 F1 M1 E1 H11 ((u3 (u3 (s_ct S) 0 0 2 (S 0 0 2)) 0 0 3 (S 0 0 3))) ((zc Z 8)) := hN.set0 (w := 3) (by decide) hat hu (by simp [l_cnt, u3])
                    refine lv_aload_n hx hb dX2_copy_154 rfl (lv_at hl 1 rfl) ?_
                    refine lv_aload_n hx hb dX2_copy_155 rfl (lv_at hl 2 rfl) ?_
                    refine gf_X2_67_1 CX hL.loop.at rfl dX2_copy_156 ?_
                    refine pf_X2_67_1 CX hN.loop.at hS hN.loop.B rfl rfl (Nat.le_of_ble_eq_true rfl) dX2_copy_159 (fun H12 locs hat hu hS => ?_)
                    have hL := hL.up hu hN.loop.tag (by omega)
                    have hF := hF.up hA hu hN.loop.tag (fun _ => show 1000 * id2 ≤ (1000 * id2 + 0) ∧ (1000 * id2 + 0) < 1000 * id2 + 1000 by omega)
                    have hN : LR G B0 τ1 id2 F1 M1 E1 H12 ((u3 (u3 (u3 (s_ct S) 0 0 2 (S 0 0 2)) 0 0 3 (S 0 0 3)) 0 0 4 (S 0 0 4))) ((zc Z 8)) := hN.set0 (w := 4) (by decide) hat hu (by simp [l_cnt, u3])
                    refine lv_aload_n hx hb dX2_copy_162 rfl (lv_at hl 1 rfl) ?_
                    refine lv_aload_n hx hb dX2_copy_163 rfl (lv_at hl 2 rfl) ?_
                    refine gf_X2_70_1 CX hL.loop.at rfl dX2_copy_164 ?_
                    refine pf_X2_70_1 CX hN.loop.at hS hN.loop.B rfl rfl (Nat.le_of_ble_eq_true rfl) dX2_copy_167 (fun H13 locs hat hu hS => ?_)
                    have hL := hL.up hu hN.loop.tag (by omega)
                    have hF := hF.up hA hu hN.loop.tag (fun _ => show 1000 * id2 ≤ (1000 * id2 + 0) ∧ (1000 * id2 + 0) < 1000 * id2 + 1000 by omega)
                    have hN : LR G B0 τ1 id2 F1 M1 E1 H13 ((u3 (u3 (u3 (u3 (s_ct S) 0 0 2 (S 0 0 2)) 0 0 3 (S 0 0 3)) 0 0 4 (S 0 0 4)) 0 0 5 (S 0 0 5))) ((zc Z 8)) := hN.set0 (w := 5) (by decide) hat hu (by simp [l_cnt, u3])
                    refine lv_aload_n hx hb dX2_copy_170 rfl (lv_at hl 1 rfl) ?_
                    refine lv_aload_n hx hb dX2_copy_171 rfl (lv_at hl 2 rfl) ?_
                    refine gf_X2_73_1 CX hL.loop.at rfl dX2_copy_172 ?_
                    refine pf_X2_73_1 CX hN.loop.at hS hN.loop.B rfl rfl (Nat.le_of_ble_eq_true rfl) dX2_copy_175 (fun H14 locs hat hu hS => ?_)
                    have hL := hL.up hu hN.loop.tag (by omega)
                    have hF := hF.up hA hu hN.loop.tag (fun _ => show 1000 * id2 ≤ (1000 * id2 + 0) ∧ (1000 * id2 + 0) < 1000 * id2 + 1000 by omega)
                    have hN : LR G B0 τ1 id2 F1 M1 E1 H14 ((u3 (u3 (u3 (u3 (u3 (s_ct S) 0 0 2 (S 0 0 2)) 0 0 3 (S 0 0 3)) 0 0 4 (S 0 0 4)) 0 0 5 (S 0 0 5)) 0 0 6 (S 0 0 6))) ((zc Z 8)) := hN.set0 (w := 6) (by decide) hat hu (by simp [l_cnt, u3])
                    refine lv_aload_n hx hb dX2_copy_178 rfl (lv_at hl 1 rfl) ?_
                    rw [← hQ]
                    exact b_aret (v := some ((F1 0))) CX hr (Or.inl ⟨_, rfl⟩) hlk hS (by omega) (by omega) dX2_copy_179 (⟨_, _, _, _, rfl, hA, hF, LR.c9 (S := S) hN hW (by omega) (by omega)⟩)
                  · refine lv_aload_n hx hb dX2_copy_113 rfl (lv_at hl 2 rfl) ?_
                    refine gf_X2_27_1 CX hL.loop.at rfl dX2_copy_114 ?_
                    refine lv_iload_n hx hb dX2_copy_117 rfl (lv_at hl 0 rfl) ?_
                    refine b_gld CX hL.rows.at (x := (F (10 + i))) (vp_in_nI (by omega) (by omega)) (b_at_nQ (f := fun j => some (F (10 + j))) (n := i) (by omega) rfl) dX2_copy_118 ?_
                    refine lv_iconst (v := nI 0) hx hb dX2_copy_119 rfl ?_
                    refine lv_aload_n hx hb dX2_copy_120 rfl (lv_at hl 1 rfl) ?_
                    refine gf_X2_27_1 CX hN.loop.at rfl dX2_copy_121 ?_
                    refine lv_iload_n hx hb dX2_copy_124 rfl (lv_at hl 0 rfl) ?_
                    refine b_gld CX hN.rows.at (x := (F1 (10 + i))) (vp_in_nI (by omega) (by omega)) (b_at_nQ (f := fun j => some (F1 (10 + j))) (n := i) (by omega) rfl) dX2_copy_125 ?_
                    refine lv_iconst (v := nI 0) hx hb dX2_copy_126 rfl ?_
                    refine lv_bipush (v := nI 8) hx hb dX2_copy_127 rfl ?_
                    refine b_copyi CX hl.1 q1091 q348 q347 q96 (hL.row (i := i) (by omega)).at (hN.row (i := i) (by omega)).at hS (hN.row (i := i) (by omega)).B (nI_pos (by decide)) (nI_pos (by decide)) (nI_pos (by decide)) (by decide) (by decide) (Nat.le_of_ble_eq_true rfl) (Nat.le_of_ble_eq_true rfl) dX2_copy_129 (fun H15 locs hat hu hS => ?_)
                    have hat := b_cg hat (cpy_n (n := 8) (f := (Z i)) (by decide))
                    have hL := hL.up hu (hN.row (i := i) (by omega)).tag (by omega)
                    have hF := hF.up hA hu (hN.row (i := i) (by omega)).tag (fun _ => show 1000 * id2 ≤ (1000 * id2 + (10 + i)) ∧ (1000 * id2 + (10 + i)) < 1000 * id2 + 1000 by omega)
                    have hN : LR G B0 τ1 id2 F1 M1 E1 H15 ((s_ct S)) ((zc Z (i + 1))) := hN.setR (by omega) hat hu
                    refine lv_iinc (v := nI (i + 1)) (lv' := [(2, .int (nI (i + 1))), (1, .ref ((F1 0))), (0, .ref ((F 0)))]) hx hb dX2_copy_132 hl (k := 0) rfl (nI_1 _) (Nat.le_of_ble_eq_true rfl) rfl (fun ls hl => ?_)
                    refine lv_goto (tgt := 107) hx hb dX2_copy_135 (by decide) ?_
                    exact ih107 (i + 1) (by omega) (by omega) H15 hL hN hF hA _ hS ls (lv_sub hl [0, 1, 2] rfl)
              exact lp107_8 _ 0 (Nat.zero_le _) (Nat.lt_succ_self _) H7 hL hN hF hA _ hS ls (lv_sub hl [0, 1, 2] rfl)
            · have hnN : nb (s_cs S i) = nb S := s_cs_n S i (by omega)
              have hsN : ns (s_cs S i) = i := s_cs_s S (by omega)
              refine lv_aload_n hx hb dX2_copy_62 rfl (lv_at hl 1 rfl) ?_
              refine gf_X2_18_1 CX hN.loop.at rfl dX2_copy_63 ?_
              refine lv_aload_n hx hb dX2_copy_66 rfl (lv_at hl 2 rfl) ?_
              refine gf_X2_18_1 CX hL.loop.at rfl dX2_copy_67 ?_
              refine lv_iload_n hx hb dX2_copy_70 rfl (lv_at hl 0 rfl) ?_
              refine b_cq0 (cs_X2_35 (rest := [.ref ((F1 3))]) CX hl.1 (m_J2_get l (a := (F 3)) (ta := 1000 * id + 3) (mc := M 3) (ra := (F 4)) (tr := 1000 * id + 4) (f := (fun j => F (30 + j))) (n := ns S) (i := i) (hL.alg3 hW (by omega)) (hL.arg4 (by omega)) (by omega) (by omega)) rfl rfl rfl (hL.alg3 hW (by omega)).at hS rfl ⟨rfl, rfl, Nat.le_of_ble_eq_true rfl, Nat.le_of_ble_eq_true rfl⟩ (Nat.le_of_ble_eq_true rfl) dX2_copy_71 ⟨by show _ ≤ 53; omega, by show _ ≤ 451; omega⟩) hS (fun locs hS => ?_)
              refine b_cast CX (ci := 5) rfl (hL.shop (k := i) (by omega)).at q1043 dX2_copy_74 ?_
              refine b_cq (cs_X2_51 (rest := [.ref ((F1 3))]) CX hl.1 (m_X5_copy l (a := (F (30 + i))) (ta := 1000 * id + (30 + i)) (fa := (F (40 + i))) (tf := 1000 * id + (40 + i)) (f := (fun j => S 4 i j)) (ea := (F (50 + i))) (te := 1000 * id + (50 + i)) (g := (fun j => S 5 i j)) (v0 := S 2 i 0) (v1 := S 2 i 1) (v2 := S 2 i 2) (v3 := S 2 i 3) (v4 := S 2 i 4) (tq := (1000 * id2 + (30 + i))) (t1 := (1000 * id2 + (40 + i))) (t2 := (1000 * id2 + (50 + i))) (hL.shop (k := i) (by omega)) (hL.full (k := i) (by omega)) (hL.empt (k := i) (by omega)) (by omega) (by omega) (by omega) (by omega) (by omega) (by omega) (by omega) (by omega) (by omega) (by omega) (by omega) (by omega)) rfl rfl rfl (hL.shop (k := i) (by omega)).at hS rfl ⟨rfl, rfl, Nat.le_of_ble_eq_true rfl, Nat.le_of_ble_eq_true rfl⟩ (Nat.le_of_ble_eq_true rfl) dX2_copy_77 ⟨by show _ ≤ 53; omega, by show _ ≤ 451; omega⟩) hS (fun r H16 locs hp hS => ?_)
              obtain ⟨τ16, q16, q116, q216, rfl, hA9, hF9, hr0, hr1, hr2, hx0, hx1, hx2⟩ := hp
              have hL := hL.ca hF9 hA9 (fun i9 hi9 => show ¬ ((1000 * id + i9) = ((1000 * id2 + (30 + i))) ∨ (1000 * id + i9) = ((1000 * id2 + (40 + i))) ∨ (1000 * id + i9) = ((1000 * id2 + (50 + i)))) by omega)
              have hN := hN.cau hF9 hA9 (fun i9 hi9 => by unfold l_use at hi9; show ¬ ((1000 * id2 + i9) = ((1000 * id2 + (30 + i))) ∨ (1000 * id2 + i9) = ((1000 * id2 + (40 + i))) ∨ (1000 * id2 + i9) = ((1000 * id2 + (50 + i)))); omega)
              have hz9 := hF.1
              have hF0 := hF.tr hA hF9 (fun q9 hq9 x9 => by have x8 : τ q9 = ((1000 * id2 + (30 + i))) ∨ τ q9 = ((1000 * id2 + (40 + i))) ∨ τ q9 = ((1000 * id2 + (50 + i))) := x9; show 1000 * id2 ≤ τ q9 ∧ τ q9 < 1000 * id2 + 1000; omega)
              have hA := hA.tr hA9 hF.1
              have hF := hF0
              have hc_nw16 : b_tt G B0 τ16 H16 q16 (((1000 * id2 + (30 + i)))) (.inr (5, [.ref q116, .ref q216, .int ((S 2 i 0)), .int ((S 2 i 1)), .int ((S 2 i 2)), .int ((S 2 i 3)), .int ((S 2 i 4))])) := hx0
              have fr_nw16 : H.size ≤ q16 := Nat.le_trans hz9 hr0
              have hc_fu16 : b_tt G B0 τ16 H16 q116 (((1000 * id2 + (40 + i)))) (.inl (G.2.1 0, 8, .inl (((fun j => S 4 i j))))) := hx1
              have fr_fu16 : H.size ≤ q116 := Nat.le_trans hz9 hr1
              have hc_em16 : b_tt G B0 τ16 H16 q216 (((1000 * id2 + (50 + i)))) (.inl (G.2.1 0, 8, .inl (((fun j => S 5 i j))))) := hx2
              have fr_em16 : H.size ≤ q216 := Nat.le_trans hz9 hr2
              rcases hE1 : E1 3 with _ | _
              · have hnn : ((s_cs S i)) 0 0 1 = nI (ns ((s_cs S i))) := by rw [s_cs_s S (by omega)]; unfold s_cs; rw [if_pos ⟨rfl, rfl, rfl⟩]
                have he1 := hN.ale3 hE1 hnn
                have hc_al := he1.1
                have he0 := he1.2
                have ho9 : ∀ j, l_use (nb ((s_cs S i))) (ns ((s_cs S i))) E1 j → ¬ j = 3 → ¬ j = 4 → b_tt G B0 τ16 H16 (F1 j) (1000 * id2 + j) (l_cnt G F1 ((s_cs S i)) ((fun _ _ => 0)) M1 E1 j) := fun j h1 h2 h3 => hN.1 j h1
                refine b_ci (cs_X2_45 (rest := []) CX hl.1 (m_J2_add_s l (a := (F1 3)) (ta := 1000 * id2 + 3) (mc := M1 3) (v := q16) (tv := ((1000 * id2 + (30 + i)))) (ci := 5) (fs := [.ref q116, .ref q216, .int ((S 2 i 0)), .int ((S 2 i 1)), .int ((S 2 i 2)), .int ((S 2 i 3)), .int ((S 2 i 4))]) (tr := (1000 * id2 + 4)) hc_al hc_nw16 ⟨_, rfl, q2238⟩ (by omega) (by omega) (by omega)) rfl rfl rfl hc_al.at hS rfl ⟨rfl, rfl, Nat.le_of_ble_eq_true rfl, Nat.le_of_ble_eq_true rfl⟩ (Nat.le_of_ble_eq_true rfl) dX2_copy_80 ⟨by show _ ≤ 53; omega, by show _ ≤ 451; omega⟩) hS (fun r H17 locs hp hS => ?_)
                obtain ⟨τ17, q17, rfl, hA9, hF9, hr0, hx0, hx1⟩ := hp
                have hL := hL.ca hF9 hA9 (fun i9 hi9 => show ¬ ((1000 * id + i9) = (1000 * id2 + 3) ∨ (1000 * id + i9) = ((1000 * id2 + 4))) by omega)
                have hc_nw16 := hc_nw16.ca hF9 hA9 (show ¬ ((((1000 * id2 + (30 + i)))) = (1000 * id2 + 3) ∨ (((1000 * id2 + (30 + i)))) = ((1000 * id2 + 4))) by omega)
                have hc_fu16 := hc_fu16.ca hF9 hA9 (show ¬ ((((1000 * id2 + (40 + i)))) = (1000 * id2 + 3) ∨ (((1000 * id2 + (40 + i)))) = ((1000 * id2 + 4))) by omega)
                have hc_em16 := hc_em16.ca hF9 hA9 (show ¬ ((((1000 * id2 + (50 + i)))) = (1000 * id2 + 3) ∨ (((1000 * id2 + (50 + i)))) = ((1000 * id2 + 4))) by omega)
                have ho9 := fun j h1 h2 h3 => (ho9 j h1 h2 h3).ca hF9 hA9 (show ¬ ((1000 * id2 + j) = (1000 * id2 + 3) ∨ (1000 * id2 + j) = ((1000 * id2 + 4))) by omega)
                have hz9 := hF.1
                have hF0 := hF.tr hA hF9 (fun q9 hq9 x9 => by have x8 : τ q9 = (1000 * id2 + 3) ∨ τ q9 = ((1000 * id2 + 4)) := x9; show 1000 * id2 ≤ τ q9 ∧ τ q9 < 1000 * id2 + 1000; omega)
                have hA := hA.tr hA9 hF.1
                have hF := hF0
                have hc_al : b_tt G B0 τ17 H17 ((F1 3)) (1000 * id2 + 3) (.inr (2, [.int ((M1 3) + 1), .ref q17, .int (nI 1)])) := hx0
                have hc_arr17 : b_tt G B0 τ17 H17 q17 (((1000 * id2 + 4))) (.inl (G.2.1 2, q_refs 10 ((fun j => if j < 1 then some q16 else none)))) := hx1
                have fr_arr17 : H.size ≤ q17 := Nat.le_trans hz9 hr0
                have hc_arr17 : b_tt G B0 τ17 H17 q17 (((1000 * id2 + 4))) (.inl (G.2.1 2, q_refs 10 ((fun j => if j < i + 1 then some (if j = i then q16 else F1 (30 + j)) else none)))) := b_tt.cgr hc_arr17 (fun j hj => by have h0 : i = 0 := (by omega); show (if j < 1 then _ else _) = _; by_cases c9 : j < 1 <;> first | rw [if_pos c9, if_pos (by omega), if_pos (by omega)] | rw [if_neg c9, if_neg (by omega)])
                have hc_al : b_tt G B0 τ17 H17 ((F1 3)) (1000 * id2 + 3) (.inr (2, [.int ((M1 3) + 1), .ref q17, .int (nI (i + 1))])) := hc_al.cg (by rw [show (i : Nat) = 0 by omega])
                have hN : LR G B0 τ17 id2 ((upS F1 i q16 q116 q216 q17)) ((upd M1 3 ((M1 3) + 1))) ((upB E1 3)) H17 ((s_cs S (i + 1))) ((fun _ _ => 0)) := hN.cpS (by omega) ho9 hc_al hc_arr17 hc_nw16 hc_fu16 hc_em16
                rw [← upS_0 (F := F1) (i := i) (q := q16) (q1 := q116) (q2 := q216) (r := q17)] at hl
                refine lv_pop hx hb dX2_copy_83 rfl ?_
                refine lv_iinc (v := nI (i + 1)) (lv' := [(2, .int (nI (i + 1))), (1, .ref (((upS F1 i q16 q116 q216 q17) 0))), (0, .ref ((F 0)))]) hx hb dX2_copy_84 hl (k := 0) rfl (nI_1 _) (Nat.le_of_ble_eq_true rfl) rfl (fun ls hl => ?_)
                refine lv_goto (tgt := 51) hx hb dX2_copy_87 (by decide) ?_
                refine W.widen (k := 29 + 4 * (i + 1)) (n := 253 + 33 * (i + 1)) (by omega) (by omega) ?_
                exact ih51 (i + 1) (by omega) (by omega) H17 _ _ _ _ hL hN hF hA _ hS ls (lv_sub hl [0, 1, 2] rfl)
              · have hnn : ((s_cs S i)) 0 0 1 = nI (ns ((s_cs S i))) := by rw [s_cs_s S (by omega)]; unfold s_cs; rw [if_pos ⟨rfl, rfl, rfl⟩]
                have hc_al := hN.alf3 hE1 hnn
                have hc_ar := hN.ar4 hE1
                rw [s_cs_s S (i := i) (by omega)] at hc_al hc_ar
                have ho9 : ∀ j, l_use (nb ((s_cs S i))) (ns ((s_cs S i))) E1 j → ¬ j = 3 → ¬ j = 4 → b_tt G B0 τ16 H16 (F1 j) (1000 * id2 + j) (l_cnt G F1 ((s_cs S i)) ((fun _ _ => 0)) M1 E1 j) := fun j h1 h2 h3 => hN.1 j h1
                refine b_ci (cs_X2_45 (rest := []) CX hl.1 (m_J2_add_d l (a := (F1 3)) (ta := 1000 * id2 + 3) (mc := M1 3) (ra := (F1 4)) (tr := (1000 * id2 + 4)) (f := (fun j => F1 (30 + j))) (n := i) (v := q16) (tv := ((1000 * id2 + (30 + i)))) (ci := 5) (fs := [.ref q116, .ref q216, .int ((S 2 i 0)), .int ((S 2 i 1)), .int ((S 2 i 2)), .int ((S 2 i 3)), .int ((S 2 i 4))]) hc_al hc_ar hc_nw16 ⟨_, rfl, q2238⟩ (by omega) (by omega) (by omega) (by omega)) rfl rfl rfl hc_al.at hS rfl ⟨rfl, rfl, Nat.le_of_ble_eq_true rfl, Nat.le_of_ble_eq_true rfl⟩ (Nat.le_of_ble_eq_true rfl) dX2_copy_80 ⟨by show _ ≤ 53; omega, by show _ ≤ 451; omega⟩) hS (fun r H18 locs hp hS => ?_)
                obtain ⟨rfl, hF9, hx0, hx1⟩ := hp
                have hL := hL.fr hF9 (fun i9 hi9 => show ¬ ((1000 * id + i9) = (1000 * id2 + 3) ∨ (1000 * id + i9) = ((1000 * id2 + 4))) by omega)
                have hc_nw16 := hc_nw16.fr hF9 (show ¬ ((((1000 * id2 + (30 + i)))) = (1000 * id2 + 3) ∨ (((1000 * id2 + (30 + i)))) = ((1000 * id2 + 4))) by omega)
                have hc_fu16 := hc_fu16.fr hF9 (show ¬ ((((1000 * id2 + (40 + i)))) = (1000 * id2 + 3) ∨ (((1000 * id2 + (40 + i)))) = ((1000 * id2 + 4))) by omega)
                have hc_em16 := hc_em16.fr hF9 (show ¬ ((((1000 * id2 + (50 + i)))) = (1000 * id2 + 3) ∨ (((1000 * id2 + (50 + i)))) = ((1000 * id2 + 4))) by omega)
                have ho9 := fun j h1 h2 h3 => (ho9 j h1 h2 h3).fr hF9 (show ¬ ((1000 * id2 + j) = (1000 * id2 + 3) ∨ (1000 * id2 + j) = ((1000 * id2 + 4))) by omega)
                have hz9 := hF.1
                have hF0 := hF.tr hA hF9 (fun q9 hq9 x9 => by have x8 : τ q9 = (1000 * id2 + 3) ∨ τ q9 = ((1000 * id2 + 4)) := x9; show 1000 * id2 ≤ τ q9 ∧ τ q9 < 1000 * id2 + 1000; omega)
                have hF := hF0
                have hc_al : b_tt G B0 τ16 H18 ((F1 3)) (1000 * id2 + 3) (.inr (2, [.int ((M1 3) + 1), .ref (((F1 4))), .int (nI (i + 1))])) := hx0
                have hc_ar : b_tt G B0 τ16 H18 ((F1 4)) (1000 * id2 + 4) (.inl (G.2.1 2, q_refs 10 ((fun j => if j < i + 1 then some (if j = i then q16 else ((fun j => F1 (30 + j))) j) else none)))) := hx1
                have hN : LR G B0 τ16 id2 ((upS F1 i q16 q116 q216 (F1 4))) ((upd M1 3 ((M1 3) + 1))) ((upB E1 3)) H18 ((s_cs S (i + 1))) ((fun _ _ => 0)) := hN.cpS (by omega) ho9 hc_al hc_ar hc_nw16 hc_fu16 hc_em16
                rw [← upS_0 (F := F1) (i := i) (q := q16) (q1 := q116) (q2 := q216) (r := (F1 4))] at hl
                refine lv_pop hx hb dX2_copy_83 rfl ?_
                refine lv_iinc (v := nI (i + 1)) (lv' := [(2, .int (nI (i + 1))), (1, .ref (((upS F1 i q16 q116 q216 (F1 4)) 0))), (0, .ref ((F 0)))]) hx hb dX2_copy_84 hl (k := 0) rfl (nI_1 _) (Nat.le_of_ble_eq_true rfl) rfl (fun ls hl => ?_)
                refine lv_goto (tgt := 51) hx hb dX2_copy_87 (by decide) ?_
                refine W.widen (k := 29 + 4 * (i + 1)) (n := 253 + 33 * (i + 1)) (by omega) (by omega) ?_
                exact ih51 (i + 1) (by omega) (by omega) H18 _ _ _ _ hL hN hF hA _ hS ls (lv_sub hl [0, 1, 2] rfl)
        refine W.widen (k := 29 + 4 * 0) (n := 253 + 33 * 0) (by omega) (by omega) ?_
        exact lp51_5 _ 0 (Nat.zero_le _) (Nat.lt_succ_self _) H4 _ _ _ _ hL hN hF hA _ hS ls (lv_sub hl [0, 1, 2] rfl)
      · have hnN : nb (s_cb S i) = i := s_cb_n S (by omega)
        have hsN : ns (s_cb S i) = 0 := s_cb_s S i
        refine lv_aload_n hx hb dX2_copy_21 rfl (lv_at hl 1 rfl) ?_
        refine gf_X2_12_1 CX hN.loop.at rfl dX2_copy_22 ?_
        refine lv_aload_n hx hb dX2_copy_25 rfl (lv_at hl 2 rfl) ?_
        refine gf_X2_12_1 CX hL.loop.at rfl dX2_copy_26 ?_
        refine lv_iload_n hx hb dX2_copy_29 rfl (lv_at hl 0 rfl) ?_
        refine b_cq0 (cs_X2_35 (rest := [.ref ((F1 1))]) CX hl.1 (m_J2_get l (a := (F 1)) (ta := 1000 * id + 1) (mc := M 1) (ra := (F 2)) (tr := 1000 * id + 2) (f := (fun j => F (20 + j))) (n := nb S) (i := i) (hL.alg1 hW (by omega)) (hL.arg2 (by omega)) (by omega) (by omega)) rfl rfl rfl (hL.alg1 hW (by omega)).at hS rfl ⟨rfl, rfl, Nat.le_of_ble_eq_true rfl, Nat.le_of_ble_eq_true rfl⟩ (Nat.le_of_ble_eq_true rfl) dX2_copy_30 ⟨by show _ ≤ 53; omega, by show _ ≤ 451; omega⟩) hS (fun locs hS => ?_)
        refine b_cast CX (ci := 4) rfl (hL.brand (k := i) (by omega)).at q897 dX2_copy_33 ?_
        refine b_cq (cs_X2_41 (rest := [.ref ((F1 1))]) CX hl.1 (m_X4_copy l (a := (F (20 + i))) (ta := 1000 * id + (20 + i)) (v0 := S 1 i 0) (v1 := S 1 i 1) (v2 := S 1 i 2) (v3 := S 1 i 3) (v4 := S 1 i 4) (v5 := S 1 i 5) (v6 := S 1 i 6) (v7 := S 1 i 7) (v8 := S 1 i 8) (v9 := S 1 i 9) (tq := (1000 * id2 + (20 + i))) (hL.brand (k := i) (by omega)) (by omega)) rfl rfl rfl (hL.brand (k := i) (by omega)).at hS rfl ⟨rfl, rfl, Nat.le_of_ble_eq_true rfl, Nat.le_of_ble_eq_true rfl⟩ (Nat.le_of_ble_eq_true rfl) dX2_copy_36 ⟨by show _ ≤ 53; omega, by show _ ≤ 451; omega⟩) hS (fun r H19 locs hp hS => ?_)
        obtain ⟨τ19, q19, rfl, hA9, hF9, hr0, hx0⟩ := hp
        have hL := hL.ca hF9 hA9 (fun i9 hi9 => show ¬ ((1000 * id + i9) = ((1000 * id2 + (20 + i)))) by omega)
        have hN := hN.cau hF9 hA9 (fun i9 hi9 => by unfold l_use at hi9; show ¬ ((1000 * id2 + i9) = ((1000 * id2 + (20 + i)))); omega)
        have hz9 := hF.1
        have hF0 := hF.tr hA hF9 (fun q9 hq9 x9 => by have x8 : τ q9 = ((1000 * id2 + (20 + i))) := x9; show 1000 * id2 ≤ τ q9 ∧ τ q9 < 1000 * id2 + 1000; omega)
        have hA := hA.tr hA9 hF.1
        have hF := hF0
        have hc_nw19 : b_tt G B0 τ19 H19 q19 (((1000 * id2 + (20 + i)))) (.inr (4, [.int ((S 1 i 0)), .int ((S 1 i 1)), .int ((S 1 i 2)), .int ((S 1 i 3)), .int ((S 1 i 4)), .int ((S 1 i 5)), .int ((S 1 i 6)), .int ((S 1 i 7)), .int ((S 1 i 8)), .int ((S 1 i 9))])) := hx0
        have fr_nw19 : H.size ≤ q19 := Nat.le_trans hz9 hr0
        rcases hE1 : E1 1 with _ | _
        · have hnn : ((s_cb S i)) 0 0 0 = nI (nb ((s_cb S i))) := by rw [s_cb_n S (by omega)]; unfold s_cb; rw [if_pos ⟨rfl, rfl, rfl⟩]
          have he1 := hN.ale1 hE1 hnn
          have hc_al := he1.1
          have he0 := he1.2
          have ho9 : ∀ j, l_use (nb ((s_cb S i))) (ns ((s_cb S i))) E1 j → ¬ j = 1 → ¬ j = 2 → b_tt G B0 τ19 H19 (F1 j) (1000 * id2 + j) (l_cnt G F1 ((s_cb S i)) ((fun _ _ => 0)) M1 E1 j) := fun j h1 h2 h3 => hN.1 j h1
          refine b_ci (cs_X2_45 (rest := []) CX hl.1 (m_J2_add_s l (a := (F1 1)) (ta := 1000 * id2 + 1) (mc := M1 1) (v := q19) (tv := ((1000 * id2 + (20 + i)))) (ci := 4) (fs := [.int ((S 1 i 0)), .int ((S 1 i 1)), .int ((S 1 i 2)), .int ((S 1 i 3)), .int ((S 1 i 4)), .int ((S 1 i 5)), .int ((S 1 i 6)), .int ((S 1 i 7)), .int ((S 1 i 8)), .int ((S 1 i 9))]) (tr := (1000 * id2 + 2)) hc_al hc_nw19 ⟨_, rfl, q2237⟩ (by omega) (by omega) (by omega)) rfl rfl rfl hc_al.at hS rfl ⟨rfl, rfl, Nat.le_of_ble_eq_true rfl, Nat.le_of_ble_eq_true rfl⟩ (Nat.le_of_ble_eq_true rfl) dX2_copy_39 ⟨by show _ ≤ 53; omega, by show _ ≤ 451; omega⟩) hS (fun r H20 locs hp hS => ?_)
          obtain ⟨τ20, q20, rfl, hA9, hF9, hr0, hx0, hx1⟩ := hp
          have hL := hL.ca hF9 hA9 (fun i9 hi9 => show ¬ ((1000 * id + i9) = (1000 * id2 + 1) ∨ (1000 * id + i9) = ((1000 * id2 + 2))) by omega)
          have hc_nw19 := hc_nw19.ca hF9 hA9 (show ¬ ((((1000 * id2 + (20 + i)))) = (1000 * id2 + 1) ∨ (((1000 * id2 + (20 + i)))) = ((1000 * id2 + 2))) by omega)
          have ho9 := fun j h1 h2 h3 => (ho9 j h1 h2 h3).ca hF9 hA9 (show ¬ ((1000 * id2 + j) = (1000 * id2 + 1) ∨ (1000 * id2 + j) = ((1000 * id2 + 2))) by omega)
          have hz9 := hF.1
          have hF0 := hF.tr hA hF9 (fun q9 hq9 x9 => by have x8 : τ q9 = (1000 * id2 + 1) ∨ τ q9 = ((1000 * id2 + 2)) := x9; show 1000 * id2 ≤ τ q9 ∧ τ q9 < 1000 * id2 + 1000; omega)
          have hA := hA.tr hA9 hF.1
          have hF := hF0
          have hc_al : b_tt G B0 τ20 H20 ((F1 1)) (1000 * id2 + 1) (.inr (2, [.int ((M1 1) + 1), .ref q20, .int (nI 1)])) := hx0
          have hc_arr20 : b_tt G B0 τ20 H20 q20 (((1000 * id2 + 2))) (.inl (G.2.1 2, q_refs 10 ((fun j => if j < 1 then some q19 else none)))) := hx1
          have fr_arr20 : H.size ≤ q20 := Nat.le_trans hz9 hr0
          have hc_arr20 : b_tt G B0 τ20 H20 q20 (((1000 * id2 + 2))) (.inl (G.2.1 2, q_refs 10 ((fun j => if j < i + 1 then some (if j = i then q19 else F1 (20 + j)) else none)))) := b_tt.cgr hc_arr20 (fun j hj => by have h0 : i = 0 := (by omega); show (if j < 1 then _ else _) = _; by_cases c9 : j < 1 <;> first | rw [if_pos c9, if_pos (by omega), if_pos (by omega)] | rw [if_neg c9, if_neg (by omega)])
          have hc_al : b_tt G B0 τ20 H20 ((F1 1)) (1000 * id2 + 1) (.inr (2, [.int ((M1 1) + 1), .ref q20, .int (nI (i + 1))])) := hc_al.cg (by rw [show (i : Nat) = 0 by omega])
          have hN : LR G B0 τ20 id2 ((upF F1 (20 + i) q19 2 q20)) ((upd M1 1 ((M1 1) + 1))) ((upB E1 1)) H20 ((s_cb S (i + 1))) ((fun _ _ => 0)) := hN.cpB (by omega) ho9 hc_al hc_arr20 hc_nw19
          rw [← upF_0 (F := F1) (i := i) (q := q19) (r := q20)] at hl
          refine lv_pop hx hb dX2_copy_42 rfl ?_
          refine lv_iinc (v := nI (i + 1)) (lv' := [(2, .int (nI (i + 1))), (1, .ref (((upF F1 (20 + i) q19 2 q20) 0))), (0, .ref ((F 0)))]) hx hb dX2_copy_43 hl (k := 0) rfl (nI_1 _) (Nat.le_of_ble_eq_true rfl) rfl (fun ls hl => ?_)
          refine lv_goto (tgt := 10) hx hb dX2_copy_46 (by decide) ?_
          refine W.widen (k := 13 + 2 * (i + 1)) (n := 93 + 20 * (i + 1)) (by omega) (by omega) ?_
          exact ih10 (i + 1) (by omega) (by omega) H20 _ _ _ _ hL hN hF hA _ hS ls (lv_sub hl [0, 1, 2] rfl)
        · have hnn : ((s_cb S i)) 0 0 0 = nI (nb ((s_cb S i))) := by rw [s_cb_n S (by omega)]; unfold s_cb; rw [if_pos ⟨rfl, rfl, rfl⟩]
          have hc_al := hN.alf1 hE1 hnn
          have hc_ar := hN.ar2 hE1
          rw [s_cb_n S (i := i) (by omega)] at hc_al hc_ar
          have ho9 : ∀ j, l_use (nb ((s_cb S i))) (ns ((s_cb S i))) E1 j → ¬ j = 1 → ¬ j = 2 → b_tt G B0 τ19 H19 (F1 j) (1000 * id2 + j) (l_cnt G F1 ((s_cb S i)) ((fun _ _ => 0)) M1 E1 j) := fun j h1 h2 h3 => hN.1 j h1
          refine b_ci (cs_X2_45 (rest := []) CX hl.1 (m_J2_add_d l (a := (F1 1)) (ta := 1000 * id2 + 1) (mc := M1 1) (ra := (F1 2)) (tr := (1000 * id2 + 2)) (f := (fun j => F1 (20 + j))) (n := i) (v := q19) (tv := ((1000 * id2 + (20 + i)))) (ci := 4) (fs := [.int ((S 1 i 0)), .int ((S 1 i 1)), .int ((S 1 i 2)), .int ((S 1 i 3)), .int ((S 1 i 4)), .int ((S 1 i 5)), .int ((S 1 i 6)), .int ((S 1 i 7)), .int ((S 1 i 8)), .int ((S 1 i 9))]) hc_al hc_ar hc_nw19 ⟨_, rfl, q2237⟩ (by omega) (by omega) (by omega) (by omega)) rfl rfl rfl hc_al.at hS rfl ⟨rfl, rfl, Nat.le_of_ble_eq_true rfl, Nat.le_of_ble_eq_true rfl⟩ (Nat.le_of_ble_eq_true rfl) dX2_copy_39 ⟨by show _ ≤ 53; omega, by show _ ≤ 451; omega⟩) hS (fun r H21 locs hp hS => ?_)
          obtain ⟨rfl, hF9, hx0, hx1⟩ := hp
          have hL := hL.fr hF9 (fun i9 hi9 => show ¬ ((1000 * id + i9) = (1000 * id2 + 1) ∨ (1000 * id + i9) = ((1000 * id2 + 2))) by omega)
          have hc_nw19 := hc_nw19.fr hF9 (show ¬ ((((1000 * id2 + (20 + i)))) = (1000 * id2 + 1) ∨ (((1000 * id2 + (20 + i)))) = ((1000 * id2 + 2))) by omega)
          have ho9 := fun j h1 h2 h3 => (ho9 j h1 h2 h3).fr hF9 (show ¬ ((1000 * id2 + j) = (1000 * id2 + 1) ∨ (1000 * id2 + j) = ((1000 * id2 + 2))) by omega)
          have hz9 := hF.1
          have hF0 := hF.tr hA hF9 (fun q9 hq9 x9 => by have x8 : τ q9 = (1000 * id2 + 1) ∨ τ q9 = ((1000 * id2 + 2)) := x9; show 1000 * id2 ≤ τ q9 ∧ τ q9 < 1000 * id2 + 1000; omega)
          have hF := hF0
          have hc_al : b_tt G B0 τ19 H21 ((F1 1)) (1000 * id2 + 1) (.inr (2, [.int ((M1 1) + 1), .ref (((F1 2))), .int (nI (i + 1))])) := hx0
          have hc_ar : b_tt G B0 τ19 H21 ((F1 2)) (1000 * id2 + 2) (.inl (G.2.1 2, q_refs 10 ((fun j => if j < i + 1 then some (if j = i then q19 else ((fun j => F1 (20 + j))) j) else none)))) := hx1
          have hN : LR G B0 τ19 id2 ((upF F1 (20 + i) q19 2 (F1 2))) ((upd M1 1 ((M1 1) + 1))) ((upB E1 1)) H21 ((s_cb S (i + 1))) ((fun _ _ => 0)) := hN.cpB (by omega) ho9 hc_al hc_ar hc_nw19
          rw [← upF_0 (F := F1) (i := i) (q := q19) (r := (F1 2))] at hl
          refine lv_pop hx hb dX2_copy_42 rfl ?_
          refine lv_iinc (v := nI (i + 1)) (lv' := [(2, .int (nI (i + 1))), (1, .ref (((upF F1 (20 + i) q19 2 (F1 2)) 0))), (0, .ref ((F 0)))]) hx hb dX2_copy_43 hl (k := 0) rfl (nI_1 _) (Nat.le_of_ble_eq_true rfl) rfl (fun ls hl => ?_)
          refine lv_goto (tgt := 10) hx hb dX2_copy_46 (by decide) ?_
          refine W.widen (k := 13 + 2 * (i + 1)) (n := 93 + 20 * (i + 1)) (by omega) (by omega) ?_
          exact ih10 (i + 1) (by omega) (by omega) H21 _ _ _ _ hL hN hF hA _ hS ls (lv_sub hl [0, 1, 2] rfl)
  refine W.widen (k := 13 + 2 * 0) (n := 93 + 20 * 0) (by omega) (by omega) ?_
  exact lp10_3 _ 0 (Nat.zero_le _) (Nat.lt_succ_self _) H2 _ _ _ _ hL hN hF hA _ hS ls (lv_sub hl [0, 1, 2] rfl)
