/-! ===== a list of a loop grows ===== -/
set_option maxRecDepth 100000
section PUSH
variable {G : b_G} {B0 : Nat} {τ τ1 : b_T} {id : Nat} {F : Nat → Nat} {M : Nat → Int32} {E : Nat → Bool} {H H1 : Heap} {S S1 : b_St} {Z : Nat → Nat → Int32}
def upF (F : Nat → Nat) (i q j r : Nat) : Nat → Nat := fun n => if n = i then q else if n = j then r else F n
def upB (E : Nat → Bool) (i : Nat) : Nat → Bool := fun n => if n = i then true else E n
theorem LR.pushB (h : LR G B0 τ id F M E H S Z) (hn : nb S < 8) {q r : Nat} {mc : Int32} {e : va_E}
    (ho : ∀ i, l_use (nb S) (ns S) E i → ¬ i = 1 → ¬ i = 2 → b_tt G B0 τ1 H1 (F i) (1000 * id + i) (l_cnt G F S Z M E i))
    (h1 : b_tt G B0 τ1 H1 (F 1) (1000 * id + 1) (.inr (2, [.int mc, .ref r, .int (nI (nb S + 1))])))
    (h2 : b_tt G B0 τ1 H1 r (1000 * id + 2) (.inl (G.2.1 2, q_refs 10 (fun j => if j < nb S + 1 then some (if j = nb S then q else F (20 + j)) else none))))
    (h3 : b_tt G B0 τ1 H1 q (1000 * id + (20 + nb S)) e) (he : e = .inr (4, [.int (S1 1 (nb S) 0), .int (S1 1 (nb S) 1), .int (S1 1 (nb S) 2), .int (S1 1 (nb S) 3), .int (S1 1 (nb S) 4), .int (S1 1 (nb S) 5), .int (S1 1 (nb S) 6), .int (S1 1 (nb S) 7), .int (S1 1 (nb S) 8), .int (S1 1 (nb S) 9)]))
    (hS0 : S1 0 0 0 = nI (nb S + 1)) (hSo : ∀ k i j, ¬ (k = 0 ∧ i = 0 ∧ j = 0) → ¬ (k = 1 ∧ i = nb S) → S1 k i j = S k i j) :
    LR G B0 τ1 id (upF F (20 + nb S) q 2 r) (upd M 1 mc) (upB E 1) H1 S1 Z := by
  have en : nb S1 = nb S + 1 := by unfold nb; rw [hS0]; exact nI_cl (by have : nb S < 8 := hn; unfold nb at this; omega)
  have es : ns S1 = ns S := by unfold ns; rw [hSo 0 0 1 (by omega) (by omega)]
  have h6 := h.2.2.2.2
  have f0 : ∀ n, ¬ n = 20 + nb S → ¬ n = 2 → upF F (20 + nb S) q 2 r n = F n := fun n a b => by unfold upF; rw [if_neg a, if_neg b]
  have fq : upF F (20 + nb S) q 2 r (20 + nb S) = q := if_pos rfl
  have fr : upF F (20 + nb S) q 2 r 2 = r := by unfold upF; rw [if_neg (by omega), if_pos rfl]
  refine ⟨fun i hi => ?_, Or.inl rfl, ?_, by omega, by omega⟩
  · rw [en, es] at hi
    by_cases c1 : i = 1
    · subst c1
      rw [f0 1 (by omega) (by omega)]
      refine h1.cg ?_
      show _ = (Sum.inr (2, ([Value.int (upd M 1 mc 1), Value.ref (if upB E 1 1 = true then upF F (20 + nb S) q 2 r 2 else G.2.2 0), Value.int (S1 0 0 0)] : List Value)) : va_E)
      rw [fr, hS0, show upB E 1 1 = true from rfl, show upd M 1 mc 1 = mc from rfl]
      rfl
    by_cases c2 : i = 2
    · subst c2
      rw [fr]
      refine h2.cg ?_
      have ef : (fun j => if j < nb S1 then some (upF F (20 + nb S) q 2 r (20 + j)) else none) = (fun j => if j < nb S + 1 then some (if j = nb S then q else F (20 + j)) else none) := by
        funext j
        rw [en]
        by_cases d : j = nb S
        · rw [if_pos d, d, fq]
        · rw [if_neg d, f0 (20 + j) (by omega) (by omega)]
      show _ = (Sum.inl (G.2.1 2, q_refs 10 (fun j => if j < nb S1 then some (upF F (20 + nb S) q 2 r (20 + j)) else none)) : va_E)
      rw [ef]
    by_cases c3 : i = 20 + nb S
    · subst c3
      rw [fq, l_c20 (by omega)]
      exact h3.cg he
    rw [f0 i c3 c2]
    have hu : l_use (nb S) (ns S) E i := by
      unfold l_use upB at hi
      unfold l_use
      grind
    by_cases c6 : i = 6
    · subst c6
      refine ⟨b_cgq (f := fun j => some (F (10 + j))) (ho 6 hu c1 c2).1 (fun j hj => ?_), (ho 6 hu c1 c2).2⟩
      show some (F (10 + j)) = some (upF F (20 + nb S) q 2 r (10 + j))
      rw [f0 (10 + j) (by omega) (by omega)]
    refine (ho i hu c1 c2).cg ?_
    have e0 : ∀ w, ¬ w = 0 → S1 0 0 w = S 0 0 w := fun w hw => hSo 0 0 w (by omega) (by omega)
    unfold l_cnt
    by_cases d0 : i = 0
    · rw [if_pos d0, if_pos d0, f0 1 (by omega) (by omega), f0 3 (by omega) (by omega), f0 5 (by omega) (by omega), f0 6 (by omega) (by omega), e0 2 (by decide), e0 3 (by decide), e0 4 (by decide), e0 5 (by decide), e0 6 (by decide)]
    rw [if_neg d0, if_neg d0, if_neg c1, if_neg c1, if_neg c2, if_neg c2]
    by_cases d3 : i = 3
    · rw [if_pos d3, if_pos d3, e0 1 (by decide), show upd M 1 mc 3 = M 3 from rfl, show upB E 1 3 = E 3 from rfl, f0 4 (by omega) (by omega)]
    rw [if_neg d3, if_neg d3]
    by_cases d4 : i = 4
    · have ef : (fun j => if j < ns S1 then some (upF F (20 + nb S) q 2 r (30 + j)) else none) = (fun j => if j < ns S then some (F (30 + j)) else none) := by
        funext j
        rw [es, f0 (30 + j) (by omega) (by omega)]
      rw [if_pos d4, if_pos d4, ef]
    rw [if_neg d4, if_neg d4]
    by_cases d5 : i = 5
    · have ef : (fun j => S1 0 0 (7 + j)) = fun j => S 0 0 (7 + j) := funext fun j => e0 _ (by omega)
      rw [if_pos d5, if_pos d5, ef]
    rw [if_neg d5, if_neg d5, if_neg c6, if_neg c6]
    by_cases d7 : i < 20
    · rw [if_pos d7, if_pos d7]
    rw [if_neg d7, if_neg d7]
    by_cases d8 : i < 30
    · have g : ∀ w, S1 1 (i - 20) w = S 1 (i - 20) w := fun w => hSo 1 (i - 20) w (by omega) (by omega)
      rw [if_pos d8, if_pos d8]
      simp only [g]
    rw [if_neg d8, if_neg d8]
    by_cases d9 : i < 40
    · have g : ∀ w, S1 2 (i - 30) w = S 2 (i - 30) w := fun w => hSo 2 (i - 30) w (by omega) (by omega)
      rw [if_pos d9, if_pos d9, f0 (40 + (i - 30)) (by omega) (by omega), f0 (50 + (i - 30)) (by omega) (by omega)]
      simp only [g]
    rw [if_neg d9, if_neg d9]
    by_cases d10 : i < 50
    · have g : ∀ w, S1 4 (i - 40) w = S 4 (i - 40) w := fun w => hSo 4 (i - 40) w (by omega) (by omega)
      rw [if_pos d10, if_pos d10]
      simp only [g]
    have g : ∀ w, S1 5 (i - 50) w = S 5 (i - 50) w := fun w => hSo 5 (i - 50) w (by omega) (by omega)
    rw [if_neg d10, if_neg d10]
    simp only [g]
  · rw [es]
    rcases h.2.2.1 with a | a
    · left; unfold upB; rw [if_neg (by decide)]; exact a
    · right; exact a
def upS (F : Nat → Nat) (k q q1 q2 r : Nat) : Nat → Nat := fun n => if n = 30 + k then q else if n = 40 + k then q1 else if n = 50 + k then q2 else if n = 4 then r else F n
theorem LR.pushS (h : LR G B0 τ id F M E H S Z) (hn : ns S < 6) {q q1 q2 r : Nat} {mc : Int32} {e : va_E} {f4 f5 : Nat → Int32}
    (ho : ∀ i, l_use (nb S) (ns S) E i → ¬ i = 3 → ¬ i = 4 → b_tt G B0 τ1 H1 (F i) (1000 * id + i) (l_cnt G F S Z M E i))
    (h1 : b_tt G B0 τ1 H1 (F 3) (1000 * id + 3) (.inr (2, [.int mc, .ref r, .int (nI (ns S + 1))])))
    (h2 : b_tt G B0 τ1 H1 r (1000 * id + 4) (.inl (G.2.1 2, q_refs 10 (fun j => if j < ns S + 1 then some (if j = ns S then q else F (30 + j)) else none))))
    (h3 : b_tt G B0 τ1 H1 q (1000 * id + (30 + ns S)) e) (he : e = .inr (5, [.ref q1, .ref q2, .int (S1 2 (ns S) 0), .int (S1 2 (ns S) 1), .int (S1 2 (ns S) 2), .int (S1 2 (ns S) 3), .int (S1 2 (ns S) 4)]))
    (h4 : b_tt G B0 τ1 H1 q1 (1000 * id + (40 + ns S)) (.inl (G.2.1 0, 8, .inl f4))) (e4 : ∀ j, j < 8 → f4 j = S1 4 (ns S) j)
    (h5 : b_tt G B0 τ1 H1 q2 (1000 * id + (50 + ns S)) (.inl (G.2.1 0, 8, .inl f5))) (e5 : ∀ j, j < 8 → f5 j = S1 5 (ns S) j)
    (hS0 : S1 0 0 1 = nI (ns S + 1)) (hSo : ∀ k i j, ¬ (k = 0 ∧ i = 0 ∧ j = 1) → ¬ (2 ≤ k ∧ k ≤ 5 ∧ ¬ k = 3 ∧ i = ns S) → S1 k i j = S k i j) :
    LR G B0 τ1 id (upS F (ns S) q q1 q2 r) (upd M 3 mc) (upB E 3) H1 S1 Z := by
  have es : ns S1 = ns S + 1 := by unfold ns; rw [hS0]; exact nI_cl (by have : ns S < 6 := hn; unfold ns at this; omega)
  have en : nb S1 = nb S := by unfold nb; rw [hSo 0 0 0 (by omega) (by omega)]
  have h6 := h.2.2.2.1
  have f0 : ∀ n, ¬ n = 30 + ns S → ¬ n = 40 + ns S → ¬ n = 50 + ns S → ¬ n = 4 → upS F (ns S) q q1 q2 r n = F n := fun n a b c d => by unfold upS; rw [if_neg a, if_neg b, if_neg c, if_neg d]
  have fq : upS F (ns S) q q1 q2 r (30 + ns S) = q := if_pos rfl
  have fq1 : upS F (ns S) q q1 q2 r (40 + ns S) = q1 := by unfold upS; rw [if_neg (by omega), if_pos rfl]
  have fq2 : upS F (ns S) q q1 q2 r (50 + ns S) = q2 := by unfold upS; rw [if_neg (by omega), if_neg (by omega), if_pos rfl]
  have fr : upS F (ns S) q q1 q2 r 4 = r := by unfold upS; rw [if_neg (by omega), if_neg (by omega), if_neg (by omega), if_pos rfl]
  refine ⟨fun i hi => ?_, ?_, Or.inl rfl, by omega, by omega⟩
  · rw [en, es] at hi
    by_cases c1 : i = 3
    · subst c1
      rw [f0 3 (by omega) (by omega) (by omega) (by omega)]
      refine h1.cg ?_
      show _ = (Sum.inr (2, ([Value.int (upd M 3 mc 3), Value.ref (if upB E 3 3 = true then upS F (ns S) q q1 q2 r 4 else G.2.2 0), Value.int (S1 0 0 1)] : List Value)) : va_E)
      rw [fr, hS0, show upB E 3 3 = true from rfl, show upd M 3 mc 3 = mc from rfl]
      rfl
    by_cases c2 : i = 4
    · subst c2
      rw [fr]
      refine h2.cg ?_
      have ef : (fun j => if j < ns S1 then some (upS F (ns S) q q1 q2 r (30 + j)) else none) = (fun j => if j < ns S + 1 then some (if j = ns S then q else F (30 + j)) else none) := by
        funext j
        rw [es]
        by_cases d : j = ns S
        · rw [if_pos d, d, fq]
        · by_cases d2 : j < ns S + 1
          · rw [if_pos d2, if_pos d2, if_neg d, f0 (30 + j) (by omega) (by omega) (by omega) (by omega)]
          · rw [if_neg d2, if_neg d2]
      show _ = (Sum.inl (G.2.1 2, q_refs 10 (fun j => if j < ns S1 then some (upS F (ns S) q q1 q2 r (30 + j)) else none)) : va_E)
      rw [ef]
    by_cases c3 : i = 30 + ns S
    · subst c3
      rw [fq, l_c30 (by omega), fq1, fq2]
      exact h3.cg he
    by_cases c4 : i = 40 + ns S
    · subst c4
      rw [fq1, l_c40 (by omega)]
      exact h4.ci e4
    by_cases c5 : i = 50 + ns S
    · subst c5
      rw [fq2, l_c50]
      exact h5.ci e5
    rw [f0 i c3 c4 c5 c2]
    have hu : l_use (nb S) (ns S) E i := by
      unfold l_use upB at hi
      unfold l_use
      grind
    have hib := hu.lt h6 (by omega)
    by_cases c6 : i = 6
    · subst c6
      refine ⟨b_cgq (f := fun j => some (F (10 + j))) (ho 6 hu c1 c2).1 (fun j hj => ?_), (ho 6 hu c1 c2).2⟩
      show some (F (10 + j)) = some (upS F (ns S) q q1 q2 r (10 + j))
      rw [f0 (10 + j) (by omega) (by omega) (by omega) (by omega)]
    refine (ho i hu c1 c2).cg ?_
    have e0 : ∀ w, ¬ w = 1 → S1 0 0 w = S 0 0 w := fun w hw => hSo 0 0 w (by omega) (by omega)
    unfold l_cnt
    by_cases d0 : i = 0
    · rw [if_pos d0, if_pos d0, f0 1 (by omega) (by omega) (by omega) (by omega), f0 3 (by omega) (by omega) (by omega) (by omega), f0 5 (by omega) (by omega) (by omega) (by omega), f0 6 (by omega) (by omega) (by omega) (by omega), e0 2 (by decide), e0 3 (by decide), e0 4 (by decide), e0 5 (by decide), e0 6 (by decide)]
    rw [if_neg d0, if_neg d0]
    by_cases d1 : i = 1
    · rw [if_pos d1, if_pos d1, e0 0 (by decide), show upd M 3 mc 1 = M 1 from rfl, show upB E 3 1 = E 1 from rfl, f0 2 (by omega) (by omega) (by omega) (by omega)]
    rw [if_neg d1, if_neg d1]
    by_cases d4 : i = 2
    · have ef : (fun j => if j < nb S1 then some (upS F (ns S) q q1 q2 r (20 + j)) else none) = (fun j => if j < nb S then some (F (20 + j)) else none) := by
        funext j
        rw [en]
        by_cases d2 : j < nb S
        · rw [if_pos d2, if_pos d2, f0 (20 + j) (by omega) (by omega) (by omega) (by omega)]
        · rw [if_neg d2, if_neg d2]
      rw [if_pos d4, if_pos d4, ef]
    rw [if_neg d4, if_neg d4, if_neg c1, if_neg c1, if_neg c2, if_neg c2]
    by_cases d5 : i = 5
    · have ef : (fun j => S1 0 0 (7 + j)) = fun j => S 0 0 (7 + j) := funext fun j => e0 _ (by omega)
      rw [if_pos d5, if_pos d5, ef]
    rw [if_neg d5, if_neg d5, if_neg c6, if_neg c6]
    by_cases d7 : i < 20
    · rw [if_pos d7, if_pos d7]
    rw [if_neg d7, if_neg d7]
    by_cases d8 : i < 30
    · have g : ∀ w, S1 1 (i - 20) w = S 1 (i - 20) w := fun w => hSo 1 (i - 20) w (by omega) (by omega)
      rw [if_pos d8, if_pos d8]
      simp only [g]
    rw [if_neg d8, if_neg d8]
    by_cases d9 : i < 40
    · have g : ∀ w, S1 2 (i - 30) w = S 2 (i - 30) w := fun w => hSo 2 (i - 30) w (by omega) (by omega)
      rw [if_pos d9, if_pos d9, f0 (40 + (i - 30)) (by omega) (by omega) (by omega) (by omega), f0 (50 + (i - 30)) (by omega) (by omega) (by omega) (by omega)]
      simp only [g]
    rw [if_neg d9, if_neg d9]
    by_cases d10 : i < 50
    · have g : ∀ w, S1 4 (i - 40) w = S 4 (i - 40) w := fun w => hSo 4 (i - 40) w (by omega) (by omega)
      rw [if_pos d10, if_pos d10]
      simp only [g]
    have g : ∀ w, S1 5 (i - 50) w = S 5 (i - 50) w := fun w => hSo 5 (i - 50) w (by omega) (by omega)
    rw [if_neg d10, if_neg d10]
    simp only [g]
  · rw [en]
    rcases h.2.1 with a | a
    · left; unfold upB; rw [if_neg (by decide)]; exact a
    · right; exact a
theorem LR.cau {T : Nat → Prop} (h : LR G B0 τ id F M E H S Z) (hF : b_Fr τ T H H1) (hA : b_Ag τ τ1 H) (hT : ∀ i, l_use (nb S) (ns S) E i → ¬ T (1000 * id + i)) : LR G B0 τ1 id F M E H1 S Z :=
  ⟨fun i hi => (h.1 i hi).ca hF hA (hT i hi), h.2⟩
theorem LR.fru {T : Nat → Prop} (h : LR G B0 τ id F M E H S Z) (hF : b_Fr τ T H H1) (hT : ∀ i, l_use (nb S) (ns S) E i → ¬ T (1000 * id + i)) : LR G B0 τ id F M E H1 S Z :=
  ⟨fun i hi => (h.1 i hi).fr hF (hT i hi), h.2⟩
theorem LR.ale1 (h : LR G B0 τ id F M E H S Z) (he : E 1 = false) (hn : S 0 0 0 = nI (nb S)) : b_tt G B0 τ H (F 1) (1000 * id + 1) (.inr (2, [.int (M 1), .ref (G.2.2 0), .int (nI 0)])) ∧ nb S = 0 := by
  have e0 : nb S = 0 := h.2.1.resolve_left (by rw [he]; decide)
  refine ⟨h.al1.cg ?_, e0⟩
  rw [he, hn, e0]
  rfl
theorem LR.ale3 (h : LR G B0 τ id F M E H S Z) (he : E 3 = false) (hn : S 0 0 1 = nI (ns S)) : b_tt G B0 τ H (F 3) (1000 * id + 3) (.inr (2, [.int (M 3), .ref (G.2.2 0), .int (nI 0)])) ∧ ns S = 0 := by
  have e0 : ns S = 0 := h.2.2.1.resolve_left (by rw [he]; decide)
  refine ⟨h.al3.cg ?_, e0⟩
  rw [he, hn, e0]
  rfl
theorem LR.alf1 (h : LR G B0 τ id F M E H S Z) (he : E 1 = true) (hn : S 0 0 0 = nI (nb S)) : b_tt G B0 τ H (F 1) (1000 * id + 1) (.inr (2, [.int (M 1), .ref (F 2), .int (nI (nb S))])) := by
  refine h.al1.cg ?_
  rw [he, hn]
  rfl
theorem LR.alf3 (h : LR G B0 τ id F M E H S Z) (he : E 3 = true) (hn : S 0 0 1 = nI (ns S)) : b_tt G B0 τ H (F 3) (1000 * id + 3) (.inr (2, [.int (M 3), .ref (F 4), .int (nI (ns S))])) := by
  refine h.al3.cg ?_
  rw [he, hn]
  rfl
/-- tables that agree where there is something -/
theorem LR.cgS (h : LR G B0 τ id F M E H S Z) {Z1 : Nat → Nat → Int32} (h0 : ∀ j, j < 13 → S 0 0 j = S1 0 0 j) (h1 : ∀ k j, k < nb S → j < 10 → S 1 k j = S1 1 k j) (h2 : ∀ k j, k < ns S → j < 5 → S 2 k j = S1 2 k j) (h4 : ∀ k j, k < ns S → j < 8 → S 4 k j = S1 4 k j) (h5 : ∀ k j, k < ns S → j < 8 → S 5 k j = S1 5 k j) (hZ : ∀ i j, i < 8 → j < 8 → Z i j = Z1 i j) : LR G B0 τ id F M E H S1 Z1 := by
  have en : nb S1 = nb S := by unfold nb; rw [h0 0 (by decide)]
  have es : ns S1 = ns S := by unfold ns; rw [h0 1 (by decide)]
  refine ⟨fun i hi => ?_, by rw [en]; exact h.2.1, by rw [es]; exact h.2.2.1, by rw [en]; exact h.2.2.2.1, by rw [es]; exact h.2.2.2.2⟩
  rw [en, es] at hi
  have hx := h.1 i hi
  have hi9 := hi
  unfold l_use at hi9
  have hb8 := h.2.2.2.1
  have hs6 := h.2.2.2.2
  by_cases d5 : i = 5
  · subst d5
    exact b_tt.ci (f := fun j => S 0 0 (7 + j)) hx (fun j hj => h0 (7 + j) (by omega))
  by_cases d7 : 10 ≤ i ∧ i < 18
  · obtain ⟨k, rfl⟩ : ∃ k, i = 10 + k := ⟨i - 10, by omega⟩
    rw [l_c7 (by omega)] at hx ⊢
    exact hx.ci (fun j hj => hZ k j (by omega) hj)
  by_cases d40 : 40 ≤ i ∧ i < 50
  · obtain ⟨k, rfl⟩ : ∃ k, i = 40 + k := ⟨i - 40, by omega⟩
    rw [l_c40 (by omega)] at hx ⊢
    exact hx.ci (fun j hj => h4 k j (by omega) hj)
  by_cases d50 : 50 ≤ i
  · obtain ⟨k, rfl⟩ : ∃ k, i = 50 + k := ⟨i - 50, by omega⟩
    rw [l_c50] at hx ⊢
    exact hx.ci (fun j hj => h5 k j (by omega) hj)
  refine hx.cg ?_
  unfold l_cnt
  rw [en, es]
  by_cases d0 : i = 0
  · rw [if_pos d0, if_pos d0, h0 2 (by decide), h0 3 (by decide), h0 4 (by decide), h0 5 (by decide), h0 6 (by decide)]
  rw [if_neg d0, if_neg d0]
  by_cases d1 : i = 1
  · rw [if_pos d1, if_pos d1, h0 0 (by decide)]
  rw [if_neg d1, if_neg d1]
  by_cases d2 : i = 2
  · rw [if_pos d2, if_pos d2]
  rw [if_neg d2, if_neg d2]
  by_cases d3 : i = 3
  · rw [if_pos d3, if_pos d3, h0 1 (by decide)]
  rw [if_neg d3, if_neg d3]
  by_cases d4 : i = 4
  · rw [if_pos d4, if_pos d4]
  rw [if_neg d4, if_neg d4, if_neg d5, if_neg d5]
  by_cases d6 : i = 6
  · rw [if_pos d6, if_pos d6]
  have c7 : ¬ i < 20 := by omega
  rw [if_neg d6, if_neg d6, if_neg c7, if_neg c7]
  by_cases d8 : i < 30
  · have g : ∀ w, w < 10 → S 1 (i - 20) w = S1 1 (i - 20) w := fun w hw => h1 (i - 20) w (by omega) hw
    rw [if_pos d8, if_pos d8, g 0 (by decide), g 1 (by decide), g 2 (by decide), g 3 (by decide), g 4 (by decide), g 5 (by decide), g 6 (by decide), g 7 (by decide), g 8 (by decide), g 9 (by decide)]
  have g : ∀ w, w < 5 → S 2 (i - 30) w = S1 2 (i - 30) w := fun w hw => h2 (i - 30) w (by omega) hw
  have c9 : i < 40 := by omega
  rw [if_neg d8, if_neg d8, if_pos c9, if_pos c9, g 0 (by decide), g 1 (by decide), g 2 (by decide), g 3 (by decide), g 4 (by decide)]
end PUSH
