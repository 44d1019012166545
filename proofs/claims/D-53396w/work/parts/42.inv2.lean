/-! ===== the invariant: sorting, the settings, brands and shops more, collecting; what follows from it ===== -/
set_option maxRecDepth 100000
set_option maxHeartbeats 2000000
theorem nI_ixt {x : Int32} (h : 0 ≤ x.toInt) : (x.toNatClampNeg : Int) = x.toInt := by
  show ((x.toInt.toNat : Nat) : Int) = x.toInt
  omega
theorem nI_ix {x : Int32} (h : 0 ≤ x.toInt) : nI x.toNatClampNeg = x := by
  have h1 := Int32.toInt_lt x
  apply Int32.toInt_inj.mp
  rw [nI_toInt (by have := nI_ixt h; omega), nI_ixt h]
section I2
variable {N : Nat} {S S' : b_St}
theorem gS_e {w1 w2 v1 : Nat → Nat → Int} {w4 v4 : Nat → Int} (h1 : ∀ b j, b < 8 → j < 10 → v1 b j * vv S' 1 b j = w1 b j * vv S 1 b j) (h2 : ∀ s j, s < 6 → j < 5 → vv S' 2 s j = vv S 2 s j)
    (h4 : ∀ s b, s < 6 → b < 8 → v4 b * (vv S' 4 s b + vv S' 5 s b) = w4 b * (vv S 4 s b + vv S 5 s b)) : gS v1 w2 v4 S' = gS w1 w2 w4 S := by
  unfold gS
  rw [sI_c 8 (fun b hb => sI_c 10 (fun j hj => h1 b j hb hj)), sI_c 6 (fun s hs => sI_c 5 (fun j hj => by rw [h2 s j hs hj])), sI_c 6 (fun s hs => sI_c 8 (fun b hb => h4 s b hs hb))]
theorem p_least_t (x y : Int32) : (p_least x y).toInt = if x.toInt < y.toInt then x.toInt else y.toInt := by
  unfold p_least
  by_cases c : x < y
  · rw [if_pos c, if_pos (Int32.lt_iff_toInt_lt.mp c)]
  · rw [if_neg c, if_neg (fun q => c (Int32.lt_iff_toInt_lt.mpr q))]
theorem nI_0t : (nI 0).toInt = 0 := by decide
/-! sorting -/
theorem left_t (h : b_Iv N S) (k : Nat) {n : Int32} (n1 : 0 ≤ n.toInt) (n2 : n.toInt ≤ 5000) : ∀ b, b ≤ 8 → 0 ≤ (p_left S k n b).toInt ∧ (p_left S k n b).toInt ≤ 5000
  | 0, _ => ⟨n1, n2⟩
  | b + 1, hb => by
    obtain ⟨h1, h2⟩ := left_t h k n1 n2 b (by omega)
    have hy := h.bnd.1 b 4 (by omega) (by decide) (by decide)
    rw [p_left]
    by_cases c : kd S b = k
    · rw [if_pos c]
      have e := p_least_t (p_left S k n b) (S 1 b 4)
      have hy' : (S 1 b 4).toInt = vv S 1 b 4 := rfl
      rw [hy'] at e
      generalize p_left S k n b = x at *
      generalize p_least x (S 1 b 4) = y at *
      rw [i_sub (by split at e <;> omega) (by split at e <;> omega)]
      split at e <;> omega
    · rw [if_neg c, i_sub (by rw [nI_0t]; omega) (by rw [nI_0t]; omega), nI_0t]
      omega
theorem mv_t (h : b_Iv N S) (k : Nat) {n : Int32} (n1 : 0 ≤ n.toInt) (n2 : n.toInt ≤ 5000) {b : Nat} (hb : b < 8) : 0 ≤ (p_mvd S k n (nb S) b).toInt ∧ (p_mvd S k n (nb S) b).toInt ≤ vv S 1 b 4 ∧ (nb S ≤ b → p_mvd S k n (nb S) b = nI 0) := by
  have hy := h.bnd.1 b 4 hb (by decide) (by decide)
  unfold p_mvd
  by_cases c : b < nb S
  · rw [if_pos c]
    refine ⟨?_, ?_, fun q => absurd c (Nat.not_lt.mpr q)⟩ <;> unfold p_mv <;> split
    · rw [p_least_t]
      have hl := left_t h k n1 n2 b (by omega)
      have hy' : (S 1 b 4).toInt = vv S 1 b 4 := rfl
      rw [hy']
      split <;> omega
    · rw [nI_0t]; omega
    · rw [p_least_t]
      have hy' : (S 1 b 4).toInt = vv S 1 b 4 := rfl
      rw [hy']
      split <;> omega
    · rw [nI_0t]; omega
  · rw [if_neg c, nI_0t]
    exact ⟨by omega, hy.1, fun _ => rfl⟩
theorem mv_v {d : Nat → Int32} (h0 : ∀ b, b < 8 → 0 ≤ vv S 1 b 1 ∧ vv S 1 b 1 ≤ 40000 ∧ 0 ≤ vv S 1 b 4 ∧ vv S 1 b 4 ≤ 40000 ∧ 0 ≤ (d b).toInt ∧ (d b).toInt ≤ vv S 1 b 4) (b j : Nat) (hb : b < 8) :
    vv (s_mv S d) 1 b j = if j = 4 then vv S 1 b 4 - (d b).toInt else if j = 1 then vv S 1 b 1 + (d b).toInt else vv S 1 b j := by
  obtain ⟨h1, h2, h3, h4, h5, h6⟩ := h0 b hb
  unfold vv s_mv
  by_cases c4 : j = 4
  · rw [if_pos ⟨rfl, c4⟩, if_pos c4]
    exact i_sub (by show _ ≤ vv S 1 b 4 - _; omega) (by show vv S 1 b 4 - _ < _; omega)
  · rw [if_neg (fun q => c4 q.2), if_neg c4]
    by_cases c1 : j = 1
    · rw [if_pos ⟨rfl, c1⟩, if_pos c1]
      exact i_add (by show _ ≤ vv S 1 b 1 + _; omega) (by show vv S 1 b 1 + _ < _; omega)
    · rw [if_neg (fun q => c1 q.2), if_neg c1]
theorem iv_sort (h : b_Iv N S) (k : Nat) {n : Int32} (n1 : 0 ≤ n.toInt) (n2 : n.toInt ≤ 5000) : b_Iv N (s_sort S k n) := by
  have hB := h.bnd
  have h0 : ∀ b, b < 8 → 0 ≤ vv S 1 b 1 ∧ vv S 1 b 1 ≤ 40000 ∧ 0 ≤ vv S 1 b 4 ∧ vv S 1 b 4 ≤ 40000 ∧ 0 ≤ (p_mvd S k n (nb S) b).toInt ∧ (p_mvd S k n (nb S) b).toInt ≤ vv S 1 b 4 := fun b hb => by
    have q1 := hB.1 b 1 hb (by decide) (by decide)
    have q2 := hB.1 b 4 hb (by decide) (by decide)
    have q3 := mv_t h k n1 n2 hb
    exact ⟨q1.1, q1.2, q2.1, q2.2, q3.1, q3.2.1⟩
  have hz := fun b hb => (mv_t h k n1 n2 (b := b) hb).2.2
  have hv := mv_v h0
  have hk : ∀ K I J, ¬ K = 1 → s_sort S k n K I J = S K I J := fun K I J c => by
    show s_mv S _ K I J = _
    unfold s_mv
    rw [if_neg (fun q => c q.1), if_neg (fun q => c q.1)]
  have hj : ∀ I J, ¬ J = 4 → ¬ J = 1 → s_sort S k n 1 I J = S 1 I J := fun I J c4 c1 => by
    show s_mv S _ 1 I J = _
    unfold s_mv
    rw [if_neg (fun q => c4 q.2), if_neg (fun q => c1 q.2)]
  have hvk : ∀ K I J, ¬ K = 1 → vv (s_sort S k n) K I J = vv S K I J := fun K I J c => congrArg Int32.toInt (hk K I J c)
  have hv' : ∀ b j, b < 8 → vv (s_sort S k n) 1 b j = if j = 4 then vv S 1 b 4 - (p_mvd S k n (nb S) b).toInt else if j = 1 then vv S 1 b 1 + (p_mvd S k n (nb S) b).toInt else vv S 1 b j := hv
  obtain ⟨hW, hSe, hNn, hZr, hSu⟩ := h
  have hSm : b_Sm S (s_sort S k n) := ⟨fun w _ => hk 0 0 w (by decide), fun b => hj b 0 (by decide) (by decide)⟩
  have eT : gT (s_sort S k n) = gT S := by
    unfold gT gS
    have e1 : sI (fun b => sI (fun j => wT1 b j * vv (s_sort S k n) 1 b j) 10) 8 = sI (fun b => sI (fun j => wT1 b j * vv S 1 b j) 10) 8 := sI_c 8 (fun b hb => by
      simp only [sI, hv' b _ hb, wT1, Nat.reduceLeDiff, Nat.reduceEqDiff, reduceCtorEq, true_and, and_true, false_and, and_false, ↓reduceIte, Int.one_mul, Int.zero_mul]
      omega)
    rw [e1]
    simp only [hvk _ _ _ (show ¬ (2 : Nat) = 1 by decide), hvk _ _ _ (show ¬ (4 : Nat) = 1 by decide), hvk _ _ _ (show ¬ (5 : Nat) = 1 by decide)]
  have eS : ∀ {w1 w2 : Nat → Nat → Int} {w4 : Nat → Int}, (∀ b, w1 b 1 = 0 ∧ w1 b 4 = 0) → gS w1 w2 w4 (s_sort S k n) = gS w1 w2 w4 S := fun {w1 w2 w4} hw => by
    refine gS_e (fun b j hb _ => ?_) (fun s j _ _ => hvk 2 s j (by decide)) (fun s b _ _ => by rw [hvk 4 s b (by decide), hvk 5 s b (by decide)])
    rw [hv' b j hb]
    by_cases c4 : j = 4
    · subst c4; rw [(hw b).2]; simp
    · rw [if_neg c4]
      by_cases c1 : j = 1
      · subst c1; rw [(hw b).1]; simp
      · rw [if_neg c1]
  have eC : gC (s_sort S k n) = gC S := eS (fun b => ⟨rfl, rfl⟩)
  have eM : gM (kd S) (dp S) (s_sort S k n) = gM (kd S) (dp S) S := eS (fun b => ⟨rfl, rfl⟩)
  have eX : ∀ k9, gX (kd S) k9 (s_sort S k n) = gX (kd S) k9 S := fun k9 => eS (fun b => ⟨by simp [wX1], by simp [wX1]⟩)
  refine ⟨hSm.wf hW, hSm.se hSe, ⟨fun b j hb q2 q3 => ?_, fun b hb => ?_, fun s b hs hb => ?_, fun s hs => ?_, ?_, ?_⟩, ⟨fun b w q1 q2 q3 => ?_, fun s w q1 q2 q3 => ?_, fun s b q1 q2 q3 => ?_⟩, ?_⟩
  · have o := hNn.1 b j hb q2 q3
    have q := h0 b hb
    rw [hv' b j hb]
    split
    · omega
    · split <;> omega
  · rw [hv' b 8 hb, if_neg (by decide), if_neg (by decide)]
    exact hNn.2.1 b hb
  · rw [hvk 4 s b (by decide), hvk 5 s b (by decide)]
    exact hNn.2.2.1 s b hs hb
  · rw [hvk 2 s 0 (by decide), hvk 2 s 1 (by decide)]
    exact hNn.2.2.2.1 s hs
  · rw [hvk 0 0 2 (by decide)]; exact hNn.2.2.2.2.1
  · rw [hvk 0 0 5 (by decide)]; exact hNn.2.2.2.2.2
  · rw [hSm.nb_] at q1
    have o := hZr.1 b w q1 q2 q3
    have z := hz b q2 q1
    show s_mv S _ 1 b w = _
    unfold s_mv
    by_cases c4 : w = 4
    · subst c4; rw [if_pos ⟨rfl, rfl⟩, o, z]; decide
    · rw [if_neg (fun q => c4 q.2)]
      by_cases c1 : w = 1
      · subst c1; rw [if_pos ⟨rfl, rfl⟩, o, z]; decide
      · rw [if_neg (fun q => c1 q.2)]; exact o
  · rw [hSm.ns_] at q1
    rw [hk 2 s w (by decide)]
    exact hZr.2.1 s w q1 q2 q3
  · rw [hSm.nb_, hSm.ns_] at q3
    rw [hk 4 s b (by decide), hk 5 s b (by decide)]
    exact hZr.2.2 s b q1 q2 q3
  · obtain ⟨y1, y2, y3, D, y4, y5⟩ := hSu
    refine ⟨by rw [eT, hSm.nb_]; exact y1, by rw [hvk 0 0 2 (by decide), eC]; exact y2, by rw [hSm.kd_, hSm.dp_, eM, hvk 0 0 3 (by decide), hvk 0 0 5 (by decide), hSm.ns_]; exact y3, D, fun k9 hk9 => ?_, ?_⟩
    · rw [hSm.kd_, eX]; exact y4 k9 hk9
    · rw [hSm.ee_, hvk 0 0 3 (by decide)]; exact y5
/-! the settings -/
theorem gX_1 (h : b_Nn N S) {b : Nat} (hb : b < 8) : vv S 1 b 3 ≤ gX (kd S) (kd S b) S := by
  rw [← gS_i1 (S := S) hb (show 3 < 10 by decide)]
  refine gS_m (fun b' j' hb' hj' => ?_) (fun s' j' hs' hj' => Int.le_refl _) (fun s' b' hs' hb' => ?_)
  · unfold wX1
    by_cases c : b' = b ∧ j' = 3
    · obtain ⟨rfl, rfl⟩ := c
      rw [if_pos ⟨rfl, rfl⟩, if_pos ⟨rfl, Or.inl rfl⟩]
      exact Int.le_refl _
    · rw [if_neg c]
      split
      · rename_i q
        have h0 := h.1 b' j' hb' (by omega) (by omega)
        omega
      · exact Int.le_refl _
  · have h0 := h.2.2.1 s' b' hs' hb'
    unfold wX4
    split <;> omega
theorem held_0 (h : b_Iv N S) (h3 : vv S 0 0 3 ≤ 0) : (∀ k, k < 3 → gX (kd S) k S = 0) ∧ (∀ b, b < 8 → vv S 1 b 3 = 0) ∧ vv S 0 0 3 = 0 := by
  obtain ⟨hW, hSe, hNn, hZr, y1, y2, y3, D, y4, y5⟩ := h
  have d0 : ∀ k, k < 3 → 0 ≤ D k := fun k hk => by have h1 := y4 k hk; have h2 := gX_0 hNn (kd S) k; omega
  have hD0 : ∀ k, k < 3 → 0 ≤ D k * ee S k := fun k hk => Int.mul_nonneg (d0 k hk) (by have := ee_0 hSe hk; omega)
  have hd0 := hD0 0 (by decide)
  have hd1 := hD0 1 (by decide)
  have hd2 := hD0 2 (by decide)
  have z : ∀ k, k < 3 → D k * ee S k = 0 → D k = 0 := fun k hk q => by
    rcases Int.mul_eq_zero.mp q with q | q
    · exact q
    · have := ee_0 hSe hk; omega
  have e : ∀ k, k < 3 → gX (kd S) k S = 0 := fun k hk => by
    have h1 := y4 k hk
    have h2 : D k = 0 := by
      rcases (show k = 0 ∨ k = 1 ∨ k = 2 by omega) with rfl | rfl | rfl
      · exact z 0 hk (by omega)
      · exact z 1 hk (by omega)
      · exact z 2 hk (by omega)
    omega
  refine ⟨e, fun b hb => ?_, by omega⟩
  have h1 := gX_1 hNn hb
  have h2 := e (kd S b) (hW.kd3 hb)
  have h3 := hNn.1 b 3 hb (by decide) (by decide)
  omega
theorem b_bd {j : Nat} (hj : j < 6) : ((b_least j).toInt = ([1, 1, 1, 0, 0, 2] : List Int).getD j 0) ∧ (b_most j).toInt = ([100, 100, 100, 500, 100, 1000] : List Int).getD j 0 := by
  rcases (show j = 0 ∨ j = 1 ∨ j = 2 ∨ j = 3 ∨ j = 4 ∨ j = 5 by omega) with rfl | rfl | rfl | rfl | rfl | rfl <;> decide
theorem iv_set (h : b_Iv N S) {j : Nat} {x : Int32} (hj : j < 6) (h1 : b_least j ≤ x) (h2 : x ≤ b_most j) (h3 : j < 4 → S 0 0 3 ≤ 0) : b_Iv N (s_set S j x) := by
  have a1 := i_le h1
  have a2 := i_le h2
  rw [(b_bd hj).1] at a1
  rw [(b_bd hj).2] at a2
  have a3 : j < 4 → vv S 0 0 3 ≤ 0 := fun q => by have := i_le (h3 q); exact this
  have hz := held_0 h
  obtain ⟨hW, hSe, hNn, hZr, y1, y2, y3, D, y4, y5⟩ := h
  have ek : ∀ k i w, ¬ (k = 0 ∧ w = 7 + j) → vv (s_set S j x) k i w = vv S k i w := fun k i w q => vv_n (fun r => q ⟨r.1, r.2.1⟩)
  have uk : ∀ k i w, ¬ (k = 0 ∧ w = 7 + j) → s_set S j x k i w = S k i w := fun k i w q => u3_n _ _ (fun r => q ⟨r.1, r.2.1⟩)
  have ex : vv (s_set S j x) 0 0 (7 + j) = x.toInt := by show vv (u3 S 0 0 (7 + j) x) 0 0 (7 + j) = _; rw [vv_u3, if_pos ⟨rfl, rfl, rfl⟩]
  have enb : nb (s_set S j x) = nb S := congrArg Int32.toNatClampNeg (uk 0 0 0 (by omega))
  have ens : ns (s_set S j x) = ns S := congrArg Int32.toNatClampNeg (uk 0 0 1 (by omega))
  have ekd : kd (s_set S j x) = kd S := funext fun b => congrArg Int32.toNatClampNeg (uk 1 b 0 (by omega))
  have eT : gT (s_set S j x) = gT S := gS_0
  have eC : gC (s_set S j x) = gC S := gS_0
  have eX : ∀ k9, gX (kd S) k9 (s_set S j x) = gX (kd S) k9 S := fun k9 => gS_0
  have hdp : ∀ k, ¬ k = j → dp (s_set S j x) k = dp S k := fun k q => ek 0 0 (7 + k) (by omega)
  refine ⟨?_, ⟨fun k hk => ?_, ?_, ?_⟩, ⟨fun b w q1 q2 q3 => ?_, fun b q1 => ?_, fun s b q1 q2 => ?_, fun s q1 => ?_, ?_, ?_⟩, ⟨fun b w q1 q2 q3 => ?_, fun s w q1 q2 q3 => ?_, fun s b q1 q2 q3 => ?_⟩, ?_⟩
  · obtain ⟨w1, w2, w3, w, w4, w5⟩ := hW
    refine ⟨?_, ?_, fun b hb => ?_, ?_⟩
    · rw [enb, uk 0 0 0 (by omega)]; exact w1
    · rw [ens, uk 0 0 1 (by omega)]; exact w2
    · rw [congrFun ekd b, uk 1 b 0 (by omega)]; exact w3 b hb
    · by_cases c : j = 5
      · subst c
        simp at a1 a2
        refine ⟨x.toNatClampNeg, ?_, ?_⟩
        · show u3 S 0 0 (7 + 5) x 0 0 12 = _
          rw [u3_s]
          exact (nI_ix (by omega)).symm
        · have : (x.toNatClampNeg : Int) = x.toInt := nI_ixt (by omega)
          omega
      · exact ⟨w, by rw [uk 0 0 12 (by omega)]; exact w4, w5⟩
  · by_cases c : k = j
    · subst c
      have e : dp (s_set S k x) k = x.toInt := ex
      rw [e]
      rcases (show k = 0 ∨ k = 1 ∨ k = 2 by omega) with rfl | rfl | rfl <;> simp at a1 a2 <;> omega
    · rw [hdp k c]; exact hSe.1 k hk
  · by_cases c : j = 3
    · subst c
      have e : vv (s_set S 3 x) 0 0 10 = x.toInt := ex
      rw [e]
      simp at a1 a2
      omega
    · rw [ek 0 0 10 (by omega)]; exact hSe.2.1
  · by_cases c : j = 4
    · subst c
      have e : vv (s_set S 4 x) 0 0 11 = x.toInt := ex
      rw [e]
      simp at a1 a2
      omega
    · rw [ek 0 0 11 (by omega)]; exact hSe.2.2
  · rw [ek 1 b w (by omega)]; exact hNn.1 b w q1 q2 q3
  · rw [ek 1 b 8 (by omega)]; exact hNn.2.1 b q1
  · rw [ek 4 s b (by omega), ek 5 s b (by omega)]; exact hNn.2.2.1 s b q1 q2
  · rw [ek 2 s 0 (by omega), ek 2 s 1 (by omega)]; exact hNn.2.2.2.1 s q1
  · rw [ek 0 0 2 (by omega)]; exact hNn.2.2.2.2.1
  · rw [ek 0 0 5 (by omega)]; exact hNn.2.2.2.2.2
  · rw [enb] at q1; rw [uk 1 b w (by omega)]; exact hZr.1 b w q1 q2 q3
  · rw [ens] at q1; rw [uk 2 s w (by omega)]; exact hZr.2.1 s w q1 q2 q3
  · rw [enb, ens] at q3; rw [uk 4 s b (by omega), uk 5 s b (by omega)]; exact hZr.2.2 s b q1 q2 q3
  · have eM : gM (kd S) (dp (s_set S j x)) (s_set S j x) = gM (kd S) (dp S) S := by
      refine gS_e (fun b w hb hw => ?_) (fun s w _ _ => ek 2 s w (by omega)) (fun s b _ _ => by rw [ek 4 s b (by omega), ek 5 s b (by omega)])
      rw [ek 1 b w (by omega)]
      unfold wM1
      by_cases c6 : w = 6
      · rw [if_pos c6, if_pos c6]
      · rw [if_neg c6, if_neg c6]
        by_cases c3 : w = 3
        · rw [if_pos c3, if_pos c3]
          by_cases cj : kd S b = j
          · have k3 := hW.kd3 hb
            have z := (hz (a3 (by omega))).2.1 b hb
            subst c3
            rw [z, Int.mul_zero, Int.mul_zero]
          · rw [hdp _ cj]
        · rw [if_neg c3, if_neg c3]
    refine ⟨by rw [eT, enb]; exact y1, by rw [ek 0 0 2 (by omega), eC]; exact y2, by rw [ekd, eM, ek 0 0 3 (by omega), ek 0 0 5 (by omega), ens]; exact y3, D, fun k9 hk9 => ?_, ?_⟩
    · rw [ekd, eX]; exact y4 k9 hk9
    · rw [ek 0 0 3 (by omega)]
      by_cases c : j < 4
      · obtain ⟨z1, z2, z3⟩ := hz (a3 c)
        have d : ∀ k, k < 3 → D k = 0 := fun k hk => by have h1 := y4 k hk; have h2 := z1 k hk; omega
        rw [z3, d 0 (by decide), d 1 (by decide), d 2 (by decide)]
        simp
      · have e : ∀ k, k < 3 → ee (s_set S j x) k = ee S k := fun k hk => by
          show 12 * dp (s_set S j x) k + vv (s_set S j x) 0 0 10 = 12 * dp S k + vv S 0 0 10
          rw [hdp k (by omega), ek 0 0 10 (by omega)]
        rw [e 0 (by decide), e 1 (by decide), e 2 (by decide)]
        exact y5
end I2
