/-! ===== the table in whole numbers; what holds of every table that a run reaches ===== -/
set_option maxRecDepth 100000
def vv (S : b_St) (k i j : Nat) : Int := (S k i j).toInt
theorem vv_u3 (S : b_St) (k i j : Nat) (x : Int32) (k' i' j' : Nat) : vv (u3 S k i j x) k' i' j' = if k' = k ∧ j' = j ∧ i' = i then x.toInt else vv S k' i' j' := by
  unfold vv u3
  split <;> rfl
def sI (f : Nat → Int) : Nat → Int
  | 0 => 0
  | n + 1 => sI f n + f n
theorem sI_c {f g : Nat → Int} : ∀ n, (∀ j, j < n → f j = g j) → sI f n = sI g n
  | 0, _ => rfl
  | n + 1, h => by rw [sI, sI, sI_c n (fun j hj => h j (by omega)), h n (by omega)]
theorem sI_u {f g : Nat → Int} {i : Nat} {d : Int} (hi : g i = f i + d) (ho : ∀ j, j ≠ i → g j = f j) : ∀ n, i < n → sI g n = sI f n + d
  | 0, h => absurd h (Nat.not_lt_zero _)
  | n + 1, h => by
    by_cases e : i = n
    · subst e
      rw [sI, sI, hi, sI_c i (fun j hj => ho j (by omega))]
      omega
    · rw [sI, sI, sI_u hi ho n (by omega), ho n (Ne.symm e)]
      omega
theorem sI_n {f : Nat → Int} : ∀ n, (∀ j, j < n → 0 ≤ f j) → 0 ≤ sI f n
  | 0, _ => Int.le_refl 0
  | n + 1, h => by
    have h1 := sI_n n (fun j hj => h j (by omega))
    have h2 := h n (by omega)
    rw [sI]
    omega
theorem sI_m {f g : Nat → Int} : ∀ n, (∀ j, j < n → f j ≤ g j) → sI f n ≤ sI g n
  | 0, _ => Int.le_refl 0
  | n + 1, h => by
    have h1 := sI_m n (fun j hj => h j (by omega))
    have h2 := h n (by omega)
    rw [sI, sI]
    omega
theorem sI_le {f : Nat → Int} {i : Nat} : ∀ n, i < n → (∀ j, j < n → 0 ≤ f j) → f i ≤ sI f n
  | 0, h, _ => absurd h (Nat.not_lt_zero _)
  | n + 1, h, h0 => by
    have h2 := h0 n (by omega)
    rw [sI]
    by_cases e : i = n
    · subst e
      have h1 := sI_n i (fun j hj => h0 j (by omega))
      omega
    · have h1 := sI_le n (show i < n by omega) (fun j hj => h0 j (by omega))
      omega
theorem sI_a (f g : Nat → Int) : ∀ n, sI (fun j => f j + g j) n = sI f n + sI g n
  | 0 => rfl
  | n + 1 => by
    rw [sI, sI, sI, sI_a f g n]
    omega
theorem sI_z {f : Nat → Int} : ∀ n, (∀ j, j < n → f j = 0) → sI f n = 0
  | 0, _ => rfl
  | n + 1, h => by rw [sI, sI_z n (fun j hj => h j (by omega)), h n (by omega)]; rfl
/-- a weighed sum of all that is counted -/
def gS (w1 w2 : Nat → Nat → Int) (w4 : Nat → Int) (S : b_St) : Int :=
  sI (fun b => sI (fun j => w1 b j * vv S 1 b j) 10) 8 + sI (fun s => sI (fun j => w2 s j * vv S 2 s j) 5) 6 + sI (fun s => sI (fun b => w4 b * (vv S 4 s b + vv S 5 s b)) 8) 6
section GS
variable {w1 w2 : Nat → Nat → Int} {w4 : Nat → Int} {S : b_St} {x : Int32}
theorem gS_0 {i j : Nat} : gS w1 w2 w4 (u3 S 0 i j x) = gS w1 w2 w4 S := by
  unfold gS
  simp [vv_u3]
theorem gS_3 {i j : Nat} : gS w1 w2 w4 (u3 S 3 i j x) = gS w1 w2 w4 S := by
  unfold gS
  simp [vv_u3]
theorem gS_1 {b j : Nat} (hb : b < 8) (hj : j < 10) : gS w1 w2 w4 (u3 S 1 b j x) = gS w1 w2 w4 S + w1 b j * (x.toInt - vv S 1 b j) := by
  have e1 : sI (fun b' => sI (fun j' => w1 b' j' * vv (u3 S 1 b j x) 1 b' j') 10) 8 = sI (fun b' => sI (fun j' => w1 b' j' * vv S 1 b' j') 10) 8 + w1 b j * (x.toInt - vv S 1 b j) := by
    refine sI_u (i := b) (sI_u (i := j) ?_ (fun j' hj' => ?_) 10 hj) (fun b' hb' => sI_c 10 (fun j' _ => ?_)) 8 hb
    · rw [vv_u3, if_pos ⟨rfl, rfl, rfl⟩, Int.mul_sub]; omega
    · rw [vv_u3, if_neg (fun q => hj' q.2.1)]
    · rw [vv_u3, if_neg (fun q => hb' q.2.2)]
  unfold gS
  rw [e1]
  simp only [vv_u3, show ¬ (2 : Nat) = 1 by decide, show ¬ (4 : Nat) = 1 by decide, show ¬ (5 : Nat) = 1 by decide, false_and, if_false]
  omega
theorem gS_2 {s j : Nat} (hs : s < 6) (hj : j < 5) : gS w1 w2 w4 (u3 S 2 s j x) = gS w1 w2 w4 S + w2 s j * (x.toInt - vv S 2 s j) := by
  have e1 : sI (fun s' => sI (fun j' => w2 s' j' * vv (u3 S 2 s j x) 2 s' j') 5) 6 = sI (fun s' => sI (fun j' => w2 s' j' * vv S 2 s' j') 5) 6 + w2 s j * (x.toInt - vv S 2 s j) := by
    refine sI_u (i := s) (sI_u (i := j) ?_ (fun j' hj' => ?_) 5 hj) (fun b' hb' => sI_c 5 (fun j' _ => ?_)) 6 hs
    · rw [vv_u3, if_pos ⟨rfl, rfl, rfl⟩, Int.mul_sub]; omega
    · rw [vv_u3, if_neg (fun q => hj' q.2.1)]
    · rw [vv_u3, if_neg (fun q => hb' q.2.2)]
  unfold gS
  rw [e1]
  simp only [vv_u3, show ¬ (1 : Nat) = 2 by decide, show ¬ (4 : Nat) = 2 by decide, show ¬ (5 : Nat) = 2 by decide, false_and, if_false]
  omega
theorem gS_4 {s b : Nat} (hs : s < 6) (hb : b < 8) : gS w1 w2 w4 (u3 S 4 s b x) = gS w1 w2 w4 S + w4 b * (x.toInt - vv S 4 s b) := by
  have e1 : sI (fun s' => sI (fun b' => w4 b' * (vv (u3 S 4 s b x) 4 s' b' + vv (u3 S 4 s b x) 5 s' b')) 8) 6 = sI (fun s' => sI (fun b' => w4 b' * (vv S 4 s' b' + vv S 5 s' b')) 8) 6 + w4 b * (x.toInt - vv S 4 s b) := by
    refine sI_u (i := s) (sI_u (i := b) ?_ (fun j' hj' => ?_) 8 hb) (fun b' hb' => sI_c 8 (fun j' _ => ?_)) 6 hs
    · rw [vv_u3, if_pos ⟨rfl, rfl, rfl⟩, vv_u3, if_neg (fun q => absurd q.1 (by decide)), ← Int.mul_add]
      congr 1
      omega
    · rw [vv_u3, if_neg (fun q => hj' q.2.1), vv_u3, if_neg (fun q => absurd q.1 (by decide))]
    · rw [vv_u3, if_neg (fun q => hb' q.2.2), vv_u3, if_neg (fun q => absurd q.1 (by decide))]
  unfold gS
  rw [e1]
  simp only [vv_u3, show ¬ (1 : Nat) = 4 by decide, show ¬ (2 : Nat) = 4 by decide, false_and, if_false]
  omega
theorem gS_5 {s b : Nat} (hs : s < 6) (hb : b < 8) : gS w1 w2 w4 (u3 S 5 s b x) = gS w1 w2 w4 S + w4 b * (x.toInt - vv S 5 s b) := by
  have e1 : sI (fun s' => sI (fun b' => w4 b' * (vv (u3 S 5 s b x) 4 s' b' + vv (u3 S 5 s b x) 5 s' b')) 8) 6 = sI (fun s' => sI (fun b' => w4 b' * (vv S 4 s' b' + vv S 5 s' b')) 8) 6 + w4 b * (x.toInt - vv S 5 s b) := by
    refine sI_u (i := s) (sI_u (i := b) ?_ (fun j' hj' => ?_) 8 hb) (fun b' hb' => sI_c 8 (fun j' _ => ?_)) 6 hs
    · rw [vv_u3, if_neg (fun q => absurd q.1 (by decide)), vv_u3, if_pos ⟨rfl, rfl, rfl⟩, ← Int.mul_add]
      congr 1
      omega
    · rw [vv_u3, if_neg (fun q => absurd q.1 (by decide)), vv_u3, if_neg (fun q => hj' q.2.1)]
    · rw [vv_u3, if_neg (fun q => absurd q.1 (by decide)), vv_u3, if_neg (fun q => hb' q.2.2)]
  unfold gS
  rw [e1]
  simp only [vv_u3, show ¬ (1 : Nat) = 5 by decide, show ¬ (2 : Nat) = 5 by decide, false_and, if_false]
  omega
end GS
/-! the sums: all bottles; those of a kind that are away; the money of the shops less what is out and lost; the crates -/
def wT1 : Nat → Nat → Int := fun _ j => if 1 ≤ j ∧ j ≤ 7 then 1 else 0
def wX1 (K : Nat → Nat) (k : Nat) : Nat → Nat → Int := fun b j => if K b = k ∧ (j = 3 ∨ j = 5 ∨ j = 6) then 1 else 0
def wX4 (K : Nat → Nat) (k : Nat) : Nat → Int := fun b => if K b = k then 1 else 0
def wM1 (K : Nat → Nat) (d : Nat → Int) : Nat → Nat → Int := fun b j => if j = 6 then -100 else if j = 3 then - d (K b) else 0
def wM2 : Nat → Nat → Int := fun _ j => if j = 0 then 1 else 0
def wC2 : Nat → Nat → Int := fun _ j => if j = 1 then 1 else 0
def w0 : Nat → Nat → Int := fun _ _ => 0
def gT (S : b_St) : Int := gS wT1 w0 (fun _ => 1) S
def gX (K : Nat → Nat) (k : Nat) (S : b_St) : Int := gS (wX1 K k) w0 (wX4 K k) S
def gM (K : Nat → Nat) (d : Nat → Int) (S : b_St) : Int := gS (wM1 K d) wM2 (fun _ => 0) S
def gC (S : b_St) : Int := gS w0 wC2 (fun _ => 0) S
def dp (S : b_St) (k : Nat) : Int := vv S 0 0 (7 + k)
def ee (S : b_St) (k : Nat) : Int := 12 * dp S k + vv S 0 0 10
/-- the settings in their bounds -/
def b_Se (S : b_St) : Prop := (∀ k, k < 3 → 1 ≤ dp S k ∧ dp S k ≤ 100) ∧ (0 ≤ vv S 0 0 10 ∧ vv S 0 0 10 ≤ 500) ∧ 0 ≤ vv S 0 0 11 ∧ vv S 0 0 11 ≤ 100
/-- nothing below nothing -/
def b_Nn (N : Nat) (S : b_St) : Prop := (∀ b j, b < 8 → 1 ≤ j → j ≤ 7 → 0 ≤ vv S 1 b j) ∧ (∀ b, b < 8 → 0 ≤ vv S 1 b 8 ∧ vv S 1 b 8 ≤ 5000 * N) ∧ (∀ s b, s < 6 → b < 8 → 0 ≤ vv S 4 s b ∧ 0 ≤ vv S 5 s b) ∧ (∀ s, s < 6 → 0 ≤ vv S 2 s 0 ∧ 0 ≤ vv S 2 s 1) ∧ 0 ≤ vv S 0 0 2 ∧ 0 ≤ vv S 0 0 5
/-- what isn't there is nothing -/
def b_Zr (S : b_St) : Prop := (∀ b w, nb S ≤ b → b < 8 → w < 10 → S 1 b w = nI 0) ∧ (∀ s w, ns S ≤ s → s < 6 → w < 5 → S 2 s w = nI 0) ∧ ∀ s b, s < 6 → b < 8 → (ns S ≤ s ∨ nb S ≤ b) → S 4 s b = nI 0 ∧ S 5 s b = nI 0
def b_Su (S : b_St) : Prop := gT S ≤ 5000 * nb S ∧ vv S 0 0 2 + gC S ≤ 1000 ∧ gM (kd S) (dp S) S + vv S 0 0 3 + vv S 0 0 5 ≤ 100000 * ns S ∧ ∃ D : Nat → Int, (∀ k, k < 3 → 12 * D k = gX (kd S) k S) ∧ vv S 0 0 3 = D 0 * ee S 0 + D 1 * ee S 1 + D 2 * ee S 2
def b_Iv (N : Nat) (S : b_St) : Prop := b_WF S ∧ b_Se S ∧ b_Nn N S ∧ b_Zr S ∧ b_Su S
/-- the counts, the kinds, the settings are the same -/
def b_Sm (S S' : b_St) : Prop := (∀ w, w = 0 ∨ w = 1 ∨ 7 ≤ w → S' 0 0 w = S 0 0 w) ∧ ∀ b, S' 1 b 0 = S 1 b 0
section SM
variable {S S' : b_St}
theorem b_Sm.nb_ (h : b_Sm S S') : nb S' = nb S := congrArg Int32.toNatClampNeg (h.1 0 (by omega))
theorem b_Sm.ns_ (h : b_Sm S S') : ns S' = ns S := congrArg Int32.toNatClampNeg (h.1 1 (by omega))
theorem b_Sm.kd_ (h : b_Sm S S') : kd S' = kd S := funext fun b => congrArg Int32.toNatClampNeg (h.2 b)
theorem b_Sm.dp_ (h : b_Sm S S') : dp S' = dp S := funext fun k => congrArg Int32.toInt (h.1 (7 + k) (by omega))
theorem b_Sm.ee_ (h : b_Sm S S') : ee S' = ee S := funext fun k => by
  show 12 * dp S' k + vv S' 0 0 10 = 12 * dp S k + vv S 0 0 10
  rw [h.dp_, show vv S' 0 0 10 = vv S 0 0 10 from congrArg Int32.toInt (h.1 10 (by omega))]
theorem b_Sm.wf (h : b_Sm S S') (hW : b_WF S) : b_WF S' := by
  obtain ⟨h1, h2, h3, w, h4, h5⟩ := hW
  refine ⟨?_, ?_, fun b hb => ?_, w, ?_, h5⟩
  · rw [h.nb_, h.1 0 (by omega)]; exact h1
  · rw [h.ns_, h.1 1 (by omega)]; exact h2
  · rw [h.2 b, congrFun h.kd_ b]; exact h3 b hb
  · rw [h.1 12 (by omega)]; exact h4
theorem b_Sm.se (h : b_Sm S S') (hW : b_Se S) : b_Se S' := by
  unfold b_Se
  rw [h.dp_, show vv S' 0 0 10 = vv S 0 0 10 from congrArg Int32.toInt (h.1 10 (by omega)), show vv S' 0 0 11 = vv S 0 0 11 from congrArg Int32.toInt (h.1 11 (by omega))]
  exact hW
end SM
theorem i_add {x y : Int32} (h1 : -2147483648 ≤ x.toInt + y.toInt) (h2 : x.toInt + y.toInt < 2147483648) : (x + y).toInt = x.toInt + y.toInt := by
  rw [Int32.toInt_add, Int.bmod_def]; omega
theorem i_sub {x y : Int32} (h1 : -2147483648 ≤ x.toInt - y.toInt) (h2 : x.toInt - y.toInt < 2147483648) : (x - y).toInt = x.toInt - y.toInt := by
  rw [Int32.toInt_sub, Int.bmod_def]; omega
theorem i_mul {x y : Int32} (h1 : -2147483648 ≤ x.toInt * y.toInt) (h2 : x.toInt * y.toInt < 2147483648) : (x * y).toInt = x.toInt * y.toInt := by
  rw [Int32.toInt_mul, Int.bmod_def]
  generalize x.toInt * y.toInt = z at *
  omega
theorem sI_l (f g : Nat → Int) (c : Int) : ∀ n, sI (fun j => f j + c * g j) n = sI f n + c * sI g n
  | 0 => by simp [sI]
  | n + 1 => by
    rw [sI, sI, sI, sI_l f g c n, Int.mul_add]
    omega
section GL
variable {w1 w2 v1 v2 : Nat → Nat → Int} {w4 v4 : Nat → Int} {S : b_St}
theorem gS_l (c : Int) : gS (fun b j => w1 b j + c * v1 b j) (fun s j => w2 s j + c * v2 s j) (fun b => w4 b + c * v4 b) S = gS w1 w2 w4 S + c * gS v1 v2 v4 S := by
  have e1 : sI (fun b => sI (fun j => (w1 b j + c * v1 b j) * vv S 1 b j) 10) 8 = sI (fun b => sI (fun j => w1 b j * vv S 1 b j) 10) 8 + c * sI (fun b => sI (fun j => v1 b j * vv S 1 b j) 10) 8 := by
    rw [← sI_l]
    refine sI_c 8 (fun b _ => ?_)
    rw [← sI_l]
    exact sI_c 10 (fun j _ => by rw [Int.add_mul, Int.mul_assoc])
  have e2 : sI (fun s => sI (fun j => (w2 s j + c * v2 s j) * vv S 2 s j) 5) 6 = sI (fun s => sI (fun j => w2 s j * vv S 2 s j) 5) 6 + c * sI (fun s => sI (fun j => v2 s j * vv S 2 s j) 5) 6 := by
    rw [← sI_l]
    refine sI_c 6 (fun b _ => ?_)
    rw [← sI_l]
    exact sI_c 5 (fun j _ => by rw [Int.add_mul, Int.mul_assoc])
  have e3 : sI (fun s => sI (fun b => (w4 b + c * v4 b) * (vv S 4 s b + vv S 5 s b)) 8) 6 = sI (fun s => sI (fun b => w4 b * (vv S 4 s b + vv S 5 s b)) 8) 6 + c * sI (fun s => sI (fun b => v4 b * (vv S 4 s b + vv S 5 s b)) 8) 6 := by
    rw [← sI_l]
    refine sI_c 6 (fun s _ => ?_)
    rw [← sI_l]
    exact sI_c 8 (fun b _ => by rw [Int.add_mul, Int.mul_assoc])
  unfold gS
  rw [e1, e2, e3, Int.mul_add, Int.mul_add]
  omega
theorem gS_m (h1 : ∀ b j, b < 8 → j < 10 → w1 b j * vv S 1 b j ≤ v1 b j * vv S 1 b j) (h2 : ∀ s j, s < 6 → j < 5 → w2 s j * vv S 2 s j ≤ v2 s j * vv S 2 s j)
    (h4 : ∀ s b, s < 6 → b < 8 → w4 b * (vv S 4 s b + vv S 5 s b) ≤ v4 b * (vv S 4 s b + vv S 5 s b)) : gS w1 w2 w4 S ≤ gS v1 v2 v4 S := by
  have e1 := sI_m 8 (fun b hb => sI_m 10 (fun j hj => h1 b j hb hj))
  have e2 := sI_m 6 (fun b hb => sI_m 5 (fun j hj => h2 b j hb hj))
  have e3 := sI_m 6 (fun s hs => sI_m 8 (fun b hb => h4 s b hs hb))
  unfold gS
  omega
theorem gS_z : gS w0 w0 (fun _ => 0) S = 0 := by
  unfold gS
  rw [sI_z 8 (fun b _ => sI_z 10 (fun j _ => by simp [w0])), sI_z 6 (fun b _ => sI_z 5 (fun j _ => by simp [w0])), sI_z 6 (fun b _ => sI_z 8 (fun j _ => by simp))]
  rfl
/-- one cell alone -/
theorem gS_i1 {b j : Nat} (hb : b < 8) (hj : j < 10) : gS (fun b' j' => if b' = b ∧ j' = j then 1 else 0) w0 (fun _ => 0) S = vv S 1 b j := by
  have e1 : sI (fun b' => sI (fun j' => (if b' = b ∧ j' = j then (1 : Int) else 0) * vv S 1 b' j') 10) 8 = sI (fun _ => (0 : Int)) 8 + vv S 1 b j := by
    refine sI_u (i := b) ?_ (fun b' hb' => sI_z 10 (fun j' _ => by rw [if_neg (fun q => hb' q.1), Int.zero_mul])) 8 hb
    have e2 : sI (fun j' => (if b = b ∧ j' = j then (1 : Int) else 0) * vv S 1 b j') 10 = sI (fun _ => (0 : Int)) 10 + vv S 1 b j :=
      sI_u (i := j) (by rw [if_pos ⟨rfl, rfl⟩]; omega) (fun j' hj' => by rw [if_neg (fun q => hj' q.2), Int.zero_mul]) 10 hj
    rw [e2, sI_z 10 (fun _ _ => rfl)]
  unfold gS
  rw [e1, sI_z 8 (fun _ _ => rfl), sI_z 6 (fun b _ => sI_z 5 (fun j _ => by simp [w0])), sI_z 6 (fun b _ => sI_z 8 (fun j _ => by simp))]
  omega
theorem gS_i2 {s j : Nat} (hs : s < 6) (hj : j < 5) : gS w0 (fun s' j' => if s' = s ∧ j' = j then 1 else 0) (fun _ => 0) S = vv S 2 s j := by
  have e1 : sI (fun b' => sI (fun j' => (if b' = s ∧ j' = j then (1 : Int) else 0) * vv S 2 b' j') 5) 6 = sI (fun _ => (0 : Int)) 6 + vv S 2 s j := by
    refine sI_u (i := s) ?_ (fun b' hb' => sI_z 5 (fun j' _ => by rw [if_neg (fun q => hb' q.1), Int.zero_mul])) 6 hs
    have e2 : sI (fun j' => (if s = s ∧ j' = j then (1 : Int) else 0) * vv S 2 s j') 5 = sI (fun _ => (0 : Int)) 5 + vv S 2 s j :=
      sI_u (i := j) (by rw [if_pos ⟨rfl, rfl⟩]; omega) (fun j' hj' => by rw [if_neg (fun q => hj' q.2), Int.zero_mul]) 5 hj
    rw [e2, sI_z 5 (fun _ _ => rfl)]
  unfold gS
  rw [e1, sI_z 6 (fun _ _ => rfl), sI_z 8 (fun b _ => sI_z 10 (fun j _ => by simp [w0])), sI_z 6 (fun b _ => sI_z 8 (fun j _ => by simp))]
  omega
end GL
section IV
variable {N : Nat} {S : b_St}
theorem gT_1 (h : b_Nn N S) {b j : Nat} (hb : b < 8) (h1 : 1 ≤ j) (h7 : j ≤ 7) : vv S 1 b j ≤ gT S := by
  rw [← gS_i1 (S := S) hb (show j < 10 by omega)]
  refine gS_m (fun b' j' hb' hj' => ?_) (fun s' j' hs' hj' => by simp [w0]) (fun s' b' hs' hb' => ?_)
  · unfold wT1
    by_cases c : 1 ≤ j' ∧ j' ≤ 7
    · have h0 := h.1 b' j' hb' c.1 c.2
      rw [if_pos c]
      split <;> omega
    · rw [if_neg c, if_neg (by omega)]
      exact Int.le_refl _
  · have h0 := h.2.2.1 s' b' hs' hb'
    simp only [Int.zero_mul, Int.one_mul]
    omega
theorem gT_4 (h : b_Nn N S) {s b : Nat} (hs : s < 6) (hb : b < 8) : vv S 4 s b + vv S 5 s b ≤ gT S := by
  have e3 : sI (fun b' => (1 : Int) * (vv S 4 s b' + vv S 5 s b')) 8 ≤ sI (fun s' => sI (fun b' => (1 : Int) * (vv S 4 s' b' + vv S 5 s' b')) 8) 6 :=
    sI_le (f := fun s' => sI (fun b' => (1 : Int) * (vv S 4 s' b' + vv S 5 s' b')) 8) 6 hs (fun s' hs' => sI_n 8 (fun b' hb' => by have h0 := h.2.2.1 s' b' hs' hb'; omega))
  have e4 : (1 : Int) * (vv S 4 s b + vv S 5 s b) ≤ sI (fun b' => (1 : Int) * (vv S 4 s b' + vv S 5 s b')) 8 :=
    sI_le (f := fun b' => (1 : Int) * (vv S 4 s b' + vv S 5 s b')) 8 hb (fun b' hb' => by have h0 := h.2.2.1 s b' hs hb'; omega)
  have e1 : 0 ≤ sI (fun b => sI (fun j => wT1 b j * vv S 1 b j) 10) 8 := sI_n 8 (fun b' hb' => sI_n 10 (fun j' hj' => by
    unfold wT1
    by_cases c : 1 ≤ j' ∧ j' ≤ 7
    · have h0 := h.1 b' j' hb' c.1 c.2
      rw [if_pos c]; omega
    · rw [if_neg c]; omega))
  have e2 : sI (fun s => sI (fun j => w0 s j * vv S 2 s j) 5) 6 = 0 := sI_z 6 (fun b _ => sI_z 5 (fun j _ => by simp [w0]))
  unfold gT gS
  dsimp only
  omega
theorem gC_0 (h : b_Nn N S) {s : Nat} (hs : s < 6) : vv S 2 s 1 ≤ gC S := by
  rw [← gS_i2 (S := S) hs (show 1 < 5 by decide)]
  refine gS_m (fun b' j' hb' hj' => Int.le_refl _) (fun s' j' hs' hj' => ?_) (fun s' b' hs' hb' => Int.le_refl _)
  unfold wC2
  by_cases c : j' = 1
  · subst c
    have h0 := (h.2.2.2.1 s' hs').2
    rw [if_pos rfl]
    split <;> omega
  · rw [if_neg c, if_neg (fun q => c q.2)]
    exact Int.le_refl _
theorem gM_0 (h : b_Nn N S) (hS : b_Se S) (hW : b_WF S) {s : Nat} (hs : s < 6) : vv S 2 s 0 ≤ gM (kd S) (dp S) S + 100 * gT S := by
  rw [← gS_i2 (S := S) hs (show 0 < 5 by decide)]
  unfold gM gT
  rw [← gS_l]
  refine gS_m (fun b' j' hb' hj' => ?_) (fun s' j' hs' hj' => ?_) (fun s' b' hs' hb' => ?_)
  · have hd := hS.1 (kd S b') (hW.kd3 hb')
    unfold wM1 wT1
    by_cases c6 : j' = 6
    · subst c6
      simp [w0]
    · by_cases c3 : j' = 3
      · subst c3
        have h0 := h.1 b' 3 hb' (by decide) (by decide)
        simp [w0]
        exact Int.mul_nonneg (by omega) h0
      · rw [if_neg c6, if_neg c3]
        by_cases c : 1 ≤ j' ∧ j' ≤ 7
        · have h0 := h.1 b' j' hb' c.1 c.2
          rw [if_pos c]
          simp [w0]
          omega
        · rw [if_neg c]
          simp [w0]
  · unfold wM2
    by_cases c : j' = 0
    · subst c
      have h0 := (h.2.2.2.1 s' hs').1
      simp [w0]
      split <;> omega
    · rw [if_neg c, if_neg (fun q => c q.2)]
      simp [w0]
  · have h0 := h.2.2.1 s' b' hs' hb'
    simp only [Int.zero_mul, Int.zero_add]
    omega
theorem gX_0 (h : b_Nn N S) (K : Nat → Nat) (k : Nat) : 0 ≤ gX K k S := by
  rw [← gS_z (S := S)]
  refine gS_m (fun b' j' hb' hj' => ?_) (fun s' j' hs' hj' => Int.le_refl _) (fun s' b' hs' hb' => ?_)
  · unfold wX1 w0
    split
    · rename_i c
      have h0 := h.1 b' j' hb' (by omega) (by omega)
      omega
    · exact Int.le_refl _
  · have h0 := h.2.2.1 s' b' hs' hb'
    unfold wX4
    split <;> omega
theorem ee_0 (hS : b_Se S) {k : Nat} (hk : k < 3) : 12 ≤ ee S k ∧ ee S k ≤ 1700 := by
  have h1 := hS.1 k hk
  have h2 := hS.2.1
  unfold ee
  omega
/-- how much of all there is -/
theorem b_Iv.bnd (h : b_Iv N S) : (∀ b j, b < 8 → 1 ≤ j → j ≤ 7 → 0 ≤ vv S 1 b j ∧ vv S 1 b j ≤ 40000) ∧ (∀ s b, s < 6 → b < 8 → 0 ≤ vv S 4 s b ∧ 0 ≤ vv S 5 s b ∧ vv S 4 s b + vv S 5 s b ≤ 40000) ∧
    (∀ s, s < 6 → 0 ≤ vv S 2 s 0 ∧ vv S 2 s 0 ≤ 4600000 ∧ 0 ≤ vv S 2 s 1 ∧ vv S 2 s 1 ≤ 1000) ∧ (0 ≤ vv S 0 0 2 ∧ vv S 0 0 2 ≤ 1000) ∧ (0 ≤ vv S 0 0 3 ∧ vv S 0 0 3 ≤ 4600000) ∧ 0 ≤ vv S 0 0 5 ∧ vv S 0 0 5 ≤ 4600000 := by
  obtain ⟨hW, hS, hN, hZ, hT, hC, hM, D, hD, hH⟩ := h
  have h8 := hW.nb8
  have h6 := hW.ns6
  have hC0 := gC_0 hN (s := 0) (by decide)
  have hc0 := (hN.2.2.2.1 0 (by decide)).2
  have hM0 := gM_0 hN hS hW (s := 0) (by decide)
  have hm0 := (hN.2.2.2.1 0 (by decide)).1
  have hD0 : ∀ k, k < 3 → 0 ≤ D k * ee S k := fun k hk => Int.mul_nonneg (by have h1 := hD k hk; have h2 := gX_0 hN (kd S) k; omega) (by have := ee_0 hS hk; omega)
  have hd0 := hD0 0 (by decide)
  have hd1 := hD0 1 (by decide)
  have hd2 := hD0 2 (by decide)
  have hs := hN.2.2.2.2.1
  have hp := hN.2.2.2.2.2
  refine ⟨fun b j hb h1 h7 => ?_, fun s b hs hb => ?_, fun s hs' => ?_, ?_, ?_, ?_⟩
  · have := gT_1 hN hb h1 h7
    have := hN.1 b j hb h1 h7
    omega
  · have := gT_4 hN hs hb
    have := hN.2.2.1 s b hs hb
    omega
  · have := gM_0 hN hS hW hs'
    have := gC_0 hN hs'
    have := hN.2.2.2.1 s hs'
    omega
  · omega
  · omega
  · omega
end IV
theorem i_can (a b : Int) : a + b - a = b := by omega
theorem vv_n {S : b_St} {k i j k' i' j' : Nat} {x : Int32} (h : ¬ (k' = k ∧ j' = j ∧ i' = i)) : vv (u3 S k i j x) k' i' j' = vv S k' i' j' := (vv_u3 ..).trans (if_neg h)
theorem vv_k {S : b_St} {k i j k' i' j' : Nat} {x : Int32} (h : ¬ k' = k) : vv (u3 S k i j x) k' i' j' = vv S k' i' j' := vv_n (fun q => h q.1)
theorem vv_j {S : b_St} {k i j k' i' j' : Nat} {x : Int32} (h : ¬ j' = j) : vv (u3 S k i j x) k' i' j' = vv S k' i' j' := vv_n (fun q => h q.2.1)
theorem u3_k {S : b_St} {k i j k' i' j' : Nat} {x : Int32} (h : ¬ k' = k) : u3 S k i j x k' i' j' = S k' i' j' := u3_n _ _ (fun q => h q.1)
theorem u3_j {S : b_St} {k i j k' i' j' : Nat} {x : Int32} (h : ¬ j' = j) : u3 S k i j x k' i' j' = S k' i' j' := u3_n _ _ (fun q => h q.2.1)
theorem u3_i {S : b_St} {k i j k' i' j' : Nat} {x : Int32} (h : ¬ i' = i) : u3 S k i j x k' i' j' = S k' i' j' := u3_n _ _ (fun q => h q.2.2)
theorem w27 {w j : Nat} (hw : w = 0 ∨ w = 1 ∨ 7 ≤ w) (h1 : 2 ≤ j) (h2 : j < 7) : ¬ w = j := by omega
theorem nn_u {S : b_St} {k i j k' i' j' : Nat} {x : Int32} (h : 0 ≤ x.toInt) (h2 : 0 ≤ vv S k' i' j') : 0 ≤ vv (u3 S k i j x) k' i' j' := by
  rw [vv_u3]
  split <;> assumption
theorem le_u {S : b_St} {k i j k' i' j' : Nat} {x : Int32} {M : Int} (h : x.toInt ≤ M) (h2 : vv S k' i' j' ≤ M) : vv (u3 S k i j x) k' i' j' ≤ M := by
  rw [vv_u3]
  split <;> assumption
section VS
variable {S : b_St} {c : Int32}
theorem i_12 (h1 : -1000000 ≤ c.toInt) (h2 : c.toInt ≤ 1000000) : (nI 12 * c).toInt = 12 * c.toInt := by
  have e : (nI 12).toInt = 12 := by decide
  rw [i_mul (by rw [e]; omega) (by rw [e]; omega), e]
theorem v_deps (hSe : b_Se S) {k : Nat} (hk : k < 3) (c1 : 0 ≤ c.toInt) (c2 : c.toInt ≤ 50) : (p_deps S k c).toInt = c.toInt * ee S k ∧ 0 ≤ c.toInt * ee S k ∧ c.toInt * ee S k ≤ 85000 := by
  have hd := hSe.1 k hk
  have h3 := hSe.2.1
  have he := ee_0 hSe hk
  have e1 : (nI 12 * S 0 0 (7 + k)).toInt = 12 * dp S k := i_12 (by show _ ≤ dp S k; omega) (by show dp S k ≤ _; omega)
  have e2 : (nI 12 * S 0 0 (7 + k) + S 0 0 10).toInt = ee S k := by
    rw [i_add (by rw [e1]; show _ ≤ _ + vv S 0 0 10; omega) (by rw [e1]; show _ + vv S 0 0 10 < _; omega), e1]
    rfl
  have m0 : 0 ≤ c.toInt * ee S k := Int.mul_nonneg c1 (by omega)
  have m1 : c.toInt * ee S k ≤ 50 * 1700 := Int.mul_le_mul c2 he.2 (by omega) (by omega)
  refine ⟨?_, m0, by omega⟩
  unfold p_deps
  rw [i_mul (by rw [e2]; omega) (by rw [e2]; omega), e2]
theorem v_fee (hSe : b_Se S) (c1 : 0 ≤ c.toInt) (c2 : c.toInt ≤ 50) : (c * S 0 0 11).toInt = c.toInt * vv S 0 0 11 ∧ 0 ≤ c.toInt * vv S 0 0 11 ∧ c.toInt * vv S 0 0 11 ≤ 5000 := by
  have h3 := hSe.2.2
  have m0 : 0 ≤ c.toInt * vv S 0 0 11 := Int.mul_nonneg c1 h3.1
  have m1 : c.toInt * vv S 0 0 11 ≤ 50 * 100 := Int.mul_le_mul c2 h3.2 h3.1 (by omega)
  refine ⟨?_, m0, by omega⟩
  exact i_mul (show _ ≤ c.toInt * vv S 0 0 11 by omega) (show c.toInt * vv S 0 0 11 < _ by omega)
theorem v_price (hSe : b_Se S) {b : Nat} (hk : kd S b < 3) (c1 : 0 ≤ c.toInt) (c2 : c.toInt ≤ 50) : (p_price S b c).toInt = c.toInt * ee S (kd S b) + c.toInt * vv S 0 0 11 := by
  obtain ⟨d1, d2, d3⟩ := v_deps hSe hk c1 c2
  obtain ⟨f1, f2, f3⟩ := v_fee hSe c1 c2
  unfold p_price
  rw [i_add (by rw [d1, f1]; omega) (by rw [d1, f1]; omega), d1, f1]
theorem v_dep (hSe : b_Se S) {b : Nat} (hk : kd S b < 3) (c1 : 0 ≤ c.toInt) (c2 : c.toInt ≤ 5000) : (c * p_dep S b).toInt = c.toInt * dp S (kd S b) ∧ 0 ≤ c.toInt * dp S (kd S b) ∧ c.toInt * dp S (kd S b) ≤ 100 * c.toInt := by
  have hd := hSe.1 _ hk
  have m0 : 0 ≤ c.toInt * dp S (kd S b) := Int.mul_nonneg c1 (by omega)
  have m1 : c.toInt * dp S (kd S b) ≤ c.toInt * 100 := Int.mul_le_mul_of_nonneg_left hd.2 c1
  refine ⟨?_, m0, by omega⟩
  exact i_mul (show _ ≤ c.toInt * dp S (kd S b) by omega) (show c.toInt * dp S (kd S b) < _ by omega)
theorem i_ge {x y : Int32} (h : ¬ x < y) : y.toInt ≤ x.toInt := Int.not_lt.mp (fun q => h (Int32.lt_iff_toInt_lt.mpr q))
theorem i_le {x y : Int32} (h : x ≤ y) : x.toInt ≤ y.toInt := Int32.le_iff_toInt_le.mp h
end VS
theorem v_full {N : Nat} {S : b_St} {c : Int32} (hW : b_WF S) {b : Nat} (h8 : 0 ≤ vv S 1 b 8 ∧ vv S 1 b 8 ≤ 5000 * N) (hN : N ≤ 64) (c1 : 0 ≤ c.toInt) (c2 : c.toInt ≤ 5000) : 0 ≤ (p_full S b c).toInt ∧ (p_full S b c).toInt ≤ c.toInt := by
  obtain ⟨-, -, -, w, hw, w1, w2⟩ := hW
  have ew : (S 0 0 12).toInt = (w : Int) := by rw [hw, nI_toInt (by omega)]
  have e1 : (S 1 b 8 + c).toInt = vv S 1 b 8 + c.toInt := i_add (by show _ ≤ vv S 1 b 8 + _; omega) (by show vv S 1 b 8 + _ < _; omega)
  have dv : ∀ x : Int32, 0 ≤ x.toInt → (x / S 0 0 12).toInt = x.toInt / (w : Int) := by
    intro x hx
    have hlt := Int32.toInt_lt x
    rw [Int32.toInt_div, ew, Int.tdiv_eq_ediv_of_nonneg hx, Int.bmod_def]
    have h1 : 0 ≤ x.toInt / (w : Int) := Int.ediv_nonneg hx (by omega)
    have h2 : x.toInt / (w : Int) ≤ x.toInt := Int.ediv_le_self _ hx
    generalize x.toInt / (w : Int) = z at *
    omega
  have a1 : ((S 1 b 8 + c) / S 0 0 12).toInt = (vv S 1 b 8 + c.toInt) / (w : Int) := by rw [dv _ (by rw [e1]; omega), e1]
  have a2 : (S 1 b 8 / S 0 0 12).toInt = vv S 1 b 8 / (w : Int) := dv _ h8.1
  have m1 : vv S 1 b 8 / (w : Int) ≤ (vv S 1 b 8 + c.toInt) / (w : Int) := Int.ediv_le_ediv (by omega) (by omega)
  have m2 : (vv S 1 b 8 + c.toInt) / (w : Int) ≤ vv S 1 b 8 / (w : Int) + c.toInt := by
    have h1 : (vv S 1 b 8 + c.toInt * (w : Int)) / (w : Int) = vv S 1 b 8 / (w : Int) + c.toInt := Int.add_mul_ediv_right _ _ (by omega)
    rw [← h1]
    refine Int.ediv_le_ediv (by omega) ?_
    have h2 : c.toInt * 1 ≤ c.toInt * (w : Int) := Int.mul_le_mul_of_nonneg_left (by omega) c1
    omega
  have p0 : 0 ≤ vv S 1 b 8 / (w : Int) := Int.ediv_nonneg h8.1 (by omega)
  have p1 : vv S 1 b 8 / (w : Int) ≤ vv S 1 b 8 := Int.ediv_le_self _ h8.1
  have s1 : ((S 1 b 8 + c) / S 0 0 12 - S 1 b 8 / S 0 0 12).toInt = (vv S 1 b 8 + c.toInt) / (w : Int) - vv S 1 b 8 / (w : Int) := by
    rw [i_sub (by rw [a1, a2]; omega) (by rw [a1, a2]; omega), a1, a2]
  unfold p_full
  rw [i_sub (by rw [s1]; omega) (by rw [s1]; omega), s1]
  omega
set_option maxHeartbeats 4000000
theorem ft_deliver {N : Nat} {S : b_St} {b s : Nat} {c : Int32} (h : b_Iv N S) (hb : b < nb S) (hs : s < ns S) (c1 : 1 ≤ c.toInt) (c2 : c.toInt ≤ 50) (ha : a_deliver S b s c = nI 0) : ((S 1 b 2 - nI 12 * c).toInt = vv S 1 b 2 + (-(12 * c.toInt))) ∧ ((S 4 s b + nI 12 * c).toInt = vv S 4 s b + 12 * c.toInt) ∧ ((S 0 0 2 - c).toInt = vv S 0 0 2 + (-c.toInt)) ∧ ((S 2 s 1 + c).toInt = vv S 2 s 1 + c.toInt) ∧ ((S 2 s 0 - (p_deps S (kd S b) c + c * S 0 0 11)).toInt = vv S 2 s 0 + (-((c.toInt * ee S (kd S b)) + (c.toInt * vv S 0 0 11)))) ∧ ((S 0 0 3 + p_deps S (kd S b) c).toInt = vv S 0 0 3 + (c.toInt * ee S (kd S b))) ∧ ((S 0 0 5 + c * S 0 0 11).toInt = vv S 0 0 5 + (c.toInt * vv S 0 0 11)) ∧ (0 ≤ (S 1 b 2 - nI 12 * c).toInt) ∧ (0 ≤ (S 4 s b + nI 12 * c).toInt) ∧ (0 ≤ (S 0 0 2 - c).toInt) ∧ (0 ≤ (S 2 s 1 + c).toInt) ∧ (0 ≤ (S 2 s 0 - (p_deps S (kd S b) c + c * S 0 0 11)).toInt) ∧ (0 ≤ (S 0 0 3 + p_deps S (kd S b) c).toInt) ∧ (0 ≤ (S 0 0 5 + c * S 0 0 11).toInt) := by
  have hB := h.bnd
  obtain ⟨hW, hSe, hNn, hZr, -⟩ := h
  have hb8 := hW.nb8
  have hs6 := hW.ns6
  have k3 := hW.kd3 (b := b) (by omega)
  have n2 := hB.1 b 2 (by omega) (by decide) (by decide)
  have n45 := hB.2.1 s b (by omega) (by omega)
  have n2 := hB.2.2.1 s (by omega)
  obtain ⟨z2, z3, z5⟩ := hB.2.2.2
  have t12 : (nI 12 * c).toInt = 12 * c.toInt := i_12 (by omega) (by omega)
  obtain ⟨d1, d2, d3⟩ := v_deps (c := c) hSe k3 (by omega) c2
  obtain ⟨f1, f2, f3⟩ := v_fee (c := c) hSe (by omega) c2
  have pr := v_price (c := c) hSe k3 (by omega) c2
  have ha3 : ¬ S 1 b 2 < nI 12 * c ∧ ¬ S 0 0 2 < c ∧ ¬ S 2 s 0 < p_price S b c := by (unfold a_deliver at ha; refine ⟨fun q => ?_, fun q => ?_, fun q => ?_⟩ <;> revert ha <;> (repeat' split) <;> first | (intro h9; exact absurd h9 (by decide)) | (intro _; contradiction))
  have g1 : 12 * c.toInt ≤ vv S 1 b 2 := by have := i_ge ha3.1; rw [t12] at this; exact this
  have g2 : c.toInt ≤ vv S 0 0 2 := i_ge ha3.2.1
  have g3 : (c.toInt * ee S (kd S b)) + (c.toInt * vv S 0 0 11) ≤ vv S 2 s 0 := by have := i_ge ha3.2.2; rw [pr] at this; exact this
  have tp : (p_deps S (kd S b) c + c * S 0 0 11).toInt = (c.toInt * ee S (kd S b)) + (c.toInt * vv S 0 0 11) := by rw [i_add (by rw [d1, f1]; omega) (by rw [d1, f1]; omega), d1, f1]
  have t1 : (S 1 b 2 - nI 12 * c).toInt = vv S 1 b 2 + (-(12 * c.toInt)) := by rw [i_sub (by show _ ≤ vv S 1 b 2 - _; rw [t12]; omega) (by show vv S 1 b 2 - _ < _; rw [t12]; omega)]; rw [t12]; show vv S 1 b 2 - _ = _; omega
  have t2 : (S 4 s b + nI 12 * c).toInt = vv S 4 s b + 12 * c.toInt := by rw [i_add (by rw [t12]; show _ ≤ vv S 4 s b + _; omega) (by rw [t12]; show vv S 4 s b + _ < _; omega), t12]; rfl
  have t3 : (S 0 0 2 - c).toInt = vv S 0 0 2 + (-c.toInt) := by rw [i_sub (by show _ ≤ vv S 0 0 2 - _; omega) (by show vv S 0 0 2 - _ < _; omega)]; show vv S 0 0 2 - _ = _; omega
  have t4 : (S 2 s 1 + c).toInt = vv S 2 s 1 + c.toInt := by rw [i_add (by show _ ≤ vv S 2 s 1 + _; omega) (by show vv S 2 s 1 + _ < _; omega)]; rfl
  have t5 : (S 2 s 0 - (p_deps S (kd S b) c + c * S 0 0 11)).toInt = vv S 2 s 0 + (-((c.toInt * ee S (kd S b)) + (c.toInt * vv S 0 0 11))) := by rw [i_sub (by rw [tp]; show _ ≤ vv S 2 s 0 - _; omega) (by rw [tp]; show vv S 2 s 0 - _ < _; omega), tp]; show vv S 2 s 0 - _ = _; omega
  have t6 : (S 0 0 3 + p_deps S (kd S b) c).toInt = vv S 0 0 3 + (c.toInt * ee S (kd S b)) := by rw [i_add (by rw [d1]; show _ ≤ vv S 0 0 3 + _; omega) (by rw [d1]; show vv S 0 0 3 + _ < _; omega), d1]; rfl
  have t7 : (S 0 0 5 + c * S 0 0 11).toInt = vv S 0 0 5 + (c.toInt * vv S 0 0 11) := by rw [i_add (by rw [f1]; show _ ≤ vv S 0 0 5 + _; omega) (by rw [f1]; show vv S 0 0 5 + _ < _; omega), f1]; rfl
  clear hB
  exact ⟨t1, t2, t3, t4, t5, t6, t7, by rw [t1]; omega, by rw [t2]; omega, by rw [t3]; omega, by rw [t4]; omega, by rw [t5]; omega, by rw [t6]; omega, by rw [t7]; omega⟩
theorem iv_deliver {N : Nat} {S : b_St} {b s : Nat} {c : Int32} (h : b_Iv N S) (hb : b < nb S) (hs : s < ns S) (c1 : 1 ≤ c.toInt) (c2 : c.toInt ≤ 50) (ha : a_deliver S b s c = nI 0) : b_Iv N (s_deliver S b s c) := by
  obtain ⟨t1, t2, t3, t4, t5, t6, t7, p_t1, p_t2, p_t3, p_t4, p_t5, p_t6, p_t7⟩ := ft_deliver h hb hs c1 c2 ha
  obtain ⟨hW, hSe, hNn, hZr, hSu⟩ := h
  have hb8 := hW.nb8
  have hs6 := hW.ns6
  have sz : ∀ s9, ns S ≤ s9 → ¬ s9 = s := fun s9 q e => absurd hs (Nat.not_lt.mpr (e ▸ q))
  have bzb : ∀ b9, nb S ≤ b9 → ¬ b9 = b := fun b9 q e => absurd hb (Nat.not_lt.mpr (e ▸ q))
  have hSm : b_Sm S (s_deliver S b s c) := ⟨fun w hw => by (unfold s_deliver; rw [u3_j (w27 hw (by decide) (by decide))]; rw [u3_j (w27 hw (by decide) (by decide))]; rw [u3_k (by decide)]; rw [u3_k (by decide)]; rw [u3_k (by decide)]; rw [u3_k (by decide)]; rw [u3_j (w27 hw (by decide) (by decide))]; rw [u3_k (by decide)]; rw [u3_k (by decide)]), fun b9 => by (unfold s_deliver; rw [u3_k (by decide)]; rw [u3_k (by decide)]; rw [u3_k (by decide)]; rw [u3_k (by decide)]; rw [u3_k (by decide)]; rw [u3_k (by decide)]; rw [u3_k (by decide)]; rw [u3_k (by decide)]; rw [u3_j (by decide)])⟩
  have eT : gT (s_deliver S b s c) = gT S + (0) := by
    unfold gT s_deliver
    simp only [gS_1 (show b < 8 by omega) (show 2 < 10 by decide), gS_4 (show s < 6 by omega) (show b < 8 by omega), gS_0, gS_2 (show s < 6 by omega) (show 1 < 5 by decide), gS_2 (show s < 6 by omega) (show 0 < 5 by decide), gS_2 (show s < 6 by omega) (show 2 < 5 by decide), gS_2 (show s < 6 by omega) (show 3 < 5 by decide), vv_u3, t1, t2, t3, t4, t5, t6, t7, wT1, w0, Nat.reduceEqDiff, Nat.reduceLeDiff, reduceCtorEq, false_and, and_false, true_and, and_true, or_true, true_or, or_false, false_or, ↓reduceIte, eq_self, Int.one_mul, Int.zero_mul, i_can, Int.neg_mul, Int.mul_neg, Int.neg_neg]
    try omega
  have eC : gC (s_deliver S b s c) = gC S + (c.toInt) := by
    unfold gC s_deliver
    simp only [gS_1 (show b < 8 by omega) (show 2 < 10 by decide), gS_4 (show s < 6 by omega) (show b < 8 by omega), gS_0, gS_2 (show s < 6 by omega) (show 1 < 5 by decide), gS_2 (show s < 6 by omega) (show 0 < 5 by decide), gS_2 (show s < 6 by omega) (show 2 < 5 by decide), gS_2 (show s < 6 by omega) (show 3 < 5 by decide), vv_u3, t1, t2, t3, t4, t5, t6, t7, w0, wC2, Nat.reduceEqDiff, Nat.reduceLeDiff, reduceCtorEq, false_and, and_false, true_and, and_true, or_true, true_or, or_false, false_or, ↓reduceIte, eq_self, Int.one_mul, Int.zero_mul, i_can, Int.neg_mul, Int.mul_neg, Int.neg_neg]
    try omega
  have eM : gM (kd S) (dp S) (s_deliver S b s c) = gM (kd S) (dp S) S + (-((c.toInt * ee S (kd S b)) + (c.toInt * vv S 0 0 11))) := by
    unfold gM s_deliver
    simp only [gS_1 (show b < 8 by omega) (show 2 < 10 by decide), gS_4 (show s < 6 by omega) (show b < 8 by omega), gS_0, gS_2 (show s < 6 by omega) (show 1 < 5 by decide), gS_2 (show s < 6 by omega) (show 0 < 5 by decide), gS_2 (show s < 6 by omega) (show 2 < 5 by decide), gS_2 (show s < 6 by omega) (show 3 < 5 by decide), vv_u3, t1, t2, t3, t4, t5, t6, t7, wM1, wM2, Nat.reduceEqDiff, Nat.reduceLeDiff, reduceCtorEq, false_and, and_false, true_and, and_true, or_true, true_or, or_false, false_or, ↓reduceIte, eq_self, Int.one_mul, Int.zero_mul, i_can, Int.neg_mul, Int.mul_neg, Int.neg_neg]
    try omega
  have eX : ∀ k9, gX (kd S) k9 (s_deliver S b s c) = gX (kd S) k9 S + (if kd S b = k9 then 12 * c.toInt else 0) := by
    intro k9
    unfold gX s_deliver
    by_cases c9 : kd S b = k9
    · simp only [gS_1 (show b < 8 by omega) (show 2 < 10 by decide), gS_4 (show s < 6 by omega) (show b < 8 by omega), gS_0, gS_2 (show s < 6 by omega) (show 1 < 5 by decide), gS_2 (show s < 6 by omega) (show 0 < 5 by decide), gS_2 (show s < 6 by omega) (show 2 < 5 by decide), gS_2 (show s < 6 by omega) (show 3 < 5 by decide), vv_u3, t1, t2, t3, t4, t5, t6, t7, wX1, wX4, w0, c9, Nat.reduceEqDiff, Nat.reduceLeDiff, reduceCtorEq, false_and, and_false, true_and, and_true, or_true, true_or, or_false, false_or, ↓reduceIte, eq_self, Int.one_mul, Int.zero_mul, i_can, Int.neg_mul, Int.mul_neg, Int.neg_neg]
      try omega
    · simp only [gS_1 (show b < 8 by omega) (show 2 < 10 by decide), gS_4 (show s < 6 by omega) (show b < 8 by omega), gS_0, gS_2 (show s < 6 by omega) (show 1 < 5 by decide), gS_2 (show s < 6 by omega) (show 0 < 5 by decide), gS_2 (show s < 6 by omega) (show 2 < 5 by decide), gS_2 (show s < 6 by omega) (show 3 < 5 by decide), vv_u3, t1, t2, t3, t4, t5, t6, t7, wX1, wX4, w0, c9, Nat.reduceEqDiff, Nat.reduceLeDiff, reduceCtorEq, false_and, and_false, true_and, and_true, or_true, true_or, or_false, false_or, ↓reduceIte, eq_self, Int.one_mul, Int.zero_mul, i_can, Int.neg_mul, Int.mul_neg, Int.neg_neg]
      try omega
  have eH : vv (s_deliver S b s c) 0 0 3 = vv S 0 0 3 + ((c.toInt * ee S (kd S b))) := by
    unfold s_deliver
    simp only [vv_u3, t1, t2, t3, t4, t5, t6, t7, Nat.reduceEqDiff, Nat.reduceLeDiff, reduceCtorEq, false_and, and_false, true_and, and_true, or_true, true_or, or_false, false_or, ↓reduceIte, eq_self, Int.one_mul, Int.zero_mul, i_can, Int.neg_mul, Int.mul_neg, Int.neg_neg]
    try omega
  have eS : vv (s_deliver S b s c) 0 0 2 = vv S 0 0 2 + (-c.toInt) := by
    unfold s_deliver
    simp only [vv_u3, t1, t2, t3, t4, t5, t6, t7, Nat.reduceEqDiff, Nat.reduceLeDiff, reduceCtorEq, false_and, and_false, true_and, and_true, or_true, true_or, or_false, false_or, ↓reduceIte, eq_self, Int.one_mul, Int.zero_mul, i_can, Int.neg_mul, Int.mul_neg, Int.neg_neg]
    try omega
  have eP : vv (s_deliver S b s c) 0 0 5 = vv S 0 0 5 + ((c.toInt * vv S 0 0 11)) := by
    unfold s_deliver
    simp only [vv_u3, t1, t2, t3, t4, t5, t6, t7, Nat.reduceEqDiff, Nat.reduceLeDiff, reduceCtorEq, false_and, and_false, true_and, and_true, or_true, true_or, or_false, false_or, ↓reduceIte, eq_self, Int.one_mul, Int.zero_mul, i_can, Int.neg_mul, Int.mul_neg, Int.neg_neg]
    try omega
  refine ⟨hSm.wf hW, hSm.se hSe, ⟨fun b9 j9 q1 q2 q3 => ?_, fun b9 q1 => ?_, fun s9 b9 q1 q2 => ?_, fun s9 q1 => ?_, ?_, ?_⟩, ⟨fun b9 w9 q1 q2 q3 => ?_, fun s9 w9 q1 q2 q3 => ?_, fun s9 b9 q1 q2 q3 => ?_⟩, ?_⟩
  · have o9 := hNn.1 b9 j9 q1 q2 q3
    unfold s_deliver
    (rw [vv_k (by decide)]; rw [vv_k (by decide)]; rw [vv_k (by decide)]; rw [vv_k (by decide)]; rw [vv_k (by decide)]; rw [vv_k (by decide)]; rw [vv_k (by decide)]; rw [vv_k (by decide)]; refine nn_u p_t1 ?_)
    exact o9
  · have o9 := hNn.2.1 b9 q1
    unfold s_deliver
    constructor
    · (rw [vv_k (by decide)]; rw [vv_k (by decide)]; rw [vv_k (by decide)]; rw [vv_k (by decide)]; rw [vv_k (by decide)]; rw [vv_k (by decide)]; rw [vv_k (by decide)]; rw [vv_k (by decide)]; rw [vv_j (by decide)])
      exact o9.1
    · (rw [vv_k (by decide)]; rw [vv_k (by decide)]; rw [vv_k (by decide)]; rw [vv_k (by decide)]; rw [vv_k (by decide)]; rw [vv_k (by decide)]; rw [vv_k (by decide)]; rw [vv_k (by decide)]; rw [vv_j (by decide)])
      exact o9.2
  · have o9 := hNn.2.2.1 s9 b9 q1 q2
    unfold s_deliver
    constructor
    · (rw [vv_k (by decide)]; rw [vv_k (by decide)]; rw [vv_k (by decide)]; rw [vv_k (by decide)]; rw [vv_k (by decide)]; rw [vv_k (by decide)]; rw [vv_k (by decide)]; refine nn_u p_t2 ?_; rw [vv_k (by decide)])
      exact o9.1
    · (rw [vv_k (by decide)]; rw [vv_k (by decide)]; rw [vv_k (by decide)]; rw [vv_k (by decide)]; rw [vv_k (by decide)]; rw [vv_k (by decide)]; rw [vv_k (by decide)]; rw [vv_k (by decide)]; rw [vv_k (by decide)])
      exact o9.2
  · have o9 := hNn.2.2.2.1 s9 q1
    unfold s_deliver
    constructor
    · (rw [vv_k (by decide)]; rw [vv_k (by decide)]; rw [vv_j (by decide)]; rw [vv_j (by decide)]; refine nn_u p_t5 ?_; rw [vv_j (by decide)]; rw [vv_k (by decide)]; rw [vv_k (by decide)]; rw [vv_k (by decide)])
      exact o9.1
    · (rw [vv_k (by decide)]; rw [vv_k (by decide)]; rw [vv_j (by decide)]; rw [vv_j (by decide)]; rw [vv_j (by decide)]; refine nn_u p_t4 ?_; rw [vv_k (by decide)]; rw [vv_k (by decide)]; rw [vv_k (by decide)])
      exact o9.2
  · have o9 := hNn.2.2.2.2.1
    unfold s_deliver
    (rw [vv_j (by decide)]; rw [vv_j (by decide)]; rw [vv_k (by decide)]; rw [vv_k (by decide)]; rw [vv_k (by decide)]; rw [vv_k (by decide)]; refine nn_u p_t3 ?_; rw [vv_k (by decide)]; rw [vv_k (by decide)])
    exact o9
  · have o9 := hNn.2.2.2.2.2
    unfold s_deliver
    (refine nn_u p_t7 ?_; rw [vv_j (by decide)]; rw [vv_k (by decide)]; rw [vv_k (by decide)]; rw [vv_k (by decide)]; rw [vv_k (by decide)]; rw [vv_j (by decide)]; rw [vv_k (by decide)]; rw [vv_k (by decide)])
    exact o9
  · rw [hSm.nb_] at q1
    unfold s_deliver
    (rw [u3_k (by decide)]; rw [u3_k (by decide)]; rw [u3_k (by decide)]; rw [u3_k (by decide)]; rw [u3_k (by decide)]; rw [u3_k (by decide)]; rw [u3_k (by decide)]; rw [u3_k (by decide)]; rw [u3_i (bzb _ q1)])
    exact hZr.1 b9 w9 q1 q2 q3
  · rw [hSm.ns_] at q1
    unfold s_deliver
    (rw [u3_k (by decide)]; rw [u3_k (by decide)]; rw [u3_i (sz _ q1)]; rw [u3_i (sz _ q1)]; rw [u3_i (sz _ q1)]; rw [u3_i (sz _ q1)]; rw [u3_k (by decide)]; rw [u3_k (by decide)]; rw [u3_k (by decide)])
    exact hZr.2.1 s9 w9 q1 q2 q3
  · rw [hSm.nb_, hSm.ns_] at q3
    have o9 := hZr.2.2 s9 b9 q1 q2 q3
    unfold s_deliver
    rcases q3 with q3 | q3 <;> constructor
    · (rw [u3_k (by decide)]; rw [u3_k (by decide)]; rw [u3_k (by decide)]; rw [u3_k (by decide)]; rw [u3_k (by decide)]; rw [u3_k (by decide)]; rw [u3_k (by decide)]; rw [u3_i (sz _ q3)]; rw [u3_k (by decide)])
      exact o9.1
    · (rw [u3_k (by decide)]; rw [u3_k (by decide)]; rw [u3_k (by decide)]; rw [u3_k (by decide)]; rw [u3_k (by decide)]; rw [u3_k (by decide)]; rw [u3_k (by decide)]; rw [u3_k (by decide)]; rw [u3_k (by decide)])
      exact o9.2
    · (rw [u3_k (by decide)]; rw [u3_k (by decide)]; rw [u3_k (by decide)]; rw [u3_k (by decide)]; rw [u3_k (by decide)]; rw [u3_k (by decide)]; rw [u3_k (by decide)]; rw [u3_j (bzb _ q3)]; rw [u3_k (by decide)])
      exact o9.1
    · (rw [u3_k (by decide)]; rw [u3_k (by decide)]; rw [u3_k (by decide)]; rw [u3_k (by decide)]; rw [u3_k (by decide)]; rw [u3_k (by decide)]; rw [u3_k (by decide)]; rw [u3_k (by decide)]; rw [u3_k (by decide)])
      exact o9.2
  · obtain ⟨y1, y2, y3, D, y4, y5⟩ := hSu
    refine ⟨by rw [eT, hSm.nb_]; omega, by rw [eS, eC]; omega, by rw [hSm.kd_, hSm.dp_, eM, eH, eP, hSm.ns_]; omega, (fun k9 => if kd S b = k9 then D k9 + (c.toInt) else D k9), fun k9 hk9 => ?_, ?_⟩
    · have o9 := y4 k9 hk9
      rw [hSm.kd_, eX]
      try dsimp only
      split <;> omega
    · rw [hSm.ee_, eH]
      have k3 : kd S b = 0 ∨ kd S b = 1 ∨ kd S b = 2 := by have := hW.kd3 (b := b) (by omega); omega
      rcases k3 with k3 | k3 | k3 <;> rw [k3] at * <;> simp only [Nat.reduceEqDiff, reduceCtorEq, ↓reduceIte, Int.add_mul, Int.sub_mul, Int.neg_mul] <;> omega
theorem ft_sell {N : Nat} {S : b_St} {b s : Nat} {c : Int32} (h : b_Iv N S) (hb : b < nb S) (hs : s < ns S) (c1 : 1 ≤ c.toInt) (c2 : c.toInt ≤ 500) (ha : a_sell S s b c = nI 0) : ((S 4 s b - c).toInt = vv S 4 s b + (-c.toInt)) ∧ ((S 1 b 3 + c).toInt = vv S 1 b 3 + (c.toInt)) ∧ ((S 2 s 0 + c * p_dep S b).toInt = vv S 2 s 0 + ((c.toInt * dp S (kd S b)))) ∧ (0 ≤ (S 4 s b - c).toInt) ∧ (0 ≤ (S 1 b 3 + c).toInt) ∧ (0 ≤ (S 2 s 0 + c * p_dep S b).toInt) ∧ (dp S (kd S b) * c.toInt = c.toInt * dp S (kd S b)) ∧ (c.toInt * dp S (kd S b) ≤ 100 * c.toInt) := by
  have hB := h.bnd
  obtain ⟨hW, hSe, hNn, hZr, -⟩ := h
  have hb8 := hW.nb8
  have hs6 := hW.ns6
  have k3 := hW.kd3 (b := b) (by omega)
  have n3 := hB.1 b 3 (by omega) (by decide) (by decide)
  have n45 := hB.2.1 s b (by omega) (by omega)
  have n2 := hB.2.2.1 s (by omega)
  obtain ⟨z2, z3, z5⟩ := hB.2.2.2
  obtain ⟨v1, v2, v3⟩ := v_dep (c := c) hSe k3 (by omega) (by omega)
  have g1 : ¬ S 4 s b < c := by (unfold a_sell at ha; intro q; rw [if_pos q] at ha; exact absurd ha (by decide))
  have g2 : c.toInt ≤ vv S 4 s b := i_ge g1
  have t1 : (S 4 s b - c).toInt = vv S 4 s b + (-c.toInt) := by rw [i_sub (by show _ ≤ vv S 4 s b - _; omega) (by show vv S 4 s b - _ < _; omega)]; show vv S 4 s b - _ = _; omega
  have t2 : (S 1 b 3 + c).toInt = vv S 1 b 3 + (c.toInt) := by rw [i_add (by show _ ≤ vv S 1 b 3 + _; omega) (by show vv S 1 b 3 + _ < _; omega)]; show vv S 1 b 3 + _ = _; omega
  have t3 : (S 2 s 0 + c * p_dep S b).toInt = vv S 2 s 0 + ((c.toInt * dp S (kd S b))) := by rw [i_add (by rw [v1]; show _ ≤ vv S 2 s 0 + _; omega) (by rw [v1]; show vv S 2 s 0 + _ < _; omega), v1]; show vv S 2 s 0 + _ = _; omega
  have m1 : dp S (kd S b) * c.toInt = c.toInt * dp S (kd S b) := Int.mul_comm _ _
  have v3 : c.toInt * dp S (kd S b) ≤ 100 * c.toInt := v3
  clear hB
  exact ⟨t1, t2, t3, by rw [t1]; omega, by rw [t2]; omega, by rw [t3]; omega, m1, v3⟩
theorem iv_sell {N : Nat} {S : b_St} {b s : Nat} {c : Int32} (h : b_Iv N S) (hb : b < nb S) (hs : s < ns S) (c1 : 1 ≤ c.toInt) (c2 : c.toInt ≤ 500) (ha : a_sell S s b c = nI 0) : b_Iv N (s_sell S s b c) := by
  obtain ⟨t1, t2, t3, p_t1, p_t2, p_t3, m1, v3⟩ := ft_sell h hb hs c1 c2 ha
  obtain ⟨hW, hSe, hNn, hZr, hSu⟩ := h
  have hb8 := hW.nb8
  have hs6 := hW.ns6
  have sz : ∀ s9, ns S ≤ s9 → ¬ s9 = s := fun s9 q e => absurd hs (Nat.not_lt.mpr (e ▸ q))
  have bzb : ∀ b9, nb S ≤ b9 → ¬ b9 = b := fun b9 q e => absurd hb (Nat.not_lt.mpr (e ▸ q))
  have hSm : b_Sm S (s_sell S s b c) := ⟨fun w hw => by (unfold s_sell; rw [u3_k (by decide)]; rw [u3_k (by decide)]; rw [u3_k (by decide)]; rw [u3_k (by decide)]), fun b9 => by (unfold s_sell; rw [u3_k (by decide)]; rw [u3_k (by decide)]; rw [u3_j (by decide)]; rw [u3_k (by decide)])⟩
  have eT : gT (s_sell S s b c) = gT S + (0) := by
    unfold gT s_sell
    simp only [gS_4 (show s < 6 by omega) (show b < 8 by omega), gS_1 (show b < 8 by omega) (show 3 < 10 by decide), gS_2 (show s < 6 by omega) (show 4 < 5 by decide), gS_2 (show s < 6 by omega) (show 0 < 5 by decide), vv_u3, t1, t2, t3, wT1, w0, Nat.reduceEqDiff, Nat.reduceLeDiff, reduceCtorEq, false_and, and_false, true_and, and_true, or_true, true_or, or_false, false_or, ↓reduceIte, eq_self, Int.one_mul, Int.zero_mul, i_can, Int.neg_mul, Int.mul_neg, Int.neg_neg]
    try omega
  have eC : gC (s_sell S s b c) = gC S + (0) := by
    unfold gC s_sell
    simp only [gS_4 (show s < 6 by omega) (show b < 8 by omega), gS_1 (show b < 8 by omega) (show 3 < 10 by decide), gS_2 (show s < 6 by omega) (show 4 < 5 by decide), gS_2 (show s < 6 by omega) (show 0 < 5 by decide), vv_u3, t1, t2, t3, w0, wC2, Nat.reduceEqDiff, Nat.reduceLeDiff, reduceCtorEq, false_and, and_false, true_and, and_true, or_true, true_or, or_false, false_or, ↓reduceIte, eq_self, Int.one_mul, Int.zero_mul, i_can, Int.neg_mul, Int.mul_neg, Int.neg_neg]
    try omega
  have eM : gM (kd S) (dp S) (s_sell S s b c) = gM (kd S) (dp S) S + (0) := by
    unfold gM s_sell
    simp only [gS_4 (show s < 6 by omega) (show b < 8 by omega), gS_1 (show b < 8 by omega) (show 3 < 10 by decide), gS_2 (show s < 6 by omega) (show 4 < 5 by decide), gS_2 (show s < 6 by omega) (show 0 < 5 by decide), vv_u3, t1, t2, t3, wM1, wM2, Nat.reduceEqDiff, Nat.reduceLeDiff, reduceCtorEq, false_and, and_false, true_and, and_true, or_true, true_or, or_false, false_or, ↓reduceIte, eq_self, Int.one_mul, Int.zero_mul, i_can, Int.neg_mul, Int.mul_neg, Int.neg_neg]
    try omega
  have eX : ∀ k9, gX (kd S) k9 (s_sell S s b c) = gX (kd S) k9 S + (if kd S b = k9 then 0 else 0) := by
    intro k9
    unfold gX s_sell
    by_cases c9 : kd S b = k9
    · simp only [gS_4 (show s < 6 by omega) (show b < 8 by omega), gS_1 (show b < 8 by omega) (show 3 < 10 by decide), gS_2 (show s < 6 by omega) (show 4 < 5 by decide), gS_2 (show s < 6 by omega) (show 0 < 5 by decide), vv_u3, t1, t2, t3, wX1, wX4, w0, c9, Nat.reduceEqDiff, Nat.reduceLeDiff, reduceCtorEq, false_and, and_false, true_and, and_true, or_true, true_or, or_false, false_or, ↓reduceIte, eq_self, Int.one_mul, Int.zero_mul, i_can, Int.neg_mul, Int.mul_neg, Int.neg_neg]
      try omega
    · simp only [gS_4 (show s < 6 by omega) (show b < 8 by omega), gS_1 (show b < 8 by omega) (show 3 < 10 by decide), gS_2 (show s < 6 by omega) (show 4 < 5 by decide), gS_2 (show s < 6 by omega) (show 0 < 5 by decide), vv_u3, t1, t2, t3, wX1, wX4, w0, c9, Nat.reduceEqDiff, Nat.reduceLeDiff, reduceCtorEq, false_and, and_false, true_and, and_true, or_true, true_or, or_false, false_or, ↓reduceIte, eq_self, Int.one_mul, Int.zero_mul, i_can, Int.neg_mul, Int.mul_neg, Int.neg_neg]
      try omega
  have eH : vv (s_sell S s b c) 0 0 3 = vv S 0 0 3 + (0) := by
    unfold s_sell
    simp only [vv_u3, t1, t2, t3, Nat.reduceEqDiff, Nat.reduceLeDiff, reduceCtorEq, false_and, and_false, true_and, and_true, or_true, true_or, or_false, false_or, ↓reduceIte, eq_self, Int.one_mul, Int.zero_mul, i_can, Int.neg_mul, Int.mul_neg, Int.neg_neg]
    try omega
  have eS : vv (s_sell S s b c) 0 0 2 = vv S 0 0 2 + (0) := by
    unfold s_sell
    simp only [vv_u3, t1, t2, t3, Nat.reduceEqDiff, Nat.reduceLeDiff, reduceCtorEq, false_and, and_false, true_and, and_true, or_true, true_or, or_false, false_or, ↓reduceIte, eq_self, Int.one_mul, Int.zero_mul, i_can, Int.neg_mul, Int.mul_neg, Int.neg_neg]
    try omega
  have eP : vv (s_sell S s b c) 0 0 5 = vv S 0 0 5 + (0) := by
    unfold s_sell
    simp only [vv_u3, t1, t2, t3, Nat.reduceEqDiff, Nat.reduceLeDiff, reduceCtorEq, false_and, and_false, true_and, and_true, or_true, true_or, or_false, false_or, ↓reduceIte, eq_self, Int.one_mul, Int.zero_mul, i_can, Int.neg_mul, Int.mul_neg, Int.neg_neg]
    try omega
  refine ⟨hSm.wf hW, hSm.se hSe, ⟨fun b9 j9 q1 q2 q3 => ?_, fun b9 q1 => ?_, fun s9 b9 q1 q2 => ?_, fun s9 q1 => ?_, ?_, ?_⟩, ⟨fun b9 w9 q1 q2 q3 => ?_, fun s9 w9 q1 q2 q3 => ?_, fun s9 b9 q1 q2 q3 => ?_⟩, ?_⟩
  · have o9 := hNn.1 b9 j9 q1 q2 q3
    unfold s_sell
    (rw [vv_k (by decide)]; rw [vv_k (by decide)]; refine nn_u p_t2 ?_; rw [vv_k (by decide)])
    exact o9
  · have o9 := hNn.2.1 b9 q1
    unfold s_sell
    constructor
    · (rw [vv_k (by decide)]; rw [vv_k (by decide)]; rw [vv_j (by decide)]; rw [vv_k (by decide)])
      exact o9.1
    · (rw [vv_k (by decide)]; rw [vv_k (by decide)]; rw [vv_j (by decide)]; rw [vv_k (by decide)])
      exact o9.2
  · have o9 := hNn.2.2.1 s9 b9 q1 q2
    unfold s_sell
    constructor
    · (rw [vv_k (by decide)]; rw [vv_k (by decide)]; rw [vv_k (by decide)]; refine nn_u p_t1 ?_)
      exact o9.1
    · (rw [vv_k (by decide)]; rw [vv_k (by decide)]; rw [vv_k (by decide)]; rw [vv_k (by decide)])
      exact o9.2
  · have o9 := hNn.2.2.2.1 s9 q1
    unfold s_sell
    constructor
    · (refine nn_u p_t3 ?_; rw [vv_j (by decide)]; rw [vv_k (by decide)]; rw [vv_k (by decide)])
      exact o9.1
    · (rw [vv_j (by decide)]; rw [vv_j (by decide)]; rw [vv_k (by decide)]; rw [vv_k (by decide)])
      exact o9.2
  · have o9 := hNn.2.2.2.2.1
    unfold s_sell
    (rw [vv_k (by decide)]; rw [vv_k (by decide)]; rw [vv_k (by decide)]; rw [vv_k (by decide)])
    exact o9
  · have o9 := hNn.2.2.2.2.2
    unfold s_sell
    (rw [vv_k (by decide)]; rw [vv_k (by decide)]; rw [vv_k (by decide)]; rw [vv_k (by decide)])
    exact o9
  · rw [hSm.nb_] at q1
    unfold s_sell
    (rw [u3_k (by decide)]; rw [u3_k (by decide)]; rw [u3_i (bzb _ q1)]; rw [u3_k (by decide)])
    exact hZr.1 b9 w9 q1 q2 q3
  · rw [hSm.ns_] at q1
    unfold s_sell
    (rw [u3_i (sz _ q1)]; rw [u3_i (sz _ q1)]; rw [u3_k (by decide)]; rw [u3_k (by decide)])
    exact hZr.2.1 s9 w9 q1 q2 q3
  · rw [hSm.nb_, hSm.ns_] at q3
    have o9 := hZr.2.2 s9 b9 q1 q2 q3
    unfold s_sell
    rcases q3 with q3 | q3 <;> constructor
    · (rw [u3_k (by decide)]; rw [u3_k (by decide)]; rw [u3_k (by decide)]; rw [u3_i (sz _ q3)])
      exact o9.1
    · (rw [u3_k (by decide)]; rw [u3_k (by decide)]; rw [u3_k (by decide)]; rw [u3_k (by decide)])
      exact o9.2
    · (rw [u3_k (by decide)]; rw [u3_k (by decide)]; rw [u3_k (by decide)]; rw [u3_j (bzb _ q3)])
      exact o9.1
    · (rw [u3_k (by decide)]; rw [u3_k (by decide)]; rw [u3_k (by decide)]; rw [u3_k (by decide)])
      exact o9.2
  · obtain ⟨y1, y2, y3, D, y4, y5⟩ := hSu
    refine ⟨by rw [eT, hSm.nb_]; omega, by rw [eS, eC]; omega, by rw [hSm.kd_, hSm.dp_, eM, eH, eP, hSm.ns_]; omega, D, fun k9 hk9 => ?_, ?_⟩
    · have o9 := y4 k9 hk9
      rw [hSm.kd_, eX]
      try dsimp only
      split <;> omega
    · rw [hSm.ee_, eH]; omega
theorem ft_take {N : Nat} {S : b_St} {b s : Nat} {c : Int32} (h : b_Iv N S) (hb : b < nb S) (hs : s < ns S) (c1 : 1 ≤ c.toInt) (c2 : c.toInt ≤ 500) (ha : a_take S s b c = nI 0) : ((S 1 b 3 - c).toInt = vv S 1 b 3 + (-c.toInt)) ∧ ((S 5 s b + c).toInt = vv S 5 s b + (c.toInt)) ∧ ((S 2 s 0 - c * p_dep S b).toInt = vv S 2 s 0 + (-(c.toInt * dp S (kd S b)))) ∧ (0 ≤ (S 1 b 3 - c).toInt) ∧ (0 ≤ (S 5 s b + c).toInt) ∧ (0 ≤ (S 2 s 0 - c * p_dep S b).toInt) ∧ (dp S (kd S b) * c.toInt = c.toInt * dp S (kd S b)) ∧ (c.toInt * dp S (kd S b) ≤ 100 * c.toInt) := by
  have hB := h.bnd
  obtain ⟨hW, hSe, hNn, hZr, -⟩ := h
  have hb8 := hW.nb8
  have hs6 := hW.ns6
  have k3 := hW.kd3 (b := b) (by omega)
  have n3 := hB.1 b 3 (by omega) (by decide) (by decide)
  have n45 := hB.2.1 s b (by omega) (by omega)
  have n2 := hB.2.2.1 s (by omega)
  obtain ⟨z2, z3, z5⟩ := hB.2.2.2
  obtain ⟨v1, v2, v3⟩ := v_dep (c := c) hSe k3 (by omega) (by omega)
  have ha2 : ¬ S 1 b 3 < c ∧ ¬ S 2 s 0 < c * p_dep S b := by (unfold a_take at ha; refine ⟨fun q => ?_, fun q => ?_⟩ <;> revert ha <;> (repeat' split) <;> first | (intro h9; exact absurd h9 (by decide)) | (intro _; contradiction))
  have g2 : c.toInt ≤ vv S 1 b 3 := i_ge ha2.1
  have g3 : (c.toInt * dp S (kd S b)) ≤ vv S 2 s 0 := by have := i_ge ha2.2; rw [v1] at this; exact this
  have t1 : (S 1 b 3 - c).toInt = vv S 1 b 3 + (-c.toInt) := by rw [i_sub (by show _ ≤ vv S 1 b 3 - _; omega) (by show vv S 1 b 3 - _ < _; omega)]; show vv S 1 b 3 - _ = _; omega
  have t2 : (S 5 s b + c).toInt = vv S 5 s b + (c.toInt) := by rw [i_add (by show _ ≤ vv S 5 s b + _; omega) (by show vv S 5 s b + _ < _; omega)]; show vv S 5 s b + _ = _; omega
  have t3 : (S 2 s 0 - c * p_dep S b).toInt = vv S 2 s 0 + (-(c.toInt * dp S (kd S b))) := by rw [i_sub (by rw [v1]; show _ ≤ vv S 2 s 0 - _; omega) (by rw [v1]; show vv S 2 s 0 - _ < _; omega), v1]; show vv S 2 s 0 - _ = _; omega
  have m1 : dp S (kd S b) * c.toInt = c.toInt * dp S (kd S b) := Int.mul_comm _ _
  have v3 : c.toInt * dp S (kd S b) ≤ 100 * c.toInt := v3
  clear hB
  exact ⟨t1, t2, t3, by rw [t1]; omega, by rw [t2]; omega, by rw [t3]; omega, m1, v3⟩
theorem iv_take {N : Nat} {S : b_St} {b s : Nat} {c : Int32} (h : b_Iv N S) (hb : b < nb S) (hs : s < ns S) (c1 : 1 ≤ c.toInt) (c2 : c.toInt ≤ 500) (ha : a_take S s b c = nI 0) : b_Iv N (s_take S s b c) := by
  obtain ⟨t1, t2, t3, p_t1, p_t2, p_t3, m1, v3⟩ := ft_take h hb hs c1 c2 ha
  obtain ⟨hW, hSe, hNn, hZr, hSu⟩ := h
  have hb8 := hW.nb8
  have hs6 := hW.ns6
  have sz : ∀ s9, ns S ≤ s9 → ¬ s9 = s := fun s9 q e => absurd hs (Nat.not_lt.mpr (e ▸ q))
  have bzb : ∀ b9, nb S ≤ b9 → ¬ b9 = b := fun b9 q e => absurd hb (Nat.not_lt.mpr (e ▸ q))
  have hSm : b_Sm S (s_take S s b c) := ⟨fun w hw => by (unfold s_take; rw [u3_k (by decide)]; rw [u3_k (by decide)]; rw [u3_k (by decide)]; rw [u3_k (by decide)]), fun b9 => by (unfold s_take; rw [u3_k (by decide)]; rw [u3_k (by decide)]; rw [u3_k (by decide)]; rw [u3_j (by decide)])⟩
  have eT : gT (s_take S s b c) = gT S + (0) := by
    unfold gT s_take
    simp only [gS_1 (show b < 8 by omega) (show 3 < 10 by decide), gS_5 (show s < 6 by omega) (show b < 8 by omega), gS_2 (show s < 6 by omega) (show 4 < 5 by decide), gS_2 (show s < 6 by omega) (show 0 < 5 by decide), vv_u3, t1, t2, t3, wT1, w0, Nat.reduceEqDiff, Nat.reduceLeDiff, reduceCtorEq, false_and, and_false, true_and, and_true, or_true, true_or, or_false, false_or, ↓reduceIte, eq_self, Int.one_mul, Int.zero_mul, i_can, Int.neg_mul, Int.mul_neg, Int.neg_neg]
    try omega
  have eC : gC (s_take S s b c) = gC S + (0) := by
    unfold gC s_take
    simp only [gS_1 (show b < 8 by omega) (show 3 < 10 by decide), gS_5 (show s < 6 by omega) (show b < 8 by omega), gS_2 (show s < 6 by omega) (show 4 < 5 by decide), gS_2 (show s < 6 by omega) (show 0 < 5 by decide), vv_u3, t1, t2, t3, w0, wC2, Nat.reduceEqDiff, Nat.reduceLeDiff, reduceCtorEq, false_and, and_false, true_and, and_true, or_true, true_or, or_false, false_or, ↓reduceIte, eq_self, Int.one_mul, Int.zero_mul, i_can, Int.neg_mul, Int.mul_neg, Int.neg_neg]
    try omega
  have eM : gM (kd S) (dp S) (s_take S s b c) = gM (kd S) (dp S) S + (0) := by
    unfold gM s_take
    simp only [gS_1 (show b < 8 by omega) (show 3 < 10 by decide), gS_5 (show s < 6 by omega) (show b < 8 by omega), gS_2 (show s < 6 by omega) (show 4 < 5 by decide), gS_2 (show s < 6 by omega) (show 0 < 5 by decide), vv_u3, t1, t2, t3, wM1, wM2, Nat.reduceEqDiff, Nat.reduceLeDiff, reduceCtorEq, false_and, and_false, true_and, and_true, or_true, true_or, or_false, false_or, ↓reduceIte, eq_self, Int.one_mul, Int.zero_mul, i_can, Int.neg_mul, Int.mul_neg, Int.neg_neg]
    try omega
  have eX : ∀ k9, gX (kd S) k9 (s_take S s b c) = gX (kd S) k9 S + (if kd S b = k9 then 0 else 0) := by
    intro k9
    unfold gX s_take
    by_cases c9 : kd S b = k9
    · simp only [gS_1 (show b < 8 by omega) (show 3 < 10 by decide), gS_5 (show s < 6 by omega) (show b < 8 by omega), gS_2 (show s < 6 by omega) (show 4 < 5 by decide), gS_2 (show s < 6 by omega) (show 0 < 5 by decide), vv_u3, t1, t2, t3, wX1, wX4, w0, c9, Nat.reduceEqDiff, Nat.reduceLeDiff, reduceCtorEq, false_and, and_false, true_and, and_true, or_true, true_or, or_false, false_or, ↓reduceIte, eq_self, Int.one_mul, Int.zero_mul, i_can, Int.neg_mul, Int.mul_neg, Int.neg_neg]
      try omega
    · simp only [gS_1 (show b < 8 by omega) (show 3 < 10 by decide), gS_5 (show s < 6 by omega) (show b < 8 by omega), gS_2 (show s < 6 by omega) (show 4 < 5 by decide), gS_2 (show s < 6 by omega) (show 0 < 5 by decide), vv_u3, t1, t2, t3, wX1, wX4, w0, c9, Nat.reduceEqDiff, Nat.reduceLeDiff, reduceCtorEq, false_and, and_false, true_and, and_true, or_true, true_or, or_false, false_or, ↓reduceIte, eq_self, Int.one_mul, Int.zero_mul, i_can, Int.neg_mul, Int.mul_neg, Int.neg_neg]
      try omega
  have eH : vv (s_take S s b c) 0 0 3 = vv S 0 0 3 + (0) := by
    unfold s_take
    simp only [vv_u3, t1, t2, t3, Nat.reduceEqDiff, Nat.reduceLeDiff, reduceCtorEq, false_and, and_false, true_and, and_true, or_true, true_or, or_false, false_or, ↓reduceIte, eq_self, Int.one_mul, Int.zero_mul, i_can, Int.neg_mul, Int.mul_neg, Int.neg_neg]
    try omega
  have eS : vv (s_take S s b c) 0 0 2 = vv S 0 0 2 + (0) := by
    unfold s_take
    simp only [vv_u3, t1, t2, t3, Nat.reduceEqDiff, Nat.reduceLeDiff, reduceCtorEq, false_and, and_false, true_and, and_true, or_true, true_or, or_false, false_or, ↓reduceIte, eq_self, Int.one_mul, Int.zero_mul, i_can, Int.neg_mul, Int.mul_neg, Int.neg_neg]
    try omega
  have eP : vv (s_take S s b c) 0 0 5 = vv S 0 0 5 + (0) := by
    unfold s_take
    simp only [vv_u3, t1, t2, t3, Nat.reduceEqDiff, Nat.reduceLeDiff, reduceCtorEq, false_and, and_false, true_and, and_true, or_true, true_or, or_false, false_or, ↓reduceIte, eq_self, Int.one_mul, Int.zero_mul, i_can, Int.neg_mul, Int.mul_neg, Int.neg_neg]
    try omega
  refine ⟨hSm.wf hW, hSm.se hSe, ⟨fun b9 j9 q1 q2 q3 => ?_, fun b9 q1 => ?_, fun s9 b9 q1 q2 => ?_, fun s9 q1 => ?_, ?_, ?_⟩, ⟨fun b9 w9 q1 q2 q3 => ?_, fun s9 w9 q1 q2 q3 => ?_, fun s9 b9 q1 q2 q3 => ?_⟩, ?_⟩
  · have o9 := hNn.1 b9 j9 q1 q2 q3
    unfold s_take
    (rw [vv_k (by decide)]; rw [vv_k (by decide)]; rw [vv_k (by decide)]; refine nn_u p_t1 ?_)
    exact o9
  · have o9 := hNn.2.1 b9 q1
    unfold s_take
    constructor
    · (rw [vv_k (by decide)]; rw [vv_k (by decide)]; rw [vv_k (by decide)]; rw [vv_j (by decide)])
      exact o9.1
    · (rw [vv_k (by decide)]; rw [vv_k (by decide)]; rw [vv_k (by decide)]; rw [vv_j (by decide)])
      exact o9.2
  · have o9 := hNn.2.2.1 s9 b9 q1 q2
    unfold s_take
    constructor
    · (rw [vv_k (by decide)]; rw [vv_k (by decide)]; rw [vv_k (by decide)]; rw [vv_k (by decide)])
      exact o9.1
    · (rw [vv_k (by decide)]; rw [vv_k (by decide)]; refine nn_u p_t2 ?_; rw [vv_k (by decide)])
      exact o9.2
  · have o9 := hNn.2.2.2.1 s9 q1
    unfold s_take
    constructor
    · (refine nn_u p_t3 ?_; rw [vv_j (by decide)]; rw [vv_k (by decide)]; rw [vv_k (by decide)])
      exact o9.1
    · (rw [vv_j (by decide)]; rw [vv_j (by decide)]; rw [vv_k (by decide)]; rw [vv_k (by decide)])
      exact o9.2
  · have o9 := hNn.2.2.2.2.1
    unfold s_take
    (rw [vv_k (by decide)]; rw [vv_k (by decide)]; rw [vv_k (by decide)]; rw [vv_k (by decide)])
    exact o9
  · have o9 := hNn.2.2.2.2.2
    unfold s_take
    (rw [vv_k (by decide)]; rw [vv_k (by decide)]; rw [vv_k (by decide)]; rw [vv_k (by decide)])
    exact o9
  · rw [hSm.nb_] at q1
    unfold s_take
    (rw [u3_k (by decide)]; rw [u3_k (by decide)]; rw [u3_k (by decide)]; rw [u3_i (bzb _ q1)])
    exact hZr.1 b9 w9 q1 q2 q3
  · rw [hSm.ns_] at q1
    unfold s_take
    (rw [u3_i (sz _ q1)]; rw [u3_i (sz _ q1)]; rw [u3_k (by decide)]; rw [u3_k (by decide)])
    exact hZr.2.1 s9 w9 q1 q2 q3
  · rw [hSm.nb_, hSm.ns_] at q3
    have o9 := hZr.2.2 s9 b9 q1 q2 q3
    unfold s_take
    rcases q3 with q3 | q3 <;> constructor
    · (rw [u3_k (by decide)]; rw [u3_k (by decide)]; rw [u3_k (by decide)]; rw [u3_k (by decide)])
      exact o9.1
    · (rw [u3_k (by decide)]; rw [u3_k (by decide)]; rw [u3_i (sz _ q3)]; rw [u3_k (by decide)])
      exact o9.2
    · (rw [u3_k (by decide)]; rw [u3_k (by decide)]; rw [u3_k (by decide)]; rw [u3_k (by decide)])
      exact o9.1
    · (rw [u3_k (by decide)]; rw [u3_k (by decide)]; rw [u3_j (bzb _ q3)]; rw [u3_k (by decide)])
      exact o9.2
  · obtain ⟨y1, y2, y3, D, y4, y5⟩ := hSu
    refine ⟨by rw [eT, hSm.nb_]; omega, by rw [eS, eC]; omega, by rw [hSm.kd_, hSm.dp_, eM, eH, eP, hSm.ns_]; omega, D, fun k9 hk9 => ?_, ?_⟩
    · have o9 := y4 k9 hk9
      rw [hSm.kd_, eX]
      try dsimp only
      split <;> omega
    · rw [hSm.ee_, eH]; omega
theorem ft_break {N : Nat} {S : b_St} {b s : Nat} {c : Int32} (h : b_Iv N S) (hb : b < nb S) (hs : s < ns S) (c1 : 1 ≤ c.toInt) (c2 : c.toInt ≤ 500) (ha : a_break S s b c = nI 0) : ((S 5 s b - c).toInt = vv S 5 s b + (-c.toInt)) ∧ ((S 1 b 5 + c).toInt = vv S 1 b 5 + (c.toInt)) ∧ ((S 0 0 5 - p_paid S b c).toInt = vv S 0 0 5 + (-(p_paid S b c).toInt)) ∧ ((S 2 s 0 + p_paid S b c).toInt = vv S 2 s 0 + ((p_paid S b c).toInt)) ∧ (0 ≤ (S 5 s b - c).toInt) ∧ (0 ≤ (S 1 b 5 + c).toInt) ∧ (0 ≤ (S 0 0 5 - p_paid S b c).toInt) ∧ (0 ≤ (S 2 s 0 + p_paid S b c).toInt) := by
  have hB := h.bnd
  obtain ⟨hW, hSe, hNn, hZr, -⟩ := h
  have hb8 := hW.nb8
  have hs6 := hW.ns6
  have k3 := hW.kd3 (b := b) (by omega)
  have n5 := hB.1 b 5 (by omega) (by decide) (by decide)
  have n45 := hB.2.1 s b (by omega) (by omega)
  have n2 := hB.2.2.1 s (by omega)
  obtain ⟨z2, z3, z5⟩ := hB.2.2.2
  obtain ⟨v1, v2, v3⟩ := v_dep (c := c) hSe k3 (by omega) (by omega)
  have g1 : ¬ S 5 s b < c := by (unfold a_break at ha; intro q; rw [if_pos q] at ha; exact absurd ha (by decide))
  have g2 : c.toInt ≤ vv S 5 s b := i_ge g1
  have gp : 0 ≤ (p_paid S b c).toInt ∧ (p_paid S b c).toInt ≤ vv S 0 0 5 := by (unfold p_paid p_least; by_cases q : c * p_dep S b < S 0 0 5; (rw [if_pos q, v1]; have h9 := Int32.lt_iff_toInt_lt.mp q; rw [v1] at h9; exact ⟨v2, Int.le_of_lt h9⟩); (rw [if_neg q]; exact ⟨by show 0 ≤ vv S 0 0 5; omega, Int.le_refl _⟩))
  have t1 : (S 5 s b - c).toInt = vv S 5 s b + (-c.toInt) := by rw [i_sub (by show _ ≤ vv S 5 s b - _; omega) (by show vv S 5 s b - _ < _; omega)]; show vv S 5 s b - _ = _; omega
  have t2 : (S 1 b 5 + c).toInt = vv S 1 b 5 + (c.toInt) := by rw [i_add (by show _ ≤ vv S 1 b 5 + _; omega) (by show vv S 1 b 5 + _ < _; omega)]; show vv S 1 b 5 + _ = _; omega
  have t3 : (S 0 0 5 - p_paid S b c).toInt = vv S 0 0 5 + (-(p_paid S b c).toInt) := by rw [i_sub (by show _ ≤ vv S 0 0 5 - _; omega) (by show vv S 0 0 5 - _ < _; omega)]; show vv S 0 0 5 - _ = _; omega
  have t4 : (S 2 s 0 + p_paid S b c).toInt = vv S 2 s 0 + ((p_paid S b c).toInt) := by rw [i_add (by show _ ≤ vv S 2 s 0 + _; omega) (by show vv S 2 s 0 + _ < _; omega)]; show vv S 2 s 0 + _ = _; omega
  clear hB
  exact ⟨t1, t2, t3, t4, by rw [t1]; omega, by rw [t2]; omega, by rw [t3]; omega, by rw [t4]; omega⟩
theorem iv_break {N : Nat} {S : b_St} {b s : Nat} {c : Int32} (h : b_Iv N S) (hb : b < nb S) (hs : s < ns S) (c1 : 1 ≤ c.toInt) (c2 : c.toInt ≤ 500) (ha : a_break S s b c = nI 0) : b_Iv N (s_break S s b c) := by
  obtain ⟨t1, t2, t3, t4, p_t1, p_t2, p_t3, p_t4⟩ := ft_break h hb hs c1 c2 ha
  obtain ⟨hW, hSe, hNn, hZr, hSu⟩ := h
  have hb8 := hW.nb8
  have hs6 := hW.ns6
  have sz : ∀ s9, ns S ≤ s9 → ¬ s9 = s := fun s9 q e => absurd hs (Nat.not_lt.mpr (e ▸ q))
  have bzb : ∀ b9, nb S ≤ b9 → ¬ b9 = b := fun b9 q e => absurd hb (Nat.not_lt.mpr (e ▸ q))
  have hSm : b_Sm S (s_break S s b c) := ⟨fun w hw => by (unfold s_break; rw [u3_k (by decide)]; rw [u3_k (by decide)]; rw [u3_j (w27 hw (by decide) (by decide))]; rw [u3_j (w27 hw (by decide) (by decide))]; rw [u3_k (by decide)]; rw [u3_k (by decide)]), fun b9 => by (unfold s_break; rw [u3_k (by decide)]; rw [u3_k (by decide)]; rw [u3_k (by decide)]; rw [u3_k (by decide)]; rw [u3_j (by decide)]; rw [u3_k (by decide)])⟩
  have eT : gT (s_break S s b c) = gT S + (0) := by
    unfold gT s_break
    simp only [gS_5 (show s < 6 by omega) (show b < 8 by omega), gS_1 (show b < 8 by omega) (show 5 < 10 by decide), gS_0, gS_2 (show s < 6 by omega) (show 0 < 5 by decide), gS_2 (show s < 6 by omega) (show 3 < 5 by decide), vv_u3, t1, t2, t3, t4, wT1, w0, Nat.reduceEqDiff, Nat.reduceLeDiff, reduceCtorEq, false_and, and_false, true_and, and_true, or_true, true_or, or_false, false_or, ↓reduceIte, eq_self, Int.one_mul, Int.zero_mul, i_can, Int.neg_mul, Int.mul_neg, Int.neg_neg]
    try omega
  have eC : gC (s_break S s b c) = gC S + (0) := by
    unfold gC s_break
    simp only [gS_5 (show s < 6 by omega) (show b < 8 by omega), gS_1 (show b < 8 by omega) (show 5 < 10 by decide), gS_0, gS_2 (show s < 6 by omega) (show 0 < 5 by decide), gS_2 (show s < 6 by omega) (show 3 < 5 by decide), vv_u3, t1, t2, t3, t4, w0, wC2, Nat.reduceEqDiff, Nat.reduceLeDiff, reduceCtorEq, false_and, and_false, true_and, and_true, or_true, true_or, or_false, false_or, ↓reduceIte, eq_self, Int.one_mul, Int.zero_mul, i_can, Int.neg_mul, Int.mul_neg, Int.neg_neg]
    try omega
  have eM : gM (kd S) (dp S) (s_break S s b c) = gM (kd S) (dp S) S + ((p_paid S b c).toInt) := by
    unfold gM s_break
    simp only [gS_5 (show s < 6 by omega) (show b < 8 by omega), gS_1 (show b < 8 by omega) (show 5 < 10 by decide), gS_0, gS_2 (show s < 6 by omega) (show 0 < 5 by decide), gS_2 (show s < 6 by omega) (show 3 < 5 by decide), vv_u3, t1, t2, t3, t4, wM1, wM2, Nat.reduceEqDiff, Nat.reduceLeDiff, reduceCtorEq, false_and, and_false, true_and, and_true, or_true, true_or, or_false, false_or, ↓reduceIte, eq_self, Int.one_mul, Int.zero_mul, i_can, Int.neg_mul, Int.mul_neg, Int.neg_neg]
    try omega
  have eX : ∀ k9, gX (kd S) k9 (s_break S s b c) = gX (kd S) k9 S + (if kd S b = k9 then 0 else 0) := by
    intro k9
    unfold gX s_break
    by_cases c9 : kd S b = k9
    · simp only [gS_5 (show s < 6 by omega) (show b < 8 by omega), gS_1 (show b < 8 by omega) (show 5 < 10 by decide), gS_0, gS_2 (show s < 6 by omega) (show 0 < 5 by decide), gS_2 (show s < 6 by omega) (show 3 < 5 by decide), vv_u3, t1, t2, t3, t4, wX1, wX4, w0, c9, Nat.reduceEqDiff, Nat.reduceLeDiff, reduceCtorEq, false_and, and_false, true_and, and_true, or_true, true_or, or_false, false_or, ↓reduceIte, eq_self, Int.one_mul, Int.zero_mul, i_can, Int.neg_mul, Int.mul_neg, Int.neg_neg]
      try omega
    · simp only [gS_5 (show s < 6 by omega) (show b < 8 by omega), gS_1 (show b < 8 by omega) (show 5 < 10 by decide), gS_0, gS_2 (show s < 6 by omega) (show 0 < 5 by decide), gS_2 (show s < 6 by omega) (show 3 < 5 by decide), vv_u3, t1, t2, t3, t4, wX1, wX4, w0, c9, Nat.reduceEqDiff, Nat.reduceLeDiff, reduceCtorEq, false_and, and_false, true_and, and_true, or_true, true_or, or_false, false_or, ↓reduceIte, eq_self, Int.one_mul, Int.zero_mul, i_can, Int.neg_mul, Int.mul_neg, Int.neg_neg]
      try omega
  have eH : vv (s_break S s b c) 0 0 3 = vv S 0 0 3 + (0) := by
    unfold s_break
    simp only [vv_u3, t1, t2, t3, t4, Nat.reduceEqDiff, Nat.reduceLeDiff, reduceCtorEq, false_and, and_false, true_and, and_true, or_true, true_or, or_false, false_or, ↓reduceIte, eq_self, Int.one_mul, Int.zero_mul, i_can, Int.neg_mul, Int.mul_neg, Int.neg_neg]
    try omega
  have eS : vv (s_break S s b c) 0 0 2 = vv S 0 0 2 + (0) := by
    unfold s_break
    simp only [vv_u3, t1, t2, t3, t4, Nat.reduceEqDiff, Nat.reduceLeDiff, reduceCtorEq, false_and, and_false, true_and, and_true, or_true, true_or, or_false, false_or, ↓reduceIte, eq_self, Int.one_mul, Int.zero_mul, i_can, Int.neg_mul, Int.mul_neg, Int.neg_neg]
    try omega
  have eP : vv (s_break S s b c) 0 0 5 = vv S 0 0 5 + (-(p_paid S b c).toInt) := by
    unfold s_break
    simp only [vv_u3, t1, t2, t3, t4, Nat.reduceEqDiff, Nat.reduceLeDiff, reduceCtorEq, false_and, and_false, true_and, and_true, or_true, true_or, or_false, false_or, ↓reduceIte, eq_self, Int.one_mul, Int.zero_mul, i_can, Int.neg_mul, Int.mul_neg, Int.neg_neg]
    try omega
  refine ⟨hSm.wf hW, hSm.se hSe, ⟨fun b9 j9 q1 q2 q3 => ?_, fun b9 q1 => ?_, fun s9 b9 q1 q2 => ?_, fun s9 q1 => ?_, ?_, ?_⟩, ⟨fun b9 w9 q1 q2 q3 => ?_, fun s9 w9 q1 q2 q3 => ?_, fun s9 b9 q1 q2 q3 => ?_⟩, ?_⟩
  · have o9 := hNn.1 b9 j9 q1 q2 q3
    unfold s_break
    (rw [vv_k (by decide)]; rw [vv_k (by decide)]; rw [vv_k (by decide)]; rw [vv_k (by decide)]; refine nn_u p_t2 ?_; rw [vv_k (by decide)])
    exact o9
  · have o9 := hNn.2.1 b9 q1
    unfold s_break
    constructor
    · (rw [vv_k (by decide)]; rw [vv_k (by decide)]; rw [vv_k (by decide)]; rw [vv_k (by decide)]; rw [vv_j (by decide)]; rw [vv_k (by decide)])
      exact o9.1
    · (rw [vv_k (by decide)]; rw [vv_k (by decide)]; rw [vv_k (by decide)]; rw [vv_k (by decide)]; rw [vv_j (by decide)]; rw [vv_k (by decide)])
      exact o9.2
  · have o9 := hNn.2.2.1 s9 b9 q1 q2
    unfold s_break
    constructor
    · (rw [vv_k (by decide)]; rw [vv_k (by decide)]; rw [vv_k (by decide)]; rw [vv_k (by decide)]; rw [vv_k (by decide)]; rw [vv_k (by decide)])
      exact o9.1
    · (rw [vv_k (by decide)]; rw [vv_k (by decide)]; rw [vv_k (by decide)]; rw [vv_k (by decide)]; rw [vv_k (by decide)]; refine nn_u p_t1 ?_)
      exact o9.2
  · have o9 := hNn.2.2.2.1 s9 q1
    unfold s_break
    constructor
    · (rw [vv_j (by decide)]; refine nn_u p_t4 ?_; rw [vv_k (by decide)]; rw [vv_k (by decide)]; rw [vv_k (by decide)]; rw [vv_k (by decide)])
      exact o9.1
    · (rw [vv_j (by decide)]; rw [vv_j (by decide)]; rw [vv_k (by decide)]; rw [vv_k (by decide)]; rw [vv_k (by decide)]; rw [vv_k (by decide)])
      exact o9.2
  · have o9 := hNn.2.2.2.2.1
    unfold s_break
    (rw [vv_k (by decide)]; rw [vv_k (by decide)]; rw [vv_j (by decide)]; rw [vv_j (by decide)]; rw [vv_k (by decide)]; rw [vv_k (by decide)])
    exact o9
  · have o9 := hNn.2.2.2.2.2
    unfold s_break
    (rw [vv_k (by decide)]; rw [vv_k (by decide)]; refine nn_u p_t3 ?_; rw [vv_j (by decide)]; rw [vv_k (by decide)]; rw [vv_k (by decide)])
    exact o9
  · rw [hSm.nb_] at q1
    unfold s_break
    (rw [u3_k (by decide)]; rw [u3_k (by decide)]; rw [u3_k (by decide)]; rw [u3_k (by decide)]; rw [u3_i (bzb _ q1)]; rw [u3_k (by decide)])
    exact hZr.1 b9 w9 q1 q2 q3
  · rw [hSm.ns_] at q1
    unfold s_break
    (rw [u3_i (sz _ q1)]; rw [u3_i (sz _ q1)]; rw [u3_k (by decide)]; rw [u3_k (by decide)]; rw [u3_k (by decide)]; rw [u3_k (by decide)])
    exact hZr.2.1 s9 w9 q1 q2 q3
  · rw [hSm.nb_, hSm.ns_] at q3
    have o9 := hZr.2.2 s9 b9 q1 q2 q3
    unfold s_break
    rcases q3 with q3 | q3 <;> constructor
    · (rw [u3_k (by decide)]; rw [u3_k (by decide)]; rw [u3_k (by decide)]; rw [u3_k (by decide)]; rw [u3_k (by decide)]; rw [u3_k (by decide)])
      exact o9.1
    · (rw [u3_k (by decide)]; rw [u3_k (by decide)]; rw [u3_k (by decide)]; rw [u3_k (by decide)]; rw [u3_k (by decide)]; rw [u3_i (sz _ q3)])
      exact o9.2
    · (rw [u3_k (by decide)]; rw [u3_k (by decide)]; rw [u3_k (by decide)]; rw [u3_k (by decide)]; rw [u3_k (by decide)]; rw [u3_k (by decide)])
      exact o9.1
    · (rw [u3_k (by decide)]; rw [u3_k (by decide)]; rw [u3_k (by decide)]; rw [u3_k (by decide)]; rw [u3_k (by decide)]; rw [u3_j (bzb _ q3)])
      exact o9.2
  · obtain ⟨y1, y2, y3, D, y4, y5⟩ := hSu
    refine ⟨by rw [eT, hSm.nb_]; omega, by rw [eS, eC]; omega, by rw [hSm.kd_, hSm.dp_, eM, eH, eP, hSm.ns_]; omega, D, fun k9 hk9 => ?_, ?_⟩
    · have o9 := y4 k9 hk9
      rw [hSm.kd_, eX]
      try dsimp only
      split <;> omega
    · rw [hSm.ee_, eH]; omega
theorem ft_lose {N : Nat} {S : b_St} {b : Nat} {c : Int32} (h : b_Iv N S) (hb : b < nb S) (c1 : 1 ≤ c.toInt) (c2 : c.toInt ≤ 5000) (ha : ¬ S 1 b 3 < c) : ((S 1 b 3 - c).toInt = vv S 1 b 3 + (-c.toInt)) ∧ ((S 1 b 6 + c).toInt = vv S 1 b 6 + (c.toInt)) ∧ (0 ≤ (S 1 b 3 - c).toInt) ∧ (0 ≤ (S 1 b 6 + c).toInt) ∧ (dp S (kd S b) * c.toInt = c.toInt * dp S (kd S b)) ∧ (c.toInt * dp S (kd S b) ≤ 100 * c.toInt) := by
  have hB := h.bnd
  obtain ⟨hW, hSe, hNn, hZr, -⟩ := h
  have hb8 := hW.nb8
  have hs6 := hW.ns6
  have k3 := hW.kd3 (b := b) (by omega)
  have n3 := hB.1 b 3 (by omega) (by decide) (by decide)
  have n6 := hB.1 b 6 (by omega) (by decide) (by decide)
  obtain ⟨z2, z3, z5⟩ := hB.2.2.2
  obtain ⟨v1, v2, v3⟩ := v_dep (c := c) hSe k3 (by omega) (by omega)
  have g2 : c.toInt ≤ vv S 1 b 3 := i_ge ha
  have t1 : (S 1 b 3 - c).toInt = vv S 1 b 3 + (-c.toInt) := by rw [i_sub (by show _ ≤ vv S 1 b 3 - _; omega) (by show vv S 1 b 3 - _ < _; omega)]; show vv S 1 b 3 - _ = _; omega
  have t2 : (S 1 b 6 + c).toInt = vv S 1 b 6 + (c.toInt) := by rw [i_add (by show _ ≤ vv S 1 b 6 + _; omega) (by show vv S 1 b 6 + _ < _; omega)]; show vv S 1 b 6 + _ = _; omega
  have m1 : dp S (kd S b) * c.toInt = c.toInt * dp S (kd S b) := Int.mul_comm _ _
  have v3 : c.toInt * dp S (kd S b) ≤ 100 * c.toInt := v3
  clear hB
  exact ⟨t1, t2, by rw [t1]; omega, by rw [t2]; omega, m1, v3⟩
theorem iv_lose {N : Nat} {S : b_St} {b : Nat} {c : Int32} (h : b_Iv N S) (hb : b < nb S) (c1 : 1 ≤ c.toInt) (c2 : c.toInt ≤ 5000) (ha : ¬ S 1 b 3 < c) : b_Iv N (s_lose S b c) := by
  obtain ⟨t1, t2, p_t1, p_t2, m1, v3⟩ := ft_lose h hb c1 c2 ha
  obtain ⟨hW, hSe, hNn, hZr, hSu⟩ := h
  have hb8 := hW.nb8
  have hs6 := hW.ns6
  have bzb : ∀ b9, nb S ≤ b9 → ¬ b9 = b := fun b9 q e => absurd hb (Nat.not_lt.mpr (e ▸ q))
  have hSm : b_Sm S (s_lose S b c) := ⟨fun w hw => by (unfold s_lose; rw [u3_j (w27 hw (by decide) (by decide))]; rw [u3_k (by decide)]; rw [u3_k (by decide)]), fun b9 => by (unfold s_lose; rw [u3_k (by decide)]; rw [u3_j (by decide)]; rw [u3_j (by decide)])⟩
  have eT : gT (s_lose S b c) = gT S + (0) := by
    unfold gT s_lose
    simp only [gS_1 (show b < 8 by omega) (show 3 < 10 by decide), gS_1 (show b < 8 by omega) (show 6 < 10 by decide), gS_0, vv_u3, t1, t2, wT1, w0, Nat.reduceEqDiff, Nat.reduceLeDiff, reduceCtorEq, false_and, and_false, true_and, and_true, or_true, true_or, or_false, false_or, ↓reduceIte, eq_self, Int.one_mul, Int.zero_mul, i_can, Int.neg_mul, Int.mul_neg, Int.neg_neg]
    try omega
  have eC : gC (s_lose S b c) = gC S + (0) := by
    unfold gC s_lose
    simp only [gS_1 (show b < 8 by omega) (show 3 < 10 by decide), gS_1 (show b < 8 by omega) (show 6 < 10 by decide), gS_0, vv_u3, t1, t2, w0, wC2, Nat.reduceEqDiff, Nat.reduceLeDiff, reduceCtorEq, false_and, and_false, true_and, and_true, or_true, true_or, or_false, false_or, ↓reduceIte, eq_self, Int.one_mul, Int.zero_mul, i_can, Int.neg_mul, Int.mul_neg, Int.neg_neg]
    try omega
  have eM : gM (kd S) (dp S) (s_lose S b c) = gM (kd S) (dp S) S + ((c.toInt * dp S (kd S b)) - 100 * c.toInt) := by
    unfold gM s_lose
    simp only [gS_1 (show b < 8 by omega) (show 3 < 10 by decide), gS_1 (show b < 8 by omega) (show 6 < 10 by decide), gS_0, vv_u3, t1, t2, wM1, wM2, Nat.reduceEqDiff, Nat.reduceLeDiff, reduceCtorEq, false_and, and_false, true_and, and_true, or_true, true_or, or_false, false_or, ↓reduceIte, eq_self, Int.one_mul, Int.zero_mul, i_can, Int.neg_mul, Int.mul_neg, Int.neg_neg]
    try omega
  have eX : ∀ k9, gX (kd S) k9 (s_lose S b c) = gX (kd S) k9 S + (if kd S b = k9 then 0 else 0) := by
    intro k9
    unfold gX s_lose
    by_cases c9 : kd S b = k9
    · simp only [gS_1 (show b < 8 by omega) (show 3 < 10 by decide), gS_1 (show b < 8 by omega) (show 6 < 10 by decide), gS_0, vv_u3, t1, t2, wX1, wX4, w0, c9, Nat.reduceEqDiff, Nat.reduceLeDiff, reduceCtorEq, false_and, and_false, true_and, and_true, or_true, true_or, or_false, false_or, ↓reduceIte, eq_self, Int.one_mul, Int.zero_mul, i_can, Int.neg_mul, Int.mul_neg, Int.neg_neg]
      try omega
    · simp only [gS_1 (show b < 8 by omega) (show 3 < 10 by decide), gS_1 (show b < 8 by omega) (show 6 < 10 by decide), gS_0, vv_u3, t1, t2, wX1, wX4, w0, c9, Nat.reduceEqDiff, Nat.reduceLeDiff, reduceCtorEq, false_and, and_false, true_and, and_true, or_true, true_or, or_false, false_or, ↓reduceIte, eq_self, Int.one_mul, Int.zero_mul, i_can, Int.neg_mul, Int.mul_neg, Int.neg_neg]
      try omega
  have eH : vv (s_lose S b c) 0 0 3 = vv S 0 0 3 + (0) := by
    unfold s_lose
    simp only [vv_u3, t1, t2, Nat.reduceEqDiff, Nat.reduceLeDiff, reduceCtorEq, false_and, and_false, true_and, and_true, or_true, true_or, or_false, false_or, ↓reduceIte, eq_self, Int.one_mul, Int.zero_mul, i_can, Int.neg_mul, Int.mul_neg, Int.neg_neg]
    try omega
  have eS : vv (s_lose S b c) 0 0 2 = vv S 0 0 2 + (0) := by
    unfold s_lose
    simp only [vv_u3, t1, t2, Nat.reduceEqDiff, Nat.reduceLeDiff, reduceCtorEq, false_and, and_false, true_and, and_true, or_true, true_or, or_false, false_or, ↓reduceIte, eq_self, Int.one_mul, Int.zero_mul, i_can, Int.neg_mul, Int.mul_neg, Int.neg_neg]
    try omega
  have eP : vv (s_lose S b c) 0 0 5 = vv S 0 0 5 + (0) := by
    unfold s_lose
    simp only [vv_u3, t1, t2, Nat.reduceEqDiff, Nat.reduceLeDiff, reduceCtorEq, false_and, and_false, true_and, and_true, or_true, true_or, or_false, false_or, ↓reduceIte, eq_self, Int.one_mul, Int.zero_mul, i_can, Int.neg_mul, Int.mul_neg, Int.neg_neg]
    try omega
  refine ⟨hSm.wf hW, hSm.se hSe, ⟨fun b9 j9 q1 q2 q3 => ?_, fun b9 q1 => ?_, fun s9 b9 q1 q2 => ?_, fun s9 q1 => ?_, ?_, ?_⟩, ⟨fun b9 w9 q1 q2 q3 => ?_, fun s9 w9 q1 q2 q3 => ?_, fun s9 b9 q1 q2 q3 => ?_⟩, ?_⟩
  · have o9 := hNn.1 b9 j9 q1 q2 q3
    unfold s_lose
    (rw [vv_k (by decide)]; refine nn_u p_t2 ?_; refine nn_u p_t1 ?_)
    exact o9
  · have o9 := hNn.2.1 b9 q1
    unfold s_lose
    constructor
    · (rw [vv_k (by decide)]; rw [vv_j (by decide)]; rw [vv_j (by decide)])
      exact o9.1
    · (rw [vv_k (by decide)]; rw [vv_j (by decide)]; rw [vv_j (by decide)])
      exact o9.2
  · have o9 := hNn.2.2.1 s9 b9 q1 q2
    unfold s_lose
    constructor
    · (rw [vv_k (by decide)]; rw [vv_k (by decide)]; rw [vv_k (by decide)])
      exact o9.1
    · (rw [vv_k (by decide)]; rw [vv_k (by decide)]; rw [vv_k (by decide)])
      exact o9.2
  · have o9 := hNn.2.2.2.1 s9 q1
    unfold s_lose
    constructor
    · (rw [vv_k (by decide)]; rw [vv_k (by decide)]; rw [vv_k (by decide)])
      exact o9.1
    · (rw [vv_k (by decide)]; rw [vv_k (by decide)]; rw [vv_k (by decide)])
      exact o9.2
  · have o9 := hNn.2.2.2.2.1
    unfold s_lose
    (rw [vv_j (by decide)]; rw [vv_k (by decide)]; rw [vv_k (by decide)])
    exact o9
  · have o9 := hNn.2.2.2.2.2
    unfold s_lose
    (rw [vv_j (by decide)]; rw [vv_k (by decide)]; rw [vv_k (by decide)])
    exact o9
  · rw [hSm.nb_] at q1
    unfold s_lose
    (rw [u3_k (by decide)]; rw [u3_i (bzb _ q1)]; rw [u3_i (bzb _ q1)])
    exact hZr.1 b9 w9 q1 q2 q3
  · rw [hSm.ns_] at q1
    unfold s_lose
    (rw [u3_k (by decide)]; rw [u3_k (by decide)]; rw [u3_k (by decide)])
    exact hZr.2.1 s9 w9 q1 q2 q3
  · rw [hSm.nb_, hSm.ns_] at q3
    have o9 := hZr.2.2 s9 b9 q1 q2 q3
    unfold s_lose
    rcases q3 with q3 | q3 <;> constructor
    · (rw [u3_k (by decide)]; rw [u3_k (by decide)]; rw [u3_k (by decide)])
      exact o9.1
    · (rw [u3_k (by decide)]; rw [u3_k (by decide)]; rw [u3_k (by decide)])
      exact o9.2
    · (rw [u3_k (by decide)]; rw [u3_k (by decide)]; rw [u3_k (by decide)])
      exact o9.1
    · (rw [u3_k (by decide)]; rw [u3_k (by decide)]; rw [u3_k (by decide)])
      exact o9.2
  · obtain ⟨y1, y2, y3, D, y4, y5⟩ := hSu
    refine ⟨by rw [eT, hSm.nb_]; omega, by rw [eS, eC]; omega, by rw [hSm.kd_, hSm.dp_, eM, eH, eP, hSm.ns_]; omega, D, fun k9 hk9 => ?_, ?_⟩
    · have o9 := y4 k9 hk9
      rw [hSm.kd_, eX]
      try dsimp only
      split <;> omega
    · rw [hSm.ee_, eH]; omega
theorem ft_fill {N : Nat} {S : b_St} {b : Nat} {c : Int32} (h : b_Iv N S) (hN : N ≤ 63) (hb : b < nb S) (c1 : 1 ≤ c.toInt) (c2 : c.toInt ≤ 5000) (ha : ¬ S 1 b 1 < c) : ((S 1 b 1 - c).toInt = vv S 1 b 1 + (-c.toInt)) ∧ ((S 1 b 2 + p_full S b c).toInt = vv S 1 b 2 + ((p_full S b c).toInt)) ∧ ((S 1 b 7 + (c - p_full S b c)).toInt = vv S 1 b 7 + (c.toInt - (p_full S b c).toInt)) ∧ ((S 1 b 8 + c).toInt = vv S 1 b 8 + (c.toInt)) ∧ (0 ≤ (S 1 b 1 - c).toInt) ∧ (0 ≤ (S 1 b 2 + p_full S b c).toInt) ∧ (0 ≤ (S 1 b 7 + (c - p_full S b c)).toInt) ∧ (0 ≤ (S 1 b 8 + c).toInt) ∧ ((S 1 b 8 + c).toInt ≤ 5000 * ((N + 1 : Nat) : Int)) := by
  have hB := h.bnd
  obtain ⟨hW, hSe, hNn, hZr, -⟩ := h
  have hb8 := hW.nb8
  have hs6 := hW.ns6
  have k3 := hW.kd3 (b := b) (by omega)
  have n1 := hB.1 b 1 (by omega) (by decide) (by decide)
  have n2 := hB.1 b 2 (by omega) (by decide) (by decide)
  have n7 := hB.1 b 7 (by omega) (by decide) (by decide)
  obtain ⟨z2, z3, z5⟩ := hB.2.2.2
  have n8 := hNn.2.1 b (by omega)
  have g2 : c.toInt ≤ vv S 1 b 1 := i_ge ha
  have pf := v_full (c := c) hW (b := b) (by omega) (by omega) (by omega) c2
  have t1 : (S 1 b 1 - c).toInt = vv S 1 b 1 + (-c.toInt) := by rw [i_sub (by show _ ≤ vv S 1 b 1 - _; omega) (by show vv S 1 b 1 - _ < _; omega)]; show vv S 1 b 1 - _ = _; omega
  have t2 : (S 1 b 2 + p_full S b c).toInt = vv S 1 b 2 + ((p_full S b c).toInt) := by rw [i_add (by show _ ≤ vv S 1 b 2 + _; omega) (by show vv S 1 b 2 + _ < _; omega)]; show vv S 1 b 2 + _ = _; omega
  have tq : (c - p_full S b c).toInt = c.toInt - (p_full S b c).toInt := i_sub (by omega) (by omega)
  have t3 : (S 1 b 7 + (c - p_full S b c)).toInt = vv S 1 b 7 + (c.toInt - (p_full S b c).toInt) := by rw [i_add (by rw [tq]; show _ ≤ vv S 1 b 7 + _; omega) (by rw [tq]; show vv S 1 b 7 + _ < _; omega), tq]; show vv S 1 b 7 + _ = _; omega
  have t4 : (S 1 b 8 + c).toInt = vv S 1 b 8 + (c.toInt) := by rw [i_add (by show _ ≤ vv S 1 b 8 + _; omega) (by show vv S 1 b 8 + _ < _; omega)]; show vv S 1 b 8 + _ = _; omega
  clear hB
  exact ⟨t1, t2, t3, t4, by rw [t1]; omega, by rw [t2]; omega, by rw [t3]; omega, by rw [t4]; omega, by rw [t4]; omega⟩
theorem iv_fill {N : Nat} {S : b_St} {b : Nat} {c : Int32} (h : b_Iv N S) (hN : N ≤ 63) (hb : b < nb S) (c1 : 1 ≤ c.toInt) (c2 : c.toInt ≤ 5000) (ha : ¬ S 1 b 1 < c) : b_Iv (N + 1) (s_fill S b c) := by
  obtain ⟨t1, t2, t3, t4, p_t1, p_t2, p_t3, p_t4, l_t4⟩ := ft_fill h hN hb c1 c2 ha
  obtain ⟨hW, hSe, hNn, hZr, hSu⟩ := h
  have hb8 := hW.nb8
  have hs6 := hW.ns6
  have bzb : ∀ b9, nb S ≤ b9 → ¬ b9 = b := fun b9 q e => absurd hb (Nat.not_lt.mpr (e ▸ q))
  have hSm : b_Sm S (s_fill S b c) := ⟨fun w hw => by (unfold s_fill; rw [u3_k (by decide)]; rw [u3_k (by decide)]; rw [u3_k (by decide)]; rw [u3_k (by decide)]), fun b9 => by (unfold s_fill; rw [u3_j (by decide)]; rw [u3_j (by decide)]; rw [u3_j (by decide)]; rw [u3_j (by decide)])⟩
  have eT : gT (s_fill S b c) = gT S + (0) := by
    unfold gT s_fill
    simp only [gS_1 (show b < 8 by omega) (show 1 < 10 by decide), gS_1 (show b < 8 by omega) (show 2 < 10 by decide), gS_1 (show b < 8 by omega) (show 7 < 10 by decide), gS_1 (show b < 8 by omega) (show 8 < 10 by decide), vv_u3, t1, t2, t3, t4, wT1, w0, Nat.reduceEqDiff, Nat.reduceLeDiff, reduceCtorEq, false_and, and_false, true_and, and_true, or_true, true_or, or_false, false_or, ↓reduceIte, eq_self, Int.one_mul, Int.zero_mul, i_can, Int.neg_mul, Int.mul_neg, Int.neg_neg]
    try omega
  have eC : gC (s_fill S b c) = gC S + (0) := by
    unfold gC s_fill
    simp only [gS_1 (show b < 8 by omega) (show 1 < 10 by decide), gS_1 (show b < 8 by omega) (show 2 < 10 by decide), gS_1 (show b < 8 by omega) (show 7 < 10 by decide), gS_1 (show b < 8 by omega) (show 8 < 10 by decide), vv_u3, t1, t2, t3, t4, w0, wC2, Nat.reduceEqDiff, Nat.reduceLeDiff, reduceCtorEq, false_and, and_false, true_and, and_true, or_true, true_or, or_false, false_or, ↓reduceIte, eq_self, Int.one_mul, Int.zero_mul, i_can, Int.neg_mul, Int.mul_neg, Int.neg_neg]
    try omega
  have eM : gM (kd S) (dp S) (s_fill S b c) = gM (kd S) (dp S) S + (0) := by
    unfold gM s_fill
    simp only [gS_1 (show b < 8 by omega) (show 1 < 10 by decide), gS_1 (show b < 8 by omega) (show 2 < 10 by decide), gS_1 (show b < 8 by omega) (show 7 < 10 by decide), gS_1 (show b < 8 by omega) (show 8 < 10 by decide), vv_u3, t1, t2, t3, t4, wM1, wM2, Nat.reduceEqDiff, Nat.reduceLeDiff, reduceCtorEq, false_and, and_false, true_and, and_true, or_true, true_or, or_false, false_or, ↓reduceIte, eq_self, Int.one_mul, Int.zero_mul, i_can, Int.neg_mul, Int.mul_neg, Int.neg_neg]
    try omega
  have eX : ∀ k9, gX (kd S) k9 (s_fill S b c) = gX (kd S) k9 S + (if kd S b = k9 then 0 else 0) := by
    intro k9
    unfold gX s_fill
    by_cases c9 : kd S b = k9
    · simp only [gS_1 (show b < 8 by omega) (show 1 < 10 by decide), gS_1 (show b < 8 by omega) (show 2 < 10 by decide), gS_1 (show b < 8 by omega) (show 7 < 10 by decide), gS_1 (show b < 8 by omega) (show 8 < 10 by decide), vv_u3, t1, t2, t3, t4, wX1, wX4, w0, c9, Nat.reduceEqDiff, Nat.reduceLeDiff, reduceCtorEq, false_and, and_false, true_and, and_true, or_true, true_or, or_false, false_or, ↓reduceIte, eq_self, Int.one_mul, Int.zero_mul, i_can, Int.neg_mul, Int.mul_neg, Int.neg_neg]
      try omega
    · simp only [gS_1 (show b < 8 by omega) (show 1 < 10 by decide), gS_1 (show b < 8 by omega) (show 2 < 10 by decide), gS_1 (show b < 8 by omega) (show 7 < 10 by decide), gS_1 (show b < 8 by omega) (show 8 < 10 by decide), vv_u3, t1, t2, t3, t4, wX1, wX4, w0, c9, Nat.reduceEqDiff, Nat.reduceLeDiff, reduceCtorEq, false_and, and_false, true_and, and_true, or_true, true_or, or_false, false_or, ↓reduceIte, eq_self, Int.one_mul, Int.zero_mul, i_can, Int.neg_mul, Int.mul_neg, Int.neg_neg]
      try omega
  have eH : vv (s_fill S b c) 0 0 3 = vv S 0 0 3 + (0) := by
    unfold s_fill
    simp only [vv_u3, t1, t2, t3, t4, Nat.reduceEqDiff, Nat.reduceLeDiff, reduceCtorEq, false_and, and_false, true_and, and_true, or_true, true_or, or_false, false_or, ↓reduceIte, eq_self, Int.one_mul, Int.zero_mul, i_can, Int.neg_mul, Int.mul_neg, Int.neg_neg]
    try omega
  have eS : vv (s_fill S b c) 0 0 2 = vv S 0 0 2 + (0) := by
    unfold s_fill
    simp only [vv_u3, t1, t2, t3, t4, Nat.reduceEqDiff, Nat.reduceLeDiff, reduceCtorEq, false_and, and_false, true_and, and_true, or_true, true_or, or_false, false_or, ↓reduceIte, eq_self, Int.one_mul, Int.zero_mul, i_can, Int.neg_mul, Int.mul_neg, Int.neg_neg]
    try omega
  have eP : vv (s_fill S b c) 0 0 5 = vv S 0 0 5 + (0) := by
    unfold s_fill
    simp only [vv_u3, t1, t2, t3, t4, Nat.reduceEqDiff, Nat.reduceLeDiff, reduceCtorEq, false_and, and_false, true_and, and_true, or_true, true_or, or_false, false_or, ↓reduceIte, eq_self, Int.one_mul, Int.zero_mul, i_can, Int.neg_mul, Int.mul_neg, Int.neg_neg]
    try omega
  refine ⟨hSm.wf hW, hSm.se hSe, ⟨fun b9 j9 q1 q2 q3 => ?_, fun b9 q1 => ?_, fun s9 b9 q1 q2 => ?_, fun s9 q1 => ?_, ?_, ?_⟩, ⟨fun b9 w9 q1 q2 q3 => ?_, fun s9 w9 q1 q2 q3 => ?_, fun s9 b9 q1 q2 q3 => ?_⟩, ?_⟩
  · have o9 := hNn.1 b9 j9 q1 q2 q3
    unfold s_fill
    (refine nn_u p_t4 ?_; refine nn_u p_t3 ?_; refine nn_u p_t2 ?_; refine nn_u p_t1 ?_)
    exact o9
  · have o9 := hNn.2.1 b9 q1
    unfold s_fill
    constructor
    · (refine nn_u p_t4 ?_; rw [vv_j (by decide)]; rw [vv_j (by decide)]; rw [vv_j (by decide)])
      exact o9.1
    · (refine le_u l_t4 ?_; rw [vv_j (by decide)]; rw [vv_j (by decide)]; rw [vv_j (by decide)])
      exact Int.le_trans o9.2 (by omega)
  · have o9 := hNn.2.2.1 s9 b9 q1 q2
    unfold s_fill
    constructor
    · (rw [vv_k (by decide)]; rw [vv_k (by decide)]; rw [vv_k (by decide)]; rw [vv_k (by decide)])
      exact o9.1
    · (rw [vv_k (by decide)]; rw [vv_k (by decide)]; rw [vv_k (by decide)]; rw [vv_k (by decide)])
      exact o9.2
  · have o9 := hNn.2.2.2.1 s9 q1
    unfold s_fill
    constructor
    · (rw [vv_k (by decide)]; rw [vv_k (by decide)]; rw [vv_k (by decide)]; rw [vv_k (by decide)])
      exact o9.1
    · (rw [vv_k (by decide)]; rw [vv_k (by decide)]; rw [vv_k (by decide)]; rw [vv_k (by decide)])
      exact o9.2
  · have o9 := hNn.2.2.2.2.1
    unfold s_fill
    (rw [vv_k (by decide)]; rw [vv_k (by decide)]; rw [vv_k (by decide)]; rw [vv_k (by decide)])
    exact o9
  · have o9 := hNn.2.2.2.2.2
    unfold s_fill
    (rw [vv_k (by decide)]; rw [vv_k (by decide)]; rw [vv_k (by decide)]; rw [vv_k (by decide)])
    exact o9
  · rw [hSm.nb_] at q1
    unfold s_fill
    (rw [u3_i (bzb _ q1)]; rw [u3_i (bzb _ q1)]; rw [u3_i (bzb _ q1)]; rw [u3_i (bzb _ q1)])
    exact hZr.1 b9 w9 q1 q2 q3
  · rw [hSm.ns_] at q1
    unfold s_fill
    (rw [u3_k (by decide)]; rw [u3_k (by decide)]; rw [u3_k (by decide)]; rw [u3_k (by decide)])
    exact hZr.2.1 s9 w9 q1 q2 q3
  · rw [hSm.nb_, hSm.ns_] at q3
    have o9 := hZr.2.2 s9 b9 q1 q2 q3
    unfold s_fill
    rcases q3 with q3 | q3 <;> constructor
    · (rw [u3_k (by decide)]; rw [u3_k (by decide)]; rw [u3_k (by decide)]; rw [u3_k (by decide)])
      exact o9.1
    · (rw [u3_k (by decide)]; rw [u3_k (by decide)]; rw [u3_k (by decide)]; rw [u3_k (by decide)])
      exact o9.2
    · (rw [u3_k (by decide)]; rw [u3_k (by decide)]; rw [u3_k (by decide)]; rw [u3_k (by decide)])
      exact o9.1
    · (rw [u3_k (by decide)]; rw [u3_k (by decide)]; rw [u3_k (by decide)]; rw [u3_k (by decide)])
      exact o9.2
  · obtain ⟨y1, y2, y3, D, y4, y5⟩ := hSu
    refine ⟨by rw [eT, hSm.nb_]; omega, by rw [eS, eC]; omega, by rw [hSm.kd_, hSm.dp_, eM, eH, eP, hSm.ns_]; omega, D, fun k9 hk9 => ?_, ?_⟩
    · have o9 := y4 k9 hk9
      rw [hSm.kd_, eX]
      try dsimp only
      split <;> omega
    · rw [hSm.ee_, eH]; omega
theorem ft_buy {N : Nat} {S : b_St} {c : Int32} (h : b_Iv N S) (c1 : 1 ≤ c.toInt) (c2 : c.toInt ≤ 500) (hc : vv S 0 0 2 + gC S + c.toInt ≤ 1000) : ((S 0 0 2 + c).toInt = vv S 0 0 2 + (c.toInt)) ∧ (0 ≤ (S 0 0 2 + c).toInt) := by
  have hB := h.bnd
  obtain ⟨hW, hSe, hNn, hZr, -⟩ := h
  have hb8 := hW.nb8
  have hs6 := hW.ns6
  obtain ⟨z2, z3, z5⟩ := hB.2.2.2
  have t1 : (S 0 0 2 + c).toInt = vv S 0 0 2 + (c.toInt) := by rw [i_add (by show _ ≤ vv S 0 0 2 + _; omega) (by show vv S 0 0 2 + _ < _; omega)]; show vv S 0 0 2 + _ = _; omega
  clear hB
  exact ⟨t1, by rw [t1]; omega⟩
theorem iv_buy {N : Nat} {S : b_St} {c : Int32} (h : b_Iv N S) (c1 : 1 ≤ c.toInt) (c2 : c.toInt ≤ 500) (hc : vv S 0 0 2 + gC S + c.toInt ≤ 1000) : b_Iv N (s_buy S c) := by
  obtain ⟨t1, p_t1⟩ := ft_buy h c1 c2 hc
  obtain ⟨hW, hSe, hNn, hZr, hSu⟩ := h
  have hb8 := hW.nb8
  have hs6 := hW.ns6
  have hSm : b_Sm S (s_buy S c) := ⟨fun w hw => by (unfold s_buy; rw [u3_j (w27 hw (by decide) (by decide))]), fun b9 => by (unfold s_buy; rw [u3_k (by decide)])⟩
  have eT : gT (s_buy S c) = gT S + (0) := by
    unfold gT s_buy
    simp only [gS_0, vv_u3, t1, wT1, w0, Nat.reduceEqDiff, Nat.reduceLeDiff, reduceCtorEq, false_and, and_false, true_and, and_true, or_true, true_or, or_false, false_or, ↓reduceIte, eq_self, Int.one_mul, Int.zero_mul, i_can, Int.neg_mul, Int.mul_neg, Int.neg_neg]
    try omega
  have eC : gC (s_buy S c) = gC S + (0) := by
    unfold gC s_buy
    simp only [gS_0, vv_u3, t1, w0, wC2, Nat.reduceEqDiff, Nat.reduceLeDiff, reduceCtorEq, false_and, and_false, true_and, and_true, or_true, true_or, or_false, false_or, ↓reduceIte, eq_self, Int.one_mul, Int.zero_mul, i_can, Int.neg_mul, Int.mul_neg, Int.neg_neg]
    try omega
  have eM : gM (kd S) (dp S) (s_buy S c) = gM (kd S) (dp S) S + (0) := by
    unfold gM s_buy
    simp only [gS_0, vv_u3, t1, wM1, wM2, Nat.reduceEqDiff, Nat.reduceLeDiff, reduceCtorEq, false_and, and_false, true_and, and_true, or_true, true_or, or_false, false_or, ↓reduceIte, eq_self, Int.one_mul, Int.zero_mul, i_can, Int.neg_mul, Int.mul_neg, Int.neg_neg]
    try omega
  have eX : ∀ k9, gX (kd S) k9 (s_buy S c) = gX (kd S) k9 S + (if kd S 0 = k9 then 0 else 0) := by
    intro k9
    unfold gX s_buy
    by_cases c9 : kd S 0 = k9
    · simp only [gS_0, vv_u3, t1, wX1, wX4, w0, c9, Nat.reduceEqDiff, Nat.reduceLeDiff, reduceCtorEq, false_and, and_false, true_and, and_true, or_true, true_or, or_false, false_or, ↓reduceIte, eq_self, Int.one_mul, Int.zero_mul, i_can, Int.neg_mul, Int.mul_neg, Int.neg_neg]
      try omega
    · simp only [gS_0, vv_u3, t1, wX1, wX4, w0, c9, Nat.reduceEqDiff, Nat.reduceLeDiff, reduceCtorEq, false_and, and_false, true_and, and_true, or_true, true_or, or_false, false_or, ↓reduceIte, eq_self, Int.one_mul, Int.zero_mul, i_can, Int.neg_mul, Int.mul_neg, Int.neg_neg]
      try omega
  have eH : vv (s_buy S c) 0 0 3 = vv S 0 0 3 + (0) := by
    unfold s_buy
    simp only [vv_u3, t1, Nat.reduceEqDiff, Nat.reduceLeDiff, reduceCtorEq, false_and, and_false, true_and, and_true, or_true, true_or, or_false, false_or, ↓reduceIte, eq_self, Int.one_mul, Int.zero_mul, i_can, Int.neg_mul, Int.mul_neg, Int.neg_neg]
    try omega
  have eS : vv (s_buy S c) 0 0 2 = vv S 0 0 2 + (c.toInt) := by
    unfold s_buy
    simp only [vv_u3, t1, Nat.reduceEqDiff, Nat.reduceLeDiff, reduceCtorEq, false_and, and_false, true_and, and_true, or_true, true_or, or_false, false_or, ↓reduceIte, eq_self, Int.one_mul, Int.zero_mul, i_can, Int.neg_mul, Int.mul_neg, Int.neg_neg]
    try omega
  have eP : vv (s_buy S c) 0 0 5 = vv S 0 0 5 + (0) := by
    unfold s_buy
    simp only [vv_u3, t1, Nat.reduceEqDiff, Nat.reduceLeDiff, reduceCtorEq, false_and, and_false, true_and, and_true, or_true, true_or, or_false, false_or, ↓reduceIte, eq_self, Int.one_mul, Int.zero_mul, i_can, Int.neg_mul, Int.mul_neg, Int.neg_neg]
    try omega
  refine ⟨hSm.wf hW, hSm.se hSe, ⟨fun b9 j9 q1 q2 q3 => ?_, fun b9 q1 => ?_, fun s9 b9 q1 q2 => ?_, fun s9 q1 => ?_, ?_, ?_⟩, ⟨fun b9 w9 q1 q2 q3 => ?_, fun s9 w9 q1 q2 q3 => ?_, fun s9 b9 q1 q2 q3 => ?_⟩, ?_⟩
  · have o9 := hNn.1 b9 j9 q1 q2 q3
    unfold s_buy
    (rw [vv_k (by decide)])
    exact o9
  · have o9 := hNn.2.1 b9 q1
    unfold s_buy
    constructor
    · (rw [vv_k (by decide)])
      exact o9.1
    · (rw [vv_k (by decide)])
      exact o9.2
  · have o9 := hNn.2.2.1 s9 b9 q1 q2
    unfold s_buy
    constructor
    · (rw [vv_k (by decide)])
      exact o9.1
    · (rw [vv_k (by decide)])
      exact o9.2
  · have o9 := hNn.2.2.2.1 s9 q1
    unfold s_buy
    constructor
    · (rw [vv_k (by decide)])
      exact o9.1
    · (rw [vv_k (by decide)])
      exact o9.2
  · have o9 := hNn.2.2.2.2.1
    unfold s_buy
    (refine nn_u p_t1 ?_)
    exact o9
  · have o9 := hNn.2.2.2.2.2
    unfold s_buy
    (rw [vv_j (by decide)])
    exact o9
  · rw [hSm.nb_] at q1
    unfold s_buy
    (rw [u3_k (by decide)])
    exact hZr.1 b9 w9 q1 q2 q3
  · rw [hSm.ns_] at q1
    unfold s_buy
    (rw [u3_k (by decide)])
    exact hZr.2.1 s9 w9 q1 q2 q3
  · rw [hSm.nb_, hSm.ns_] at q3
    have o9 := hZr.2.2 s9 b9 q1 q2 q3
    unfold s_buy
    rcases q3 with q3 | q3 <;> constructor
    · (rw [u3_k (by decide)])
      exact o9.1
    · (rw [u3_k (by decide)])
      exact o9.2
    · (rw [u3_k (by decide)])
      exact o9.1
    · (rw [u3_k (by decide)])
      exact o9.2
  · obtain ⟨y1, y2, y3, D, y4, y5⟩ := hSu
    refine ⟨by rw [eT, hSm.nb_]; omega, by rw [eS, eC]; omega, by rw [hSm.kd_, hSm.dp_, eM, eH, eP, hSm.ns_]; omega, D, fun k9 hk9 => ?_, ?_⟩
    · have o9 := y4 k9 hk9
      rw [hSm.kd_, eX]
      try dsimp only
      split <;> omega
    · rw [hSm.ee_, eH]; omega
theorem iv_end {N : Nat} {S : b_St} {c : Int32} (h : b_Iv N S)  : b_Iv N (u3 S 0 0 6 c) := by
  obtain ⟨hW, hSe, hNn, hZr, hSu⟩ := h
  have hb8 := hW.nb8
  have hs6 := hW.ns6
  have hSm : b_Sm S (u3 S 0 0 6 c) := ⟨fun w hw => by (rw [u3_j (w27 hw (by decide) (by decide))]), fun b9 => by (rw [u3_k (by decide)])⟩
  have eT : gT (u3 S 0 0 6 c) = gT S + (0) := by
    unfold gT 
    simp only [gS_0, vv_u3, wT1, w0, Nat.reduceEqDiff, Nat.reduceLeDiff, reduceCtorEq, false_and, and_false, true_and, and_true, or_true, true_or, or_false, false_or, ↓reduceIte, eq_self, Int.one_mul, Int.zero_mul, i_can, Int.neg_mul, Int.mul_neg, Int.neg_neg]
    try omega
  have eC : gC (u3 S 0 0 6 c) = gC S + (0) := by
    unfold gC 
    simp only [gS_0, vv_u3, w0, wC2, Nat.reduceEqDiff, Nat.reduceLeDiff, reduceCtorEq, false_and, and_false, true_and, and_true, or_true, true_or, or_false, false_or, ↓reduceIte, eq_self, Int.one_mul, Int.zero_mul, i_can, Int.neg_mul, Int.mul_neg, Int.neg_neg]
    try omega
  have eM : gM (kd S) (dp S) (u3 S 0 0 6 c) = gM (kd S) (dp S) S + (0) := by
    unfold gM 
    simp only [gS_0, vv_u3, wM1, wM2, Nat.reduceEqDiff, Nat.reduceLeDiff, reduceCtorEq, false_and, and_false, true_and, and_true, or_true, true_or, or_false, false_or, ↓reduceIte, eq_self, Int.one_mul, Int.zero_mul, i_can, Int.neg_mul, Int.mul_neg, Int.neg_neg]
    try omega
  have eX : ∀ k9, gX (kd S) k9 (u3 S 0 0 6 c) = gX (kd S) k9 S + (if kd S 0 = k9 then 0 else 0) := by
    intro k9
    unfold gX 
    by_cases c9 : kd S 0 = k9
    · simp only [gS_0, vv_u3, wX1, wX4, w0, c9, Nat.reduceEqDiff, Nat.reduceLeDiff, reduceCtorEq, false_and, and_false, true_and, and_true, or_true, true_or, or_false, false_or, ↓reduceIte, eq_self, Int.one_mul, Int.zero_mul, i_can, Int.neg_mul, Int.mul_neg, Int.neg_neg]
      try omega
    · simp only [gS_0, vv_u3, wX1, wX4, w0, c9, Nat.reduceEqDiff, Nat.reduceLeDiff, reduceCtorEq, false_and, and_false, true_and, and_true, or_true, true_or, or_false, false_or, ↓reduceIte, eq_self, Int.one_mul, Int.zero_mul, i_can, Int.neg_mul, Int.mul_neg, Int.neg_neg]
      try omega
  have eH : vv (u3 S 0 0 6 c) 0 0 3 = vv S 0 0 3 + (0) := by
    simp only [vv_u3, Nat.reduceEqDiff, Nat.reduceLeDiff, reduceCtorEq, false_and, and_false, true_and, and_true, or_true, true_or, or_false, false_or, ↓reduceIte, eq_self, Int.one_mul, Int.zero_mul, i_can, Int.neg_mul, Int.mul_neg, Int.neg_neg]
    try omega
  have eS : vv (u3 S 0 0 6 c) 0 0 2 = vv S 0 0 2 + (0) := by
    simp only [vv_u3, Nat.reduceEqDiff, Nat.reduceLeDiff, reduceCtorEq, false_and, and_false, true_and, and_true, or_true, true_or, or_false, false_or, ↓reduceIte, eq_self, Int.one_mul, Int.zero_mul, i_can, Int.neg_mul, Int.mul_neg, Int.neg_neg]
    try omega
  have eP : vv (u3 S 0 0 6 c) 0 0 5 = vv S 0 0 5 + (0) := by
    simp only [vv_u3, Nat.reduceEqDiff, Nat.reduceLeDiff, reduceCtorEq, false_and, and_false, true_and, and_true, or_true, true_or, or_false, false_or, ↓reduceIte, eq_self, Int.one_mul, Int.zero_mul, i_can, Int.neg_mul, Int.mul_neg, Int.neg_neg]
    try omega
  refine ⟨hSm.wf hW, hSm.se hSe, ⟨fun b9 j9 q1 q2 q3 => ?_, fun b9 q1 => ?_, fun s9 b9 q1 q2 => ?_, fun s9 q1 => ?_, ?_, ?_⟩, ⟨fun b9 w9 q1 q2 q3 => ?_, fun s9 w9 q1 q2 q3 => ?_, fun s9 b9 q1 q2 q3 => ?_⟩, ?_⟩
  · have o9 := hNn.1 b9 j9 q1 q2 q3
    (rw [vv_k (by decide)])
    exact o9
  · have o9 := hNn.2.1 b9 q1
    constructor
    · (rw [vv_k (by decide)])
      exact o9.1
    · (rw [vv_k (by decide)])
      exact o9.2
  · have o9 := hNn.2.2.1 s9 b9 q1 q2
    constructor
    · (rw [vv_k (by decide)])
      exact o9.1
    · (rw [vv_k (by decide)])
      exact o9.2
  · have o9 := hNn.2.2.2.1 s9 q1
    constructor
    · (rw [vv_k (by decide)])
      exact o9.1
    · (rw [vv_k (by decide)])
      exact o9.2
  · have o9 := hNn.2.2.2.2.1
    (rw [vv_j (by decide)])
    exact o9
  · have o9 := hNn.2.2.2.2.2
    (rw [vv_j (by decide)])
    exact o9
  · rw [hSm.nb_] at q1
    (rw [u3_k (by decide)])
    exact hZr.1 b9 w9 q1 q2 q3
  · rw [hSm.ns_] at q1
    (rw [u3_k (by decide)])
    exact hZr.2.1 s9 w9 q1 q2 q3
  · rw [hSm.nb_, hSm.ns_] at q3
    have o9 := hZr.2.2 s9 b9 q1 q2 q3
    rcases q3 with q3 | q3 <;> constructor
    · (rw [u3_k (by decide)])
      exact o9.1
    · (rw [u3_k (by decide)])
      exact o9.2
    · (rw [u3_k (by decide)])
      exact o9.1
    · (rw [u3_k (by decide)])
      exact o9.2
  · obtain ⟨y1, y2, y3, D, y4, y5⟩ := hSu
    refine ⟨by rw [eT, hSm.nb_]; omega, by rw [eS, eC]; omega, by rw [hSm.kd_, hSm.dp_, eM, eH, eP, hSm.ns_]; omega, D, fun k9 hk9 => ?_, ?_⟩
    · have o9 := y4 k9 hk9
      rw [hSm.kd_, eX]
      try dsimp only
      split <;> omega
    · rw [hSm.ee_, eH]; omega
theorem ft_swap {N : Nat} {S : b_St} {x y : Nat} {c : Int32} (h : b_Iv N S) (hx : x < nb S) (hy : y < nb S) (hne : ¬ x = y) (c1 : 1 ≤ c.toInt) (c2 : c.toInt ≤ 5000) (ha : ¬ S 1 x 1 < c) : ((S 1 x 1 - c).toInt = vv S 1 x 1 + (-c.toInt)) ∧ ((S 1 y 1 + c).toInt = vv S 1 y 1 + (c.toInt)) ∧ (0 ≤ (S 1 x 1 - c).toInt) ∧ (0 ≤ (S 1 y 1 + c).toInt) ∧ (¬ y = x) := by
  have hB := h.bnd
  obtain ⟨hW, hSe, hNn, hZr, -⟩ := h
  have hb8 := hW.nb8
  have hs6 := hW.ns6
  have n1 := hB.1 x 1 (by omega) (by decide) (by decide)
  have n2 := hB.1 y 1 (by omega) (by decide) (by decide)
  have hne2 : ¬ y = x := fun q => hne q.symm
  have g2 : c.toInt ≤ vv S 1 x 1 := i_ge ha
  have t1 : (S 1 x 1 - c).toInt = vv S 1 x 1 + (-c.toInt) := by rw [i_sub (by show _ ≤ vv S 1 x 1 - _; omega) (by show vv S 1 x 1 - _ < _; omega)]; show vv S 1 x 1 - _ = _; omega
  have t2 : (S 1 y 1 + c).toInt = vv S 1 y 1 + (c.toInt) := by rw [i_add (by show _ ≤ vv S 1 y 1 + _; omega) (by show vv S 1 y 1 + _ < _; omega)]; show vv S 1 y 1 + _ = _; omega
  clear hB
  exact ⟨t1, t2, by rw [t1]; omega, by rw [t2]; omega, hne2⟩
theorem iv_swap {N : Nat} {S : b_St} {x y : Nat} {c : Int32} (h : b_Iv N S) (hx : x < nb S) (hy : y < nb S) (hne : ¬ x = y) (c1 : 1 ≤ c.toInt) (c2 : c.toInt ≤ 5000) (ha : ¬ S 1 x 1 < c) : b_Iv N (s_swap S x y c) := by
  obtain ⟨t1, t2, p_t1, p_t2, hne2⟩ := ft_swap h hx hy hne c1 c2 ha
  obtain ⟨hW, hSe, hNn, hZr, hSu⟩ := h
  have hb8 := hW.nb8
  have hs6 := hW.ns6
  have bzx : ∀ b9, nb S ≤ b9 → ¬ b9 = x := fun b9 q e => absurd hx (Nat.not_lt.mpr (e ▸ q))
  have bzy : ∀ b9, nb S ≤ b9 → ¬ b9 = y := fun b9 q e => absurd hy (Nat.not_lt.mpr (e ▸ q))
  have hSm : b_Sm S (s_swap S x y c) := ⟨fun w hw => by (unfold s_swap; rw [u3_k (by decide)]; rw [u3_k (by decide)]; rw [u3_k (by decide)]; rw [u3_k (by decide)]; rw [u3_k (by decide)]), fun b9 => by (unfold s_swap; rw [u3_k (by decide)]; rw [u3_j (by decide)]; rw [u3_j (by decide)]; rw [u3_j (by decide)]; rw [u3_j (by decide)])⟩
  have eT : gT (s_swap S x y c) = gT S + (0) := by
    unfold gT s_swap
    simp only [gS_1 (show x < 8 by omega) (show 1 < 10 by decide), gS_1 (show y < 8 by omega) (show 1 < 10 by decide), gS_1 (show x < 8 by omega) (show 9 < 10 by decide), gS_1 (show y < 8 by omega) (show 9 < 10 by decide), gS_3, vv_u3, hne, hne2, t1, t2, wT1, w0, Nat.reduceEqDiff, Nat.reduceLeDiff, reduceCtorEq, false_and, and_false, true_and, and_true, or_true, true_or, or_false, false_or, ↓reduceIte, eq_self, Int.one_mul, Int.zero_mul, i_can, Int.neg_mul, Int.mul_neg, Int.neg_neg]
    try omega
  have eC : gC (s_swap S x y c) = gC S + (0) := by
    unfold gC s_swap
    simp only [gS_1 (show x < 8 by omega) (show 1 < 10 by decide), gS_1 (show y < 8 by omega) (show 1 < 10 by decide), gS_1 (show x < 8 by omega) (show 9 < 10 by decide), gS_1 (show y < 8 by omega) (show 9 < 10 by decide), gS_3, vv_u3, hne, hne2, t1, t2, w0, wC2, Nat.reduceEqDiff, Nat.reduceLeDiff, reduceCtorEq, false_and, and_false, true_and, and_true, or_true, true_or, or_false, false_or, ↓reduceIte, eq_self, Int.one_mul, Int.zero_mul, i_can, Int.neg_mul, Int.mul_neg, Int.neg_neg]
    try omega
  have eM : gM (kd S) (dp S) (s_swap S x y c) = gM (kd S) (dp S) S + (0) := by
    unfold gM s_swap
    simp only [gS_1 (show x < 8 by omega) (show 1 < 10 by decide), gS_1 (show y < 8 by omega) (show 1 < 10 by decide), gS_1 (show x < 8 by omega) (show 9 < 10 by decide), gS_1 (show y < 8 by omega) (show 9 < 10 by decide), gS_3, vv_u3, hne, hne2, t1, t2, wM1, wM2, Nat.reduceEqDiff, Nat.reduceLeDiff, reduceCtorEq, false_and, and_false, true_and, and_true, or_true, true_or, or_false, false_or, ↓reduceIte, eq_self, Int.one_mul, Int.zero_mul, i_can, Int.neg_mul, Int.mul_neg, Int.neg_neg]
    try omega
  have eX : ∀ k9, gX (kd S) k9 (s_swap S x y c) = gX (kd S) k9 S + (if kd S x = k9 then 0 else 0) := by
    intro k9
    unfold gX s_swap
    by_cases c9 : kd S x = k9
    · simp only [gS_1 (show x < 8 by omega) (show 1 < 10 by decide), gS_1 (show y < 8 by omega) (show 1 < 10 by decide), gS_1 (show x < 8 by omega) (show 9 < 10 by decide), gS_1 (show y < 8 by omega) (show 9 < 10 by decide), gS_3, vv_u3, hne, hne2, t1, t2, wX1, wX4, w0, c9, Nat.reduceEqDiff, Nat.reduceLeDiff, reduceCtorEq, false_and, and_false, true_and, and_true, or_true, true_or, or_false, false_or, ↓reduceIte, eq_self, Int.one_mul, Int.zero_mul, i_can, Int.neg_mul, Int.mul_neg, Int.neg_neg]
      try omega
    · simp only [gS_1 (show x < 8 by omega) (show 1 < 10 by decide), gS_1 (show y < 8 by omega) (show 1 < 10 by decide), gS_1 (show x < 8 by omega) (show 9 < 10 by decide), gS_1 (show y < 8 by omega) (show 9 < 10 by decide), gS_3, vv_u3, hne, hne2, t1, t2, wX1, wX4, w0, c9, Nat.reduceEqDiff, Nat.reduceLeDiff, reduceCtorEq, false_and, and_false, true_and, and_true, or_true, true_or, or_false, false_or, ↓reduceIte, eq_self, Int.one_mul, Int.zero_mul, i_can, Int.neg_mul, Int.mul_neg, Int.neg_neg]
      try omega
  have eH : vv (s_swap S x y c) 0 0 3 = vv S 0 0 3 + (0) := by
    unfold s_swap
    simp only [vv_u3, hne, hne2, t1, t2, Nat.reduceEqDiff, Nat.reduceLeDiff, reduceCtorEq, false_and, and_false, true_and, and_true, or_true, true_or, or_false, false_or, ↓reduceIte, eq_self, Int.one_mul, Int.zero_mul, i_can, Int.neg_mul, Int.mul_neg, Int.neg_neg]
    try omega
  have eS : vv (s_swap S x y c) 0 0 2 = vv S 0 0 2 + (0) := by
    unfold s_swap
    simp only [vv_u3, hne, hne2, t1, t2, Nat.reduceEqDiff, Nat.reduceLeDiff, reduceCtorEq, false_and, and_false, true_and, and_true, or_true, true_or, or_false, false_or, ↓reduceIte, eq_self, Int.one_mul, Int.zero_mul, i_can, Int.neg_mul, Int.mul_neg, Int.neg_neg]
    try omega
  have eP : vv (s_swap S x y c) 0 0 5 = vv S 0 0 5 + (0) := by
    unfold s_swap
    simp only [vv_u3, hne, hne2, t1, t2, Nat.reduceEqDiff, Nat.reduceLeDiff, reduceCtorEq, false_and, and_false, true_and, and_true, or_true, true_or, or_false, false_or, ↓reduceIte, eq_self, Int.one_mul, Int.zero_mul, i_can, Int.neg_mul, Int.mul_neg, Int.neg_neg]
    try omega
  refine ⟨hSm.wf hW, hSm.se hSe, ⟨fun b9 j9 q1 q2 q3 => ?_, fun b9 q1 => ?_, fun s9 b9 q1 q2 => ?_, fun s9 q1 => ?_, ?_, ?_⟩, ⟨fun b9 w9 q1 q2 q3 => ?_, fun s9 w9 q1 q2 q3 => ?_, fun s9 b9 q1 q2 q3 => ?_⟩, ?_⟩
  · have o9 := hNn.1 b9 j9 q1 q2 q3
    unfold s_swap
    (rw [vv_k (by decide)]; rw [vv_j (show ¬ j9 = 9 by omega)]; rw [vv_j (show ¬ j9 = 9 by omega)]; refine nn_u p_t2 ?_; refine nn_u p_t1 ?_)
    exact o9
  · have o9 := hNn.2.1 b9 q1
    unfold s_swap
    constructor
    · (rw [vv_k (by decide)]; rw [vv_j (by decide)]; rw [vv_j (by decide)]; rw [vv_j (by decide)]; rw [vv_j (by decide)])
      exact o9.1
    · (rw [vv_k (by decide)]; rw [vv_j (by decide)]; rw [vv_j (by decide)]; rw [vv_j (by decide)]; rw [vv_j (by decide)])
      exact o9.2
  · have o9 := hNn.2.2.1 s9 b9 q1 q2
    unfold s_swap
    constructor
    · (rw [vv_k (by decide)]; rw [vv_k (by decide)]; rw [vv_k (by decide)]; rw [vv_k (by decide)]; rw [vv_k (by decide)])
      exact o9.1
    · (rw [vv_k (by decide)]; rw [vv_k (by decide)]; rw [vv_k (by decide)]; rw [vv_k (by decide)]; rw [vv_k (by decide)])
      exact o9.2
  · have o9 := hNn.2.2.2.1 s9 q1
    unfold s_swap
    constructor
    · (rw [vv_k (by decide)]; rw [vv_k (by decide)]; rw [vv_k (by decide)]; rw [vv_k (by decide)]; rw [vv_k (by decide)])
      exact o9.1
    · (rw [vv_k (by decide)]; rw [vv_k (by decide)]; rw [vv_k (by decide)]; rw [vv_k (by decide)]; rw [vv_k (by decide)])
      exact o9.2
  · have o9 := hNn.2.2.2.2.1
    unfold s_swap
    (rw [vv_k (by decide)]; rw [vv_k (by decide)]; rw [vv_k (by decide)]; rw [vv_k (by decide)]; rw [vv_k (by decide)])
    exact o9
  · have o9 := hNn.2.2.2.2.2
    unfold s_swap
    (rw [vv_k (by decide)]; rw [vv_k (by decide)]; rw [vv_k (by decide)]; rw [vv_k (by decide)]; rw [vv_k (by decide)])
    exact o9
  · rw [hSm.nb_] at q1
    unfold s_swap
    (rw [u3_k (by decide)]; rw [u3_i (bzy _ q1)]; rw [u3_i (bzx _ q1)]; rw [u3_i (bzy _ q1)]; rw [u3_i (bzx _ q1)])
    exact hZr.1 b9 w9 q1 q2 q3
  · rw [hSm.ns_] at q1
    unfold s_swap
    (rw [u3_k (by decide)]; rw [u3_k (by decide)]; rw [u3_k (by decide)]; rw [u3_k (by decide)]; rw [u3_k (by decide)])
    exact hZr.2.1 s9 w9 q1 q2 q3
  · rw [hSm.nb_, hSm.ns_] at q3
    have o9 := hZr.2.2 s9 b9 q1 q2 q3
    unfold s_swap
    rcases q3 with q3 | q3 <;> constructor
    · (rw [u3_k (by decide)]; rw [u3_k (by decide)]; rw [u3_k (by decide)]; rw [u3_k (by decide)]; rw [u3_k (by decide)])
      exact o9.1
    · (rw [u3_k (by decide)]; rw [u3_k (by decide)]; rw [u3_k (by decide)]; rw [u3_k (by decide)]; rw [u3_k (by decide)])
      exact o9.2
    · (rw [u3_k (by decide)]; rw [u3_k (by decide)]; rw [u3_k (by decide)]; rw [u3_k (by decide)]; rw [u3_k (by decide)])
      exact o9.1
    · (rw [u3_k (by decide)]; rw [u3_k (by decide)]; rw [u3_k (by decide)]; rw [u3_k (by decide)]; rw [u3_k (by decide)])
      exact o9.2
  · obtain ⟨y1, y2, y3, D, y4, y5⟩ := hSu
    refine ⟨by rw [eT, hSm.nb_]; omega, by rw [eS, eC]; omega, by rw [hSm.kd_, hSm.dp_, eM, eH, eP, hSm.ns_]; omega, D, fun k9 hk9 => ?_, ?_⟩
    · have o9 := y4 k9 hk9
      rw [hSm.kd_, eX]
      try dsimp only
      split <;> omega
    · rw [hSm.ee_, eH]; omega
