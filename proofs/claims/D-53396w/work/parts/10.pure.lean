/-! ===== the state as one table of ints, told by kind, row, place; the reference's row of numbers holds it (enc) ===== -/
set_option maxRecDepth 100000
/-- kinds: 0 counts and settings (row 0), 1 brands, 2 shops, 3 what one brand gave another, 4 full bottles of a shop, 5 empty ones -/
abbrev b_St : Type := Nat → Nat → Nat → Int32
def u3 (S : b_St) (k i j : Nat) (x : Int32) : b_St := fun k' i' j' => if k' = k ∧ j' = j ∧ i' = i then x else S k' i' j'
theorem u3_s (S : b_St) (k i j : Nat) (x : Int32) : u3 S k i j x k i j = x := by simp [u3]
theorem u3_n (S : b_St) {k i j k' i' j' : Nat} (x : Int32) (h : ¬ (k' = k ∧ j' = j ∧ i' = i)) : u3 S k i j x k' i' j' = S k' i' j' := if_neg h
theorem u3_c (S : b_St) {k i j k' i' j' : Nat} (x y : Int32) (h : ¬ (k' = k ∧ j' = j ∧ i' = i)) : u3 (u3 S k i j x) k' i' j' y = u3 (u3 S k' i' j' y) k i j x := by
  funext a b c
  simp only [u3]
  by_cases h1 : a = k' ∧ c = j' ∧ b = i'
  · by_cases h2 : a = k ∧ c = j ∧ b = i
    · exfalso
      obtain ⟨rfl, rfl, rfl⟩ := h1
      exact h h2
    · rw [if_pos h1, if_neg h2, if_pos h1]
  · rw [if_neg h1]
    by_cases h2 : a = k ∧ c = j ∧ b = i
    · rw [if_pos h2, if_pos h2]
    · rw [if_neg h2, if_neg h2, if_neg h1]
theorem u3_u (S : b_St) (k i j : Nat) (x y : Int32) : u3 (u3 S k i j x) k i j y = u3 S k i j y := by
  funext a b c
  simp only [u3]
  split <;> rfl
def enc (S : b_St) : Nat → Int32 := fun n =>
  if n < 13 then S 0 0 n else if n < 93 then S 1 ((n - 13) / 10) ((n - 13) % 10) else if n < 219 then (if (n - 93) % 21 < 5 then S 2 ((n - 93) / 21) ((n - 93) % 21) else if (n - 93) % 21 < 13 then S 4 ((n - 93) / 21) ((n - 93) % 21 - 5) else S 5 ((n - 93) / 21) ((n - 93) % 21 - 13)) else S 3 ((n - 219) / 8) ((n - 219) % 8)
theorem enc_0 (S : b_St) {w : Nat} (h : w < 13) : enc S w = S 0 0 w := if_pos h
theorem enc_1 (S : b_St) {b w : Nat} (hb : b < 8) (hw : w < 10) : enc S (13 + 10 * b + w) = S 1 b w := by
  unfold enc
  rw [if_neg (by omega), if_pos (by omega), show (13 + 10 * b + w - 13) / 10 = b by omega, show (13 + 10 * b + w - 13) % 10 = w by omega]
theorem enc_2 (S : b_St) {s w : Nat} (hs : s < 6) (hw : w < 5) : enc S (93 + 21 * s + w) = S 2 s w := by
  unfold enc
  rw [if_neg (by omega), if_neg (by omega), if_pos (by omega), if_pos (by omega), show (93 + 21 * s + w - 93) / 21 = s by omega, show (93 + 21 * s + w - 93) % 21 = w by omega]
theorem enc_4 (S : b_St) {s b : Nat} (hs : s < 6) (hb : b < 8) : enc S (93 + 21 * s + (5 + b)) = S 4 s b := by
  unfold enc
  rw [if_neg (by omega), if_neg (by omega), if_pos (by omega), if_neg (by omega), if_pos (by omega), show (93 + 21 * s + (5 + b) - 93) / 21 = s by omega, show (93 + 21 * s + (5 + b) - 93) % 21 - 5 = b by omega]
theorem enc_5 (S : b_St) {s b : Nat} (hs : s < 6) (hb : b < 8) : enc S (93 + 21 * s + (13 + b)) = S 5 s b := by
  unfold enc
  rw [if_neg (by omega), if_neg (by omega), if_pos (by omega), if_neg (by omega), if_neg (by omega), show (93 + 21 * s + (13 + b) - 93) / 21 = s by omega, show (93 + 21 * s + (13 + b) - 93) % 21 - 13 = b by omega]
theorem enc_3 (S : b_St) {i j : Nat} (hj : j < 8) : enc S (219 + 8 * i + j) = S 3 i j := by
  unfold enc
  rw [if_neg (by omega), if_neg (by omega), if_neg (by omega), show (219 + 8 * i + j - 219) / 8 = i by omega, show (219 + 8 * i + j - 219) % 8 = j by omega]
/-- two tables that agree where the row looks -/
def b_eqS (S S' : b_St) : Prop := (∀ w, w < 13 → S 0 0 w = S' 0 0 w) ∧ (∀ b w, b < 8 → w < 10 → S 1 b w = S' 1 b w) ∧ (∀ s w, s < 6 → w < 5 → S 2 s w = S' 2 s w) ∧ (∀ i j, i < 8 → j < 8 → S 3 i j = S' 3 i j) ∧ (∀ s b, s < 6 → b < 8 → S 4 s b = S' 4 s b) ∧ (∀ s b, s < 6 → b < 8 → S 5 s b = S' 5 s b)
theorem enc_u0 (S : b_St) {w : Nat} (h : w < 13) (x : Int32) : upd (enc S) w x = enc (u3 S 0 0 w x) := by
  funext n
  unfold upd enc u3
  by_cases hn : n = w
  · subst hn
    rw [if_pos rfl, if_pos h, if_pos ⟨rfl, rfl, rfl⟩]
  · rw [if_neg hn]
    by_cases h1 : n < 13
    · rw [if_pos h1, if_pos h1, if_neg (fun q => hn q.2.1)]
    · simp [h1]
theorem enc_u1 (S : b_St) {b w : Nat} (hb : b < 8) (hw : w < 10) (x : Int32) : upd (enc S) (13 + 10 * b + w) x = enc (u3 S 1 b w x) := by
  funext n
  by_cases hn : n = 13 + 10 * b + w
  · subst hn
    rw [enc_1 _ hb hw, u3_s]
    simp [upd]
  · unfold upd enc u3
    rw [if_neg hn]
    by_cases h1 : n < 13
    · simp [h1]
    · by_cases h2 : n < 93
      · simp only [h1, h2, if_true, if_false]
        rw [if_neg (by omega)]
      · simp [h1, h2]
theorem enc_u2 (S : b_St) {s w : Nat} (hs : s < 6) (hw : w < 5) (x : Int32) : upd (enc S) (93 + 21 * s + w) x = enc (u3 S 2 s w x) := by
  funext n
  by_cases hn : n = 93 + 21 * s + w
  · subst hn
    rw [enc_2 _ hs hw, u3_s]
    simp [upd]
  · unfold upd enc u3
    rw [if_neg hn]
    by_cases h1 : n < 13
    · simp [h1]
    · by_cases h2 : n < 93
      · simp [h1, h2]
      · by_cases h3 : n < 219
        · by_cases h4 : (n - 93) % 21 < 5
          · simp only [h1, h2, h3, h4, if_true, if_false]
            rw [if_neg (by omega)]
          · simp [h1, h2, h3, h4]
        · simp [h1, h2, h3]
theorem enc_u4 (S : b_St) {s b : Nat} (hs : s < 6) (hb : b < 8) (x : Int32) : upd (enc S) (93 + 21 * s + (5 + b)) x = enc (u3 S 4 s b x) := by
  funext n
  by_cases hn : n = 93 + 21 * s + (5 + b)
  · subst hn
    rw [enc_4 _ hs hb, u3_s]
    simp [upd]
  · unfold upd enc u3
    rw [if_neg hn]
    by_cases h1 : n < 13
    · simp [h1]
    · by_cases h2 : n < 93
      · simp [h1, h2]
      · by_cases h3 : n < 219
        · by_cases h4 : (n - 93) % 21 < 5
          · simp [h1, h2, h3, h4]
          · by_cases h5 : (n - 93) % 21 < 13
            · simp only [h1, h2, h3, h4, h5, if_true, if_false]
              rw [if_neg (by omega)]
            · simp [h1, h2, h3, h4, h5]
        · simp [h1, h2, h3]
theorem enc_u5 (S : b_St) {s b : Nat} (hs : s < 6) (hb : b < 8) (x : Int32) : upd (enc S) (93 + 21 * s + (13 + b)) x = enc (u3 S 5 s b x) := by
  funext n
  by_cases hn : n = 93 + 21 * s + (13 + b)
  · subst hn
    rw [enc_5 _ hs hb, u3_s]
    simp [upd]
  · unfold upd enc u3
    rw [if_neg hn]
    by_cases h1 : n < 13
    · simp [h1]
    · by_cases h2 : n < 93
      · simp [h1, h2]
      · by_cases h3 : n < 219
        · by_cases h4 : (n - 93) % 21 < 5
          · simp [h1, h2, h3, h4]
          · by_cases h5 : (n - 93) % 21 < 13
            · simp [h1, h2, h3, h4, h5]
            · simp only [h1, h2, h3, h4, h5, if_true, if_false]
              rw [if_neg (by omega)]
        · simp [h1, h2, h3]
theorem enc_u3 (S : b_St) {i j : Nat} (hj : j < 8) (x : Int32) : upd (enc S) (219 + 8 * i + j) x = enc (u3 S 3 i j x) := by
  funext n
  by_cases hn : n = 219 + 8 * i + j
  · subst hn
    rw [enc_3 _ hj, u3_s]
    simp [upd]
  · unfold upd enc u3
    rw [if_neg hn]
    by_cases h1 : n < 13
    · simp [h1]
    · by_cases h2 : n < 93
      · simp [h1, h2]
      · by_cases h3 : n < 219
        · simp [h1, h2, h3]
        · simp only [h1, h2, h3, if_false]
          rw [if_neg (by omega)]
/-- counts of brands and shops, a brand's kind -/
def nb (S : b_St) : Nat := (S 0 0 0).toNatClampNeg
def ns (S : b_St) : Nat := (S 0 0 1).toNatClampNeg
def kd (S : b_St) (b : Nat) : Nat := (S 1 b 0).toNatClampNeg
/-- the counts are counts, the kinds kinds, the wear a divisor -/
def b_WF (S : b_St) : Prop := (S 0 0 0 = nI (nb S) ∧ nb S ≤ 8) ∧ (S 0 0 1 = nI (ns S) ∧ ns S ≤ 6) ∧ (∀ b, b < 8 → S 1 b 0 = nI (kd S b) ∧ kd S b < 3) ∧ ∃ w : Nat, S 0 0 12 = nI w ∧ 2 ≤ w ∧ w ≤ 1000
theorem b_WF.nbE {S : b_St} (h : b_WF S) : S 0 0 0 = nI (nb S) := h.1.1
theorem b_WF.nb8 {S : b_St} (h : b_WF S) : nb S ≤ 8 := h.1.2
theorem b_WF.nsE {S : b_St} (h : b_WF S) : S 0 0 1 = nI (ns S) := h.2.1.1
theorem b_WF.ns6 {S : b_St} (h : b_WF S) : ns S ≤ 6 := h.2.1.2
theorem b_WF.kdE {S : b_St} (h : b_WF S) {b : Nat} (hb : b < 8) : S 1 b 0 = nI (kd S b) := (h.2.2.1 b hb).1
theorem b_WF.kd3 {S : b_St} (h : b_WF S) {b : Nat} (hb : b < 8) : kd S b < 3 := (h.2.2.1 b hb).2
theorem b_WF.wear {S : b_St} (h : b_WF S) : ¬ S 0 0 12 = 0 := by
  obtain ⟨-, -, -, w, e, h1, h2⟩ := h
  rw [e]
  exact nI_ne0 (by omega) (by omega)
/-! ===== the reference's object and its six arrays ===== -/
def b_mo (o : Nat → Nat) : Nat → Prop := fun q => ∃ i, i < 7 ∧ q = o i
def b_Eq (P : Nat → Prop) (H H1 : Heap) : Prop := H1.size = H.size ∧ ∀ q : Nat, ¬ P q → H1[q]? = H[q]?
theorem b_Eq.rf {P : Nat → Prop} {H : Heap} : b_Eq P H H := ⟨rfl, fun _ _ => rfl⟩
theorem b_Eq.tr {P : Nat → Prop} {H H1 H2 : Heap} (h : b_Eq P H H1) (h2 : b_Eq P H1 H2) : b_Eq P H H2 := ⟨h2.1.trans h.1, fun q hq => (h2.2 q hq).trans (h.2 q hq)⟩
theorem b_Eq.up {P : Nat → Prop} {H H1 H2 : Heap} {a : Nat} (h : b_Eq P H H1) (h2 : b_Up a H1 H2) (ha : P a) : b_Eq P H H2 := ⟨h2.1.trans h.1, fun q hq => (h2.2 q (fun e => hq (e ▸ ha))).trans (h.2 q hq)⟩
def MW (G : b_G) (B0 : Nat) (o : Nat → Nat) (Hr H : Heap) (v sp sv tx : Nat → Int32) (sa le th pl iw lt on ot nu di : Int32) : Prop :=
  (b_at G (o 0) (.inr (8, [.ref (o 1), .ref (o 2), .ref (o 3), .int sa, .ref (o 4), .int le, .int th, .ref (o 5), .ref (o 6), .int pl, .int iw, .int lt, .int on, .int ot, .int nu, .int di])) H ∧
    b_at G (o 1) (.inl (G.2.1 0, 283, .inl v)) H ∧ b_at G (o 2) (.inl (G.2.1 0, 283, .inl sp)) H ∧ b_at G (o 3) (.inl (G.2.1 0, 1698, .inl sv)) H ∧ b_at G (o 4) (.inl (G.2.1 0, 60, .inl tx)) H ∧ b_at G (o 5) (.inl (G.2.1 0, 6, .inl b_least)) H ∧ b_at G (o 6) (.inl (G.2.1 0, 6, .inl b_most)) H) ∧
  (∀ i j, i < 7 → j < 7 → o i = o j → i = j) ∧ (∀ i, i < 7 → B0 ≤ o i) ∧ b_Eq (b_mo o) Hr H
section MW
variable {G : b_G} {B0 : Nat} {o : Nat → Nat} {Hr H H1 : Heap} {v sp sv tx v' sp' sv' tx' : Nat → Int32} {sa le th pl iw lt on ot nu di sa' le' th' pl' iw' lt' on' ot' nu' di' : Int32}
theorem MW.o0 (h : MW G B0 o Hr H v sp sv tx sa le th pl iw lt on ot nu di) : b_at G (o 0) (.inr (8, [.ref (o 1), .ref (o 2), .ref (o 3), .int sa, .ref (o 4), .int le, .int th, .ref (o 5), .ref (o 6), .int pl, .int iw, .int lt, .int on, .int ot, .int nu, .int di])) H := h.1.1
theorem MW.o1 (h : MW G B0 o Hr H v sp sv tx sa le th pl iw lt on ot nu di) : b_at G (o 1) (.inl (G.2.1 0, 283, .inl v)) H := h.1.2.1
theorem MW.o2 (h : MW G B0 o Hr H v sp sv tx sa le th pl iw lt on ot nu di) : b_at G (o 2) (.inl (G.2.1 0, 283, .inl sp)) H := h.1.2.2.1
theorem MW.o3 (h : MW G B0 o Hr H v sp sv tx sa le th pl iw lt on ot nu di) : b_at G (o 3) (.inl (G.2.1 0, 1698, .inl sv)) H := h.1.2.2.2.1
theorem MW.o4 (h : MW G B0 o Hr H v sp sv tx sa le th pl iw lt on ot nu di) : b_at G (o 4) (.inl (G.2.1 0, 60, .inl tx)) H := h.1.2.2.2.2.1
theorem MW.o5 (h : MW G B0 o Hr H v sp sv tx sa le th pl iw lt on ot nu di) : b_at G (o 5) (.inl (G.2.1 0, 6, .inl b_least)) H := h.1.2.2.2.2.2.1
theorem MW.o6 (h : MW G B0 o Hr H v sp sv tx sa le th pl iw lt on ot nu di) : b_at G (o 6) (.inl (G.2.1 0, 6, .inl b_most)) H := h.1.2.2.2.2.2.2
theorem MW.B (h : MW G B0 o Hr H v sp sv tx sa le th pl iw lt on ot nu di) {i : Nat} (hi : i < 7) : B0 ≤ o i := h.2.2.1 i hi
theorem MW.fr (h : MW G B0 o Hr H v sp sv tx sa le th pl iw lt on ot nu di) : b_Eq (b_mo o) Hr H := h.2.2.2
theorem MW.ne (h : MW G B0 o Hr H v sp sv tx sa le th pl iw lt on ot nu di) {i j : Nat} (hi : i < 7) (hj : j < 7) (hij : i ≠ j) : o i ≠ o j := fun e => hij (h.2.1 i j hi hj e)
theorem MW.re (h : MW G B0 o Hr H v sp sv tx sa le th pl iw lt on ot nu di) : MW G B0 o H H v sp sv tx sa le th pl iw lt on ot nu di := ⟨h.1, h.2.1, h.2.2.1, b_Eq.rf⟩
theorem MW.tr (h : MW G B0 o Hr H v sp sv tx sa le th pl iw lt on ot nu di) (h2 : MW G B0 o H H1 v' sp' sv' tx' sa' le' th' pl' iw' lt' on' ot' nu' di') : MW G B0 o Hr H1 v' sp' sv' tx' sa' le' th' pl' iw' lt' on' ot' nu' di' := ⟨h2.1, h2.2.1, h2.2.2.1, h.fr.tr h2.fr⟩
theorem MW.set0 (h : MW G B0 o Hr H v sp sv tx sa le th pl iw lt on ot nu di) (ha : b_at G (o 0) (.inr (8, [.ref (o 1), .ref (o 2), .ref (o 3), .int sa', .ref (o 4), .int le', .int th', .ref (o 5), .ref (o 6), .int pl', .int iw', .int lt', .int on', .int ot', .int nu', .int di'])) H1) (hu : b_Up (o 0) H H1) : MW G B0 o Hr H1 v sp sv tx sa' le' th' pl' iw' lt' on' ot' nu' di' :=
  ⟨⟨ha, b_up h.o1 hu (h.ne (by decide) (by decide) (by decide)), b_up h.o2 hu (h.ne (by decide) (by decide) (by decide)), b_up h.o3 hu (h.ne (by decide) (by decide) (by decide)), b_up h.o4 hu (h.ne (by decide) (by decide) (by decide)), b_up h.o5 hu (h.ne (by decide) (by decide) (by decide)), b_up h.o6 hu (h.ne (by decide) (by decide) (by decide))⟩, h.2.1, h.2.2.1, h.fr.up hu ⟨0, by decide, rfl⟩⟩
theorem MW.set1 {v1 : Nat → Int32} (h : MW G B0 o Hr H v sp sv tx sa le th pl iw lt on ot nu di) (he : v' = v1) (ha : b_at G (o 1) (.inl (G.2.1 0, 283, .inl v')) H1) (hu : b_Up (o 1) H H1) : MW G B0 o Hr H1 v1 sp sv tx sa le th pl iw lt on ot nu di :=
  ⟨⟨b_up h.o0 hu (h.ne (by decide) (by decide) (by decide)), he ▸ ha, b_up h.o2 hu (h.ne (by decide) (by decide) (by decide)), b_up h.o3 hu (h.ne (by decide) (by decide) (by decide)), b_up h.o4 hu (h.ne (by decide) (by decide) (by decide)), b_up h.o5 hu (h.ne (by decide) (by decide) (by decide)), b_up h.o6 hu (h.ne (by decide) (by decide) (by decide))⟩, h.2.1, h.2.2.1, h.fr.up hu ⟨1, by decide, rfl⟩⟩
theorem MW.set2 {v1 : Nat → Int32} (h : MW G B0 o Hr H v sp sv tx sa le th pl iw lt on ot nu di) (he : sp' = v1) (ha : b_at G (o 2) (.inl (G.2.1 0, 283, .inl sp')) H1) (hu : b_Up (o 2) H H1) : MW G B0 o Hr H1 v v1 sv tx sa le th pl iw lt on ot nu di :=
  ⟨⟨b_up h.o0 hu (h.ne (by decide) (by decide) (by decide)), b_up h.o1 hu (h.ne (by decide) (by decide) (by decide)), he ▸ ha, b_up h.o3 hu (h.ne (by decide) (by decide) (by decide)), b_up h.o4 hu (h.ne (by decide) (by decide) (by decide)), b_up h.o5 hu (h.ne (by decide) (by decide) (by decide)), b_up h.o6 hu (h.ne (by decide) (by decide) (by decide))⟩, h.2.1, h.2.2.1, h.fr.up hu ⟨2, by decide, rfl⟩⟩
theorem MW.set3 {v1 : Nat → Int32} (h : MW G B0 o Hr H v sp sv tx sa le th pl iw lt on ot nu di) (he : sv' = v1) (ha : b_at G (o 3) (.inl (G.2.1 0, 1698, .inl sv')) H1) (hu : b_Up (o 3) H H1) : MW G B0 o Hr H1 v sp v1 tx sa le th pl iw lt on ot nu di :=
  ⟨⟨b_up h.o0 hu (h.ne (by decide) (by decide) (by decide)), b_up h.o1 hu (h.ne (by decide) (by decide) (by decide)), b_up h.o2 hu (h.ne (by decide) (by decide) (by decide)), he ▸ ha, b_up h.o4 hu (h.ne (by decide) (by decide) (by decide)), b_up h.o5 hu (h.ne (by decide) (by decide) (by decide)), b_up h.o6 hu (h.ne (by decide) (by decide) (by decide))⟩, h.2.1, h.2.2.1, h.fr.up hu ⟨3, by decide, rfl⟩⟩
theorem MW.set4 {v1 : Nat → Int32} (h : MW G B0 o Hr H v sp sv tx sa le th pl iw lt on ot nu di) (he : tx' = v1) (ha : b_at G (o 4) (.inl (G.2.1 0, 60, .inl tx')) H1) (hu : b_Up (o 4) H H1) : MW G B0 o Hr H1 v sp sv v1 sa le th pl iw lt on ot nu di :=
  ⟨⟨b_up h.o0 hu (h.ne (by decide) (by decide) (by decide)), b_up h.o1 hu (h.ne (by decide) (by decide) (by decide)), b_up h.o2 hu (h.ne (by decide) (by decide) (by decide)), b_up h.o3 hu (h.ne (by decide) (by decide) (by decide)), he ▸ ha, b_up h.o5 hu (h.ne (by decide) (by decide) (by decide)), b_up h.o6 hu (h.ne (by decide) (by decide) (by decide))⟩, h.2.1, h.2.2.1, h.fr.up hu ⟨4, by decide, rfl⟩⟩
end MW
/-- an int array's cell tells its places alone -/
theorem b_arrC {G : b_G} {a n : Nat} {cA : ClassId} {f g : Nat → Int32} {H : Heap} (h : b_at G a (.inl (cA, n, .inl f)) H) (hfg : ∀ j, j < n → f j = g j) : b_at G a (.inl (cA, n, .inl g)) H := by
  refine Eq.trans (show H[a]? = some (vp_cell cA (n, .inl f)) from h) ?_
  rw [vp_cell_i, vp_cell_i]
  unfold arrV
  congr 2
  apply Array.ext
  · simp
  · intro i h1 h2
    simp only [Array.getElem_ofFn]
    rw [hfg i (by simpa using h1)]
theorem b_arrQ {G : b_G} {a n : Nat} {cA : ClassId} {f g : Nat → Option Nat} {H : Heap} (h : b_at G a (.inl (cA, n, .inr (.inr (.inr (.inr f))))) H) (hfg : ∀ j, j < n → f j = g j) : b_at G a (.inl (cA, n, .inr (.inr (.inr (.inr g))))) H := by
  refine Eq.trans (show H[a]? = some (vp_cell cA (n, .inr (.inr (.inr (.inr f))))) from h) ?_
  rw [vp_cell_q, vp_cell_q]
  unfold arrV
  congr 2
  apply Array.ext
  · simp
  · intro i h1 h2
    simp only [Array.getElem_ofFn]
    rw [hfg i (by simpa using h1)]
/-- index and compare rows over Nat -/
theorem nI_cl {n : Nat} (h : n < 2147483648) : (nI n).toNatClampNeg = n := nI_clamp h
theorem b_at_nI {f : Nat → Int32} {n : Nat} {x : Int32} (h : n < 2147483648) (e : f n = x) : f (nI n).toNatClampNeg = x := by rw [nI_cl h]; exact e
theorem b_atQ_nI {f : Nat → Option Nat} {n : Nat} {x : Option Nat} (h : n < 2147483648) (e : f n = x) : f (nI n).toNatClampNeg = x := by rw [nI_cl h]; exact e
theorem b_up_nI {f g : Nat → Int32} {n : Nat} {x : Int32} (h : n < 2147483648) (e : upd f n x = g) : upd f (nI n).toNatClampNeg x = g := by rw [nI_cl h]; exact e
section CMP
variable {p : Program} {l : Launch} {e : Env} {R : Room} {s : State} {m : MethodId} {args : Array Value} {below : List Frame} {meth : Method} {c : Code} {H : Heap} {locs : List Loc} {cells slots : Nat} {Q : State → Prop}
variable {cc : ByteArray} {pc nL : Nat} {own : String} {ls : Array Slot} {rest : List Value} {G : b_G} {B0 : Nat}
theorem b_icmp_eqN {x y : Nat} {off : Int} {tgt : Nat} (CX : b_Cx p s m args c cc nL own G B0) (hx : x < 2147483648) (hy : y < 2147483648) (hdg : decode cc pc = .ok (.if_icmp .eq off, 3)) (ht : (pc : Int) + off = (tgt : Int)) (kt : x = y → W p l e R s m args below meth c H locs cells slots Q (F0 m tgt ls rest)) (kf : ¬ x = y → W p l e R s m args below meth c H locs cells slots Q (F0 m (pc + 3) ls rest)) : W p l e R s m args below meth c H locs cells slots Q (F0 m pc ls (.int (nI y) :: .int (nI x) :: rest)) :=
  lv_icmp_eq CX.hx CX.hb hdg ht (fun h => kt ((nI_eq hx hy).mp h)) (fun h => kf (fun q => h ((nI_eq hx hy).mpr q)))
theorem b_icmp_neN {x y : Nat} {off : Int} {tgt : Nat} (CX : b_Cx p s m args c cc nL own G B0) (hx : x < 2147483648) (hy : y < 2147483648) (hdg : decode cc pc = .ok (.if_icmp .ne off, 3)) (ht : (pc : Int) + off = (tgt : Int)) (kt : ¬ x = y → W p l e R s m args below meth c H locs cells slots Q (F0 m tgt ls rest)) (kf : x = y → W p l e R s m args below meth c H locs cells slots Q (F0 m (pc + 3) ls rest)) : W p l e R s m args below meth c H locs cells slots Q (F0 m pc ls (.int (nI y) :: .int (nI x) :: rest)) :=
  lv_icmp_ne CX.hx CX.hb hdg ht (fun h => kt (fun q => h ((nI_eq hx hy).mpr q))) (fun h => kf ((nI_eq hx hy).mp h))
theorem b_icmp_ltN {x y : Nat} {off : Int} {tgt : Nat} (CX : b_Cx p s m args c cc nL own G B0) (hx : x < 2147483648) (hy : y < 2147483648) (hdg : decode cc pc = .ok (.if_icmp .lt off, 3)) (ht : (pc : Int) + off = (tgt : Int)) (kt : x < y → W p l e R s m args below meth c H locs cells slots Q (F0 m tgt ls rest)) (kf : y ≤ x → W p l e R s m args below meth c H locs cells slots Q (F0 m (pc + 3) ls rest)) : W p l e R s m args below meth c H locs cells slots Q (F0 m pc ls (.int (nI y) :: .int (nI x) :: rest)) :=
  lv_icmp_lt CX.hx CX.hb hdg ht (fun h => kt ((nI_ltI hx hy).mp h)) (fun h => kf (Nat.le_of_not_lt (fun q => h ((nI_ltI hx hy).mpr q))))
theorem b_icmp_geN {x y : Nat} {off : Int} {tgt : Nat} (CX : b_Cx p s m args c cc nL own G B0) (hx : x < 2147483648) (hy : y < 2147483648) (hdg : decode cc pc = .ok (.if_icmp .ge off, 3)) (ht : (pc : Int) + off = (tgt : Int)) (kt : y ≤ x → W p l e R s m args below meth c H locs cells slots Q (F0 m tgt ls rest)) (kf : x < y → W p l e R s m args below meth c H locs cells slots Q (F0 m (pc + 3) ls rest)) : W p l e R s m args below meth c H locs cells slots Q (F0 m pc ls (.int (nI y) :: .int (nI x) :: rest)) :=
  lv_icmp_ge CX.hx CX.hb hdg ht (fun h => kt ((nI_leI hy hx).mp h)) (fun h => kf (Nat.lt_of_not_le (fun q => h ((nI_leI hy hx).mpr q))))
theorem b_icmp_gtN {x y : Nat} {off : Int} {tgt : Nat} (CX : b_Cx p s m args c cc nL own G B0) (hx : x < 2147483648) (hy : y < 2147483648) (hdg : decode cc pc = .ok (.if_icmp .gt off, 3)) (ht : (pc : Int) + off = (tgt : Int)) (kt : y < x → W p l e R s m args below meth c H locs cells slots Q (F0 m tgt ls rest)) (kf : x ≤ y → W p l e R s m args below meth c H locs cells slots Q (F0 m (pc + 3) ls rest)) : W p l e R s m args below meth c H locs cells slots Q (F0 m pc ls (.int (nI y) :: .int (nI x) :: rest)) :=
  lv_icmp_gt CX.hx CX.hb hdg ht (fun h => kt ((nI_ltI hy hx).mp h)) (fun h => kf (Nat.le_of_not_lt (fun q => h ((nI_ltI hy hx).mpr q))))
theorem b_icmp_leN {x y : Nat} {off : Int} {tgt : Nat} (CX : b_Cx p s m args c cc nL own G B0) (hx : x < 2147483648) (hy : y < 2147483648) (hdg : decode cc pc = .ok (.if_icmp .le off, 3)) (ht : (pc : Int) + off = (tgt : Int)) (kt : x ≤ y → W p l e R s m args below meth c H locs cells slots Q (F0 m tgt ls rest)) (kf : y < x → W p l e R s m args below meth c H locs cells slots Q (F0 m (pc + 3) ls rest)) : W p l e R s m args below meth c H locs cells slots Q (F0 m pc ls (.int (nI y) :: .int (nI x) :: rest)) :=
  lv_icmp_le CX.hx CX.hb hdg ht (fun h => kt ((nI_leI hx hy).mp h)) (fun h => kf (Nat.lt_of_not_le (fun q => h ((nI_leI hx hy).mpr q))))
end CMP
section CMP2
variable {p : Program} {l : Launch} {e : Env} {R : Room} {s : State} {m : MethodId} {args : Array Value} {below : List Frame} {meth : Method} {c : Code} {H : Heap} {locs : List Loc} {cells slots : Nat} {Q : State → Prop}
variable {cc : ByteArray} {pc nL : Nat} {own : String} {ls : Array Slot} {rest : List Value} {G : b_G} {B0 : Nat}
theorem b_if_eqN {x : Nat} {off : Int} {tgt : Nat} (CX : b_Cx p s m args c cc nL own G B0) (hx : x < 2147483648) (hdg : decode cc pc = .ok (.ifCond .eq off, 3)) (ht : (pc : Int) + off = (tgt : Int)) (kt : x = 0 → W p l e R s m args below meth c H locs cells slots Q (F0 m tgt ls rest)) (kf : ¬ x = 0 → W p l e R s m args below meth c H locs cells slots Q (F0 m (pc + 3) ls rest)) : W p l e R s m args below meth c H locs cells slots Q (F0 m pc ls (.int (nI x) :: rest)) :=
  lv_if_eq CX.hx CX.hb hdg ht (fun h => kt ((nI_eq hx (by decide)).mp h)) (fun h => kf (fun q => h (by rw [q]; rfl)))
theorem b_if_neN {x : Nat} {off : Int} {tgt : Nat} (CX : b_Cx p s m args c cc nL own G B0) (hx : x < 2147483648) (hdg : decode cc pc = .ok (.ifCond .ne off, 3)) (ht : (pc : Int) + off = (tgt : Int)) (kt : ¬ x = 0 → W p l e R s m args below meth c H locs cells slots Q (F0 m tgt ls rest)) (kf : x = 0 → W p l e R s m args below meth c H locs cells slots Q (F0 m (pc + 3) ls rest)) : W p l e R s m args below meth c H locs cells slots Q (F0 m pc ls (.int (nI x) :: rest)) :=
  lv_if_ne CX.hx CX.hb hdg ht (fun h => kt (fun q => h (by rw [q]; rfl))) (fun h => kf ((nI_eq hx (by decide)).mp h))
theorem b_if_gtN {x : Nat} {off : Int} {tgt : Nat} (CX : b_Cx p s m args c cc nL own G B0) (hx : x < 2147483648) (hdg : decode cc pc = .ok (.ifCond .gt off, 3)) (ht : (pc : Int) + off = (tgt : Int)) (kt : 0 < x → W p l e R s m args below meth c H locs cells slots Q (F0 m tgt ls rest)) (kf : x = 0 → W p l e R s m args below meth c H locs cells slots Q (F0 m (pc + 3) ls rest)) : W p l e R s m args below meth c H locs cells slots Q (F0 m pc ls (.int (nI x) :: rest)) :=
  lv_if_gt CX.hx CX.hb hdg ht (fun h => kt ((nI_ltI (a := 0) (by decide) hx).mp h)) (fun h => kf (Nat.eq_zero_of_not_pos (fun q => h ((nI_ltI (a := 0) (by decide) hx).mpr q))))
theorem b_if_leN {x : Nat} {off : Int} {tgt : Nat} (CX : b_Cx p s m args c cc nL own G B0) (hx : x < 2147483648) (hdg : decode cc pc = .ok (.ifCond .le off, 3)) (ht : (pc : Int) + off = (tgt : Int)) (kt : x = 0 → W p l e R s m args below meth c H locs cells slots Q (F0 m tgt ls rest)) (kf : 0 < x → W p l e R s m args below meth c H locs cells slots Q (F0 m (pc + 3) ls rest)) : W p l e R s m args below meth c H locs cells slots Q (F0 m pc ls (.int (nI x) :: rest)) :=
  lv_if_le CX.hx CX.hb hdg ht (fun h => kt (Nat.le_zero.mp ((nI_leI (b := 0) hx (by decide)).mp h))) (fun h => kf (Nat.pos_of_ne_zero (fun q => h (by rw [q]; decide))))
end CMP2
