/-! ===== tagged cells: τ tells of every address what it is (1000 * id + i: the part i of the loop id; 1000000 + i: the system's own; 2000000 + i: the reference's; 3000000 + i: passing) ===== -/
set_option maxRecDepth 100000
abbrev b_T : Type := Nat → Nat
def b_tt (G : b_G) (B0 : Nat) (τ : b_T) (H : Heap) (a t : Nat) (e : va_E) : Prop := b_at G a e H ∧ τ a = t ∧ B0 ≤ a
/-- cells that are no T stay -/
def b_Fr (τ : b_T) (T : Nat → Prop) (H H1 : Heap) : Prop := H.size ≤ H1.size ∧ ∀ q : Nat, q < H.size → ¬ T (τ q) → H1[q]? = H[q]?
/-- a later telling of the addresses -/
def b_Ag (τ τ1 : b_T) (H : Heap) : Prop := ∀ q : Nat, q < H.size → τ1 q = τ q
def upT (τ : b_T) (q t : Nat) : b_T := fun a => if a = q then t else τ a
section TT
variable {G : b_G} {B0 : Nat} {τ τ1 τ2 : b_T} {H H1 H2 : Heap} {a t b tb : Nat} {e e1 : va_E} {T T1 : Nat → Prop}
theorem b_tt.at (h : b_tt G B0 τ H a t e) : b_at G a e H := h.1
theorem b_tt.B (h : b_tt G B0 τ H a t e) : B0 ≤ a := h.2.2
theorem b_tt.tag (h : b_tt G B0 τ H a t e) : τ a = t := h.2.1
theorem b_tt.lt (h : b_tt G B0 τ H a t e) : a < H.size := b_lt h.1
theorem b_tt.cg (h : b_tt G B0 τ H a t e) (he : e = e1) : b_tt G B0 τ H a t e1 := he ▸ h
theorem b_tt.up (h : b_tt G B0 τ H a t e) (hu : b_Up b H H1) (hb : τ b = tb) (hn : ¬ t = tb) : b_tt G B0 τ H1 a t e :=
  ⟨b_up h.1 hu (fun q => hn (h.2.1.symm.trans ((congrArg τ q).trans hb))), h.2.1, h.2.2⟩
theorem b_tt.set (h : b_tt G B0 τ H a t e) (hat : b_at G a e1 H1) : b_tt G B0 τ H1 a t e1 := ⟨hat, h.2.1, h.2.2⟩
theorem b_tt.fr (h : b_tt G B0 τ H a t e) (hF : b_Fr τ T H H1) (hn : ¬ T t) : b_tt G B0 τ H1 a t e :=
  ⟨b_kept h.1 (hF.2 a h.lt (by rw [h.2.1]; exact hn)), h.2.1, h.2.2⟩
theorem b_tt.re (h : b_tt G B0 τ H a t e) (hA : b_Ag τ τ1 H) : b_tt G B0 τ1 H a t e := ⟨h.1, (hA a h.lt).trans h.2.1, h.2.2⟩
theorem b_tt.ca (h : b_tt G B0 τ H a t e) (hF : b_Fr τ T H H1) (hA : b_Ag τ τ1 H) (hn : ¬ T t) : b_tt G B0 τ1 H1 a t e := ⟨(h.fr hF hn).1, (hA a h.lt).trans h.2.1, h.2.2⟩
theorem b_tt.ext (h : b_tt G B0 τ H a t e) (hE : b_Ext H H1) : b_tt G B0 τ H1 a t e := ⟨b_ext h.1 hE, h.2.1, h.2.2⟩
theorem b_Ag.rf : b_Ag τ τ H := fun _ _ => rfl
theorem b_Ag.tr (h : b_Ag τ τ1 H) (h2 : b_Ag τ1 τ2 H1) (hz : H.size ≤ H1.size) : b_Ag τ τ2 H := fun q hq => (h2 q (Nat.lt_of_lt_of_le hq hz)).trans (h q hq)
theorem b_Ag.new (hq : b = H.size) : b_Ag τ (upT τ b t) H := fun q hl => if_neg (by omega)
theorem b_tt.new (h : b_tt G B0 τ H a t e) (hE : b_Ext H H1) (hq : b = H.size) : b_tt G B0 (upT τ b tb) H1 a t e := (h.re (b_Ag.new hq)).ext hE
theorem b_tt.mk (hat : b_at G b e H1) (hB : B0 ≤ b) : b_tt G B0 (upT τ b t) H1 b t e := ⟨hat, if_pos rfl, hB⟩
theorem b_Fr.rf : b_Fr τ T H H := ⟨Nat.le_refl _, fun _ _ _ => rfl⟩
theorem b_Fr.up (h : b_Fr τ T H H1) (hA : b_Ag τ τ1 H) (hu : b_Up b H1 H2) (hb : τ1 b = tb) (ht : b < H.size → T tb) : b_Fr τ T H H2 :=
  ⟨Nat.le_trans h.1 (Nat.le_of_eq hu.1.symm), fun q hq hn => (hu.2 q (fun e => hn (by rw [← hA q hq, e, hb]; exact ht (e ▸ hq)))).trans (h.2 q hq hn)⟩
theorem b_Fr.up0 (h : b_Fr τ T H H1) (hu : b_Up b H1 H2) (ht : T (τ b)) : b_Fr τ T H H2 :=
  ⟨Nat.le_trans h.1 (Nat.le_of_eq hu.1.symm), fun q hq hn => (hu.2 q (fun e => hn (e ▸ ht))).trans (h.2 q hq hn)⟩
theorem b_Fr.ext (h : b_Fr τ T H H1) (hE : b_Ext H1 H2) : b_Fr τ T H H2 := ⟨Nat.le_trans h.1 hE.1, fun q hq hn => (hE.2 q (Nat.lt_of_lt_of_le hq h.1)).trans (h.2 q hq hn)⟩
theorem b_Fr.tr (h : b_Fr τ T H H1) (hA : b_Ag τ τ1 H) (h2 : b_Fr τ1 T1 H1 H2) (hT : ∀ q, q < H.size → T1 (τ q) → T (τ q)) : b_Fr τ T H H2 :=
  ⟨Nat.le_trans h.1 h2.1, fun q hq hn => (h2.2 q (Nat.lt_of_lt_of_le hq h.1) (fun x => hn (hT q hq (by rw [← hA q hq]; exact x)))).trans (h.2 q hq hn)⟩
theorem b_Fr.tr0 (h : b_Fr τ T H H1) (h2 : b_Fr τ T1 H1 H2) (hT : ∀ t, T1 t → T t) : b_Fr τ T H H2 := h.tr b_Ag.rf h2 (fun q _ => hT _)
theorem b_Fr.wk (h : b_Fr τ T H H1) (hT : ∀ t, T t → T1 t) : b_Fr τ T1 H H1 := ⟨h.1, fun q hq hn => h.2 q hq (fun x => hn (hT _ x))⟩
end TT
/-! ===== a loop: its parts by number ===== -/
abbrev q_refs (n : Nat) (f : Nat → Option Nat) : vp_A := (n, .inr (.inr (.inr (.inr f))))
/-- the contents of the part i -/
def l_cnt (G : b_G) (F : Nat → Nat) (S : b_St) (Z : Nat → Nat → Int32) (M : Nat → Int32) (E : Nat → Bool) (i : Nat) : va_E :=
  if i = 0 then .inr (1, [.ref (F 1), .ref (F 3), .ref (F 5), .ref (F 6), .int (S 0 0 2), .int (S 0 0 3), .int (S 0 0 4), .int (S 0 0 5), .int (S 0 0 6)])
  else if i = 1 then .inr (2, [.int (M 1), .ref (if E 1 = true then F 2 else G.2.2 0), .int (S 0 0 0)])
  else if i = 2 then .inl (G.2.1 2, q_refs 10 (fun j => if j < nb S then some (F (20 + j)) else none))
  else if i = 3 then .inr (2, [.int (M 3), .ref (if E 3 = true then F 4 else G.2.2 0), .int (S 0 0 1)])
  else if i = 4 then .inl (G.2.1 2, q_refs 10 (fun j => if j < ns S then some (F (30 + j)) else none))
  else if i = 5 then .inl (G.2.1 0, 6, .inl (fun j => S 0 0 (7 + j)))
  else if i = 6 then .inl (G.2.1 3, q_refs 8 (fun j => some (F (10 + j))))
  else if i < 20 then .inl (G.2.1 0, 8, .inl (Z (i - 10)))
  else if i < 30 then .inr (4, [.int (S 1 (i - 20) 0), .int (S 1 (i - 20) 1), .int (S 1 (i - 20) 2), .int (S 1 (i - 20) 3), .int (S 1 (i - 20) 4), .int (S 1 (i - 20) 5), .int (S 1 (i - 20) 6), .int (S 1 (i - 20) 7), .int (S 1 (i - 20) 8), .int (S 1 (i - 20) 9)])
  else if i < 40 then .inr (5, [.ref (F (40 + (i - 30))), .ref (F (50 + (i - 30))), .int (S 2 (i - 30) 0), .int (S 2 (i - 30) 1), .int (S 2 (i - 30) 2), .int (S 2 (i - 30) 3), .int (S 2 (i - 30) 4)])
  else if i < 50 then .inl (G.2.1 0, 8, .inl (fun j => S 4 (i - 40) j))
  else .inl (G.2.1 0, 8, .inl (fun j => S 5 (i - 50) j))
/-- which parts there are -/
def l_use (b s : Nat) (E : Nat → Bool) (i : Nat) : Prop :=
  i = 0 ∨ i = 1 ∨ (i = 2 ∧ E 1 = true) ∨ i = 3 ∨ (i = 4 ∧ E 3 = true) ∨ i = 5 ∨ i = 6 ∨ (10 ≤ i ∧ i < 18) ∨ (20 ≤ i ∧ i < 20 + b) ∨ (30 ≤ i ∧ i < 30 + s) ∨ (40 ≤ i ∧ i < 40 + s) ∨ (50 ≤ i ∧ i < 50 + s)
def LR (G : b_G) (B0 : Nat) (τ : b_T) (id : Nat) (F : Nat → Nat) (M : Nat → Int32) (E : Nat → Bool) (H : Heap) (S : b_St) (Z : Nat → Nat → Int32) : Prop :=
  (∀ i, l_use (nb S) (ns S) E i → b_tt G B0 τ H (F i) (1000 * id + i) (l_cnt G F S Z M E i)) ∧ (E 1 = true ∨ nb S = 0) ∧ (E 3 = true ∨ ns S = 0) ∧ nb S ≤ 8 ∧ ns S ≤ 6
section LR
variable {G : b_G} {B0 : Nat} {τ τ1 : b_T} {id : Nat} {F : Nat → Nat} {M : Nat → Int32} {E : Nat → Bool} {H H1 : Heap} {S S1 : b_St} {Z Z1 : Nat → Nat → Int32} {T : Nat → Prop}
theorem LR.p (h : LR G B0 τ id F M E H S Z) {i : Nat} (hi : l_use (nb S) (ns S) E i) {e : va_E} (he : l_cnt G F S Z M E i = e) : b_tt G B0 τ H (F i) (1000 * id + i) e := he ▸ h.1 i hi
theorem LR.loop (h : LR G B0 τ id F M E H S Z) : b_tt G B0 τ H (F 0) (1000 * id + 0) (.inr (1, [.ref (F 1), .ref (F 3), .ref (F 5), .ref (F 6), .int (S 0 0 2), .int (S 0 0 3), .int (S 0 0 4), .int (S 0 0 5), .int (S 0 0 6)])) := h.p (Or.inl rfl) rfl
theorem LR.al1 (h : LR G B0 τ id F M E H S Z) : b_tt G B0 τ H (F 1) (1000 * id + 1) (.inr (2, [.int (M 1), .ref (if E 1 = true then F 2 else G.2.2 0), .int (S 0 0 0)])) := h.p (by unfold l_use; omega) rfl
theorem LR.ar2 (h : LR G B0 τ id F M E H S Z) (he : E 1 = true) : b_tt G B0 τ H (F 2) (1000 * id + 2) (.inl (G.2.1 2, q_refs 10 (fun j => if j < nb S then some (F (20 + j)) else none))) := h.p (by unfold l_use; simp [he]) rfl
theorem LR.al3 (h : LR G B0 τ id F M E H S Z) : b_tt G B0 τ H (F 3) (1000 * id + 3) (.inr (2, [.int (M 3), .ref (if E 3 = true then F 4 else G.2.2 0), .int (S 0 0 1)])) := h.p (by unfold l_use; omega) rfl
theorem LR.ar4 (h : LR G B0 τ id F M E H S Z) (he : E 3 = true) : b_tt G B0 τ H (F 4) (1000 * id + 4) (.inl (G.2.1 2, q_refs 10 (fun j => if j < ns S then some (F (30 + j)) else none))) := h.p (by unfold l_use; simp [he]) rfl
theorem LR.sett (h : LR G B0 τ id F M E H S Z) : b_tt G B0 τ H (F 5) (1000 * id + 5) (.inl (G.2.1 0, 6, .inl (fun j => S 0 0 (7 + j)))) := h.p (by unfold l_use; omega) rfl
theorem LR.rows (h : LR G B0 τ id F M E H S Z) : b_tt G B0 τ H (F 6) (1000 * id + 6) (.inl (G.2.1 3, q_refs 8 (fun j => some (F (10 + j))))) := h.p (by unfold l_use; omega) rfl
theorem l_c7 {i : Nat} (hi : i < 8) : l_cnt G F S Z M E (10 + i) = .inl (G.2.1 0, 8, .inl (Z i)) := by
  unfold l_cnt
  rw [if_neg (by omega), if_neg (by omega), if_neg (by omega), if_neg (by omega), if_neg (by omega), if_neg (by omega), if_neg (by omega), if_pos (by omega), show 10 + i - 10 = i by omega]
theorem l_c20 {k : Nat} (hk : k < 10) : l_cnt G F S Z M E (20 + k) = .inr (4, [.int (S 1 k 0), .int (S 1 k 1), .int (S 1 k 2), .int (S 1 k 3), .int (S 1 k 4), .int (S 1 k 5), .int (S 1 k 6), .int (S 1 k 7), .int (S 1 k 8), .int (S 1 k 9)]) := by
  unfold l_cnt
  rw [if_neg (by omega), if_neg (by omega), if_neg (by omega), if_neg (by omega), if_neg (by omega), if_neg (by omega), if_neg (by omega), if_neg (by omega), if_pos (by omega), show 20 + k - 20 = k by omega]
theorem l_c30 {k : Nat} (hk : k < 10) : l_cnt G F S Z M E (30 + k) = .inr (5, [.ref (F (40 + k)), .ref (F (50 + k)), .int (S 2 k 0), .int (S 2 k 1), .int (S 2 k 2), .int (S 2 k 3), .int (S 2 k 4)]) := by
  unfold l_cnt
  rw [if_neg (by omega), if_neg (by omega), if_neg (by omega), if_neg (by omega), if_neg (by omega), if_neg (by omega), if_neg (by omega), if_neg (by omega), if_neg (by omega), if_pos (by omega), show 30 + k - 30 = k by omega]
theorem l_c40 {k : Nat} (hk : k < 10) : l_cnt G F S Z M E (40 + k) = .inl (G.2.1 0, 8, .inl (fun j => S 4 k j)) := by
  unfold l_cnt
  rw [if_neg (by omega), if_neg (by omega), if_neg (by omega), if_neg (by omega), if_neg (by omega), if_neg (by omega), if_neg (by omega), if_neg (by omega), if_neg (by omega), if_neg (by omega), if_pos (by omega), show 40 + k - 40 = k by omega]
theorem l_c50 {k : Nat} : l_cnt G F S Z M E (50 + k) = .inl (G.2.1 0, 8, .inl (fun j => S 5 k j)) := by
  unfold l_cnt
  rw [if_neg (by omega), if_neg (by omega), if_neg (by omega), if_neg (by omega), if_neg (by omega), if_neg (by omega), if_neg (by omega), if_neg (by omega), if_neg (by omega), if_neg (by omega), if_neg (by omega), show 50 + k - 50 = k by omega]
theorem LR.row (h : LR G B0 τ id F M E H S Z) {i : Nat} (hi : i < 8) : b_tt G B0 τ H (F (10 + i)) (1000 * id + (10 + i)) (.inl (G.2.1 0, 8, .inl (Z i))) := h.p (by unfold l_use; omega) (l_c7 hi)
theorem LR.brand (h : LR G B0 τ id F M E H S Z) {k : Nat} (hk : k < nb S) : b_tt G B0 τ H (F (20 + k)) (1000 * id + (20 + k)) (.inr (4, [.int (S 1 k 0), .int (S 1 k 1), .int (S 1 k 2), .int (S 1 k 3), .int (S 1 k 4), .int (S 1 k 5), .int (S 1 k 6), .int (S 1 k 7), .int (S 1 k 8), .int (S 1 k 9)])) := h.p (by unfold l_use; omega) (l_c20 (by have := h.2.2.2.1; omega))
theorem LR.shop (h : LR G B0 τ id F M E H S Z) {k : Nat} (hk : k < ns S) : b_tt G B0 τ H (F (30 + k)) (1000 * id + (30 + k)) (.inr (5, [.ref (F (40 + k)), .ref (F (50 + k)), .int (S 2 k 0), .int (S 2 k 1), .int (S 2 k 2), .int (S 2 k 3), .int (S 2 k 4)])) := h.p (by unfold l_use; omega) (l_c30 (by have := h.2.2.2.2; omega))
theorem LR.full (h : LR G B0 τ id F M E H S Z) {k : Nat} (hk : k < ns S) : b_tt G B0 τ H (F (40 + k)) (1000 * id + (40 + k)) (.inl (G.2.1 0, 8, .inl (fun j => S 4 k j))) := h.p (by unfold l_use; omega) (l_c40 (by have := h.2.2.2.2; omega))
theorem LR.empt (h : LR G B0 τ id F M E H S Z) {k : Nat} (hk : k < ns S) : b_tt G B0 τ H (F (50 + k)) (1000 * id + (50 + k)) (.inl (G.2.1 0, 8, .inl (fun j => S 5 k j))) := h.p (by unfold l_use; omega) l_c50
theorem l_use.lt {b s : Nat} {i : Nat} (h : l_use b s E i) (hb : b ≤ 8) (hs : s ≤ 6) : i < 60 := by unfold l_use at h; omega
theorem LR.up (h : LR G B0 τ id F M E H S Z) {a t : Nat} (hu : b_Up a H H1) (ha : τ a = t) (ht : t < 1000 * id ∨ 1000 * id + 1000 ≤ t) : LR G B0 τ id F M E H1 S Z :=
  ⟨fun i hi => (h.1 i hi).up hu ha (by have := hi.lt h.2.2.2.1 h.2.2.2.2; omega), h.2⟩
theorem LR.fr (h : LR G B0 τ id F M E H S Z) (hF : b_Fr τ T H H1) (hT : ∀ i, i < 60 → ¬ T (1000 * id + i)) : LR G B0 τ id F M E H1 S Z :=
  ⟨fun i hi => (h.1 i hi).fr hF (hT i (hi.lt h.2.2.2.1 h.2.2.2.2)), h.2⟩
theorem LR.ca (h : LR G B0 τ id F M E H S Z) (hF : b_Fr τ T H H1) (hA : b_Ag τ τ1 H) (hT : ∀ i, i < 60 → ¬ T (1000 * id + i)) : LR G B0 τ1 id F M E H1 S Z :=
  ⟨fun i hi => (h.1 i hi).ca hF hA (hT i (hi.lt h.2.2.2.1 h.2.2.2.2)), h.2⟩
theorem LR.new (h : LR G B0 τ id F M E H S Z) {b tb : Nat} (hE : b_Ext H H1) (hq : b = H.size) : LR G B0 (upT τ b tb) id F M E H1 S Z := ⟨fun i hi => (h.1 i hi).new hE hq, h.2⟩
/-- one part written -/
theorem LR.put (h : LR G B0 τ id F M E H S Z) {i : Nat} {e : va_E} (hi : l_use (nb S) (ns S) E i) (hat : b_at G (F i) e H1) (hu : b_Up (F i) H H1) (he : e = l_cnt G F S1 Z1 M E i) (hn : nb S1 = nb S) (hs : ns S1 = ns S)
    (hsame : ∀ j, j < 60 → ¬ j = i → ¬ (7 ≤ j ∧ j < 10) → l_cnt G F S1 Z1 M E j = l_cnt G F S Z M E j) : LR G B0 τ id F M E H1 S1 Z1 := by
  refine ⟨fun j hj => ?_, by rw [hn]; exact h.2.1, by rw [hs]; exact h.2.2.1, by rw [hn]; exact h.2.2.2.1, by rw [hs]; exact h.2.2.2.2⟩
  rw [hn, hs] at hj
  by_cases hji : j = i
  · subst hji
    exact (h.1 j hj).set (he ▸ hat)
  · have hj7 : ¬ (7 ≤ j ∧ j < 10) := by unfold l_use at hj; omega
    rw [hsame j (hj.lt h.2.2.2.1 h.2.2.2.2) hji hj7]
    exact (h.1 j hj).up hu (h.1 i hi).tag (by omega)
theorem nb_u {k i j : Nat} {x : Int32} (h : ¬ (k = 0 ∧ i = 0 ∧ j = 0)) : nb (u3 S k i j x) = nb S := by
  unfold nb; rw [u3_n S x (fun q => h ⟨q.1.symm, q.2.2.symm, q.2.1.symm⟩)]
theorem ns_u {k i j : Nat} {x : Int32} (h : ¬ (k = 0 ∧ i = 0 ∧ j = 1)) : ns (u3 S k i j x) = ns S := by
  unfold ns; rw [u3_n S x (fun q => h ⟨q.1.symm, q.2.2.symm, q.2.1.symm⟩)]
theorem l_same {k i j : Nat} {x : Int32} (n : Nat) (hn : nb (u3 S k i j x) = nb S) (hs : ns (u3 S k i j x) = ns S)
    (h0 : k = 0 → i = 0 → (n = 0 ∧ 2 ≤ j ∧ j < 7) ∨ (n = 5 ∧ 7 ≤ j)) (h1 : k = 1 → n = 20 + i) (h2 : k = 2 → n = 30 + i) (h4 : k = 4 → n = 40 + i) (h5 : k = 5 → n = 50 + i) : ∀ q, q < 60 → ¬ q = n → ¬ (7 ≤ q ∧ q < 10) → l_cnt G F (u3 S k i j x) Z M E q = l_cnt G F S Z M E q := by
  intro q hq hqn _
  have e0 : ∀ w, w < 2 → u3 S k i j x 0 0 w = S 0 0 w := fun w a => u3_n S x (fun z => by have := h0 z.1.symm z.2.2.symm; omega)
  have e1 : ∀ w, u3 S k i j x 1 (q - 20) w = S 1 (q - 20) w ∨ ¬ (20 ≤ q ∧ q < 30) := fun w => by
    by_cases c : 20 ≤ q ∧ q < 30
    · exact Or.inl (u3_n S x (fun z => by have := h1 z.1.symm; omega))
    · exact Or.inr c
  have e2 : ∀ w, u3 S k i j x 2 (q - 30) w = S 2 (q - 30) w ∨ ¬ (30 ≤ q ∧ q < 40) := fun w => by
    by_cases c : 30 ≤ q ∧ q < 40
    · exact Or.inl (u3_n S x (fun z => by have := h2 z.1.symm; omega))
    · exact Or.inr c
  have e4 : ∀ w, u3 S k i j x 4 (q - 40) w = S 4 (q - 40) w ∨ ¬ (40 ≤ q ∧ q < 50) := fun w => by
    by_cases c : 40 ≤ q ∧ q < 50
    · exact Or.inl (u3_n S x (fun z => by have := h4 z.1.symm; omega))
    · exact Or.inr c
  have e5 : ∀ w, u3 S k i j x 5 (q - 50) w = S 5 (q - 50) w ∨ ¬ (50 ≤ q ∧ q < 60) := fun w => by
    by_cases c : 50 ≤ q ∧ q < 60
    · exact Or.inl (u3_n S x (fun z => by have := h5 z.1.symm; omega))
    · exact Or.inr c
  unfold l_cnt
  rw [hn, hs]
  by_cases c0 : q = 0
  · have f : ∀ w, 2 ≤ w ∧ w < 7 → u3 S k i j x 0 0 w = S 0 0 w := fun w hw => u3_n S x (fun z => by have := h0 z.1.symm z.2.2.symm; omega)
    rw [if_pos c0, if_pos c0, f 2 (by decide), f 3 (by decide), f 4 (by decide), f 5 (by decide), f 6 (by decide)]
  rw [if_neg c0, if_neg c0]
  by_cases c1 : q = 1
  · rw [if_pos c1, if_pos c1, e0 0 (by decide)]
  rw [if_neg c1, if_neg c1]
  by_cases c2 : q = 2
  · rw [if_pos c2, if_pos c2]
  rw [if_neg c2, if_neg c2]
  by_cases c3 : q = 3
  · rw [if_pos c3, if_pos c3, e0 1 (by decide)]
  rw [if_neg c3, if_neg c3]
  by_cases c4 : q = 4
  · rw [if_pos c4, if_pos c4]
  rw [if_neg c4, if_neg c4]
  by_cases c5 : q = 5
  · have f : (fun w => u3 S k i j x 0 0 (7 + w)) = (fun w => S 0 0 (7 + w)) := funext fun w => u3_n S x (fun z => by have := h0 z.1.symm z.2.2.symm; omega)
    rw [if_pos c5, if_pos c5, f]
  rw [if_neg c5, if_neg c5]
  by_cases c6 : q = 6
  · rw [if_pos c6, if_pos c6]
  rw [if_neg c6, if_neg c6]
  by_cases c7 : q < 20
  · rw [if_pos c7, if_pos c7]
  rw [if_neg c7, if_neg c7]
  by_cases c8 : q < 30
  · have f : ∀ w, u3 S k i j x 1 (q - 20) w = S 1 (q - 20) w := fun w => (e1 w).resolve_right (by omega)
    rw [if_pos c8, if_pos c8]
    simp only [f]
  rw [if_neg c8, if_neg c8]
  by_cases c9 : q < 40
  · have f : ∀ w, u3 S k i j x 2 (q - 30) w = S 2 (q - 30) w := fun w => (e2 w).resolve_right (by omega)
    rw [if_pos c9, if_pos c9]
    simp only [f]
  rw [if_neg c9, if_neg c9]
  by_cases c10 : q < 50
  · have f : ∀ w, u3 S k i j x 4 (q - 40) w = S 4 (q - 40) w := fun w => (e4 w).resolve_right (by omega)
    rw [if_pos c10, if_pos c10]
    simp only [f]
  have f : ∀ w, u3 S k i j x 5 (q - 50) w = S 5 (q - 50) w := fun w => (e5 w).resolve_right (by omega)
  rw [if_neg c10, if_neg c10]
  simp only [f]
theorem LR.set0 (h : LR G B0 τ id F M E H S Z) {w : Nat} {x : Int32} (hw : 2 ≤ w ∧ w < 7) {e : va_E} (hat : b_at G (F 0) e H1) (hu : b_Up (F 0) H H1) (he : e = l_cnt G F (u3 S 0 0 w x) Z M E 0) : LR G B0 τ id F M E H1 (u3 S 0 0 w x) Z :=
  h.put (i := 0) (Or.inl rfl) hat hu he (nb_u (by omega)) (ns_u (by omega)) (l_same 0 (nb_u (by omega)) (ns_u (by omega)) (by omega) (by omega) (by omega) (by omega) (by omega))
theorem LR.set5 (h : LR G B0 τ id F M E H S Z) {w : Nat} {x : Int32} (hat : b_at G (F 5) (.inl (G.2.1 0, 6, .inl (upd (fun j => S 0 0 (7 + j)) w x))) H1) (hu : b_Up (F 5) H H1) : LR G B0 τ id F M E H1 (u3 S 0 0 (7 + w) x) Z := by
  refine h.put (i := 5) (by unfold l_use; omega) hat hu ?_ (nb_u (by omega)) (ns_u (by omega)) (l_same 5 (nb_u (by omega)) (ns_u (by omega)) (by omega) (by omega) (by omega) (by omega) (by omega))
  have f : upd (fun j => S 0 0 (7 + j)) w x = fun j => u3 S 0 0 (7 + w) x 0 0 (7 + j) := by
    funext j
    unfold upd u3
    by_cases c : j = w
    · rw [if_pos c, if_pos (by omega)]
    · rw [if_neg c, if_neg (by omega)]
  rw [f]
  rfl
theorem LR.set1 (h : LR G B0 τ id F M E H S Z) {k w : Nat} {x : Int32} (hk : k < nb S) {e : va_E} (hat : b_at G (F (20 + k)) e H1) (hu : b_Up (F (20 + k)) H H1) (he : e = .inr (4, [.int (u3 S 1 k w x 1 k 0), .int (u3 S 1 k w x 1 k 1), .int (u3 S 1 k w x 1 k 2), .int (u3 S 1 k w x 1 k 3), .int (u3 S 1 k w x 1 k 4), .int (u3 S 1 k w x 1 k 5), .int (u3 S 1 k w x 1 k 6), .int (u3 S 1 k w x 1 k 7), .int (u3 S 1 k w x 1 k 8), .int (u3 S 1 k w x 1 k 9)])) : LR G B0 τ id F M E H1 (u3 S 1 k w x) Z := by
  have h8 := h.2.2.2.1
  exact h.put (i := 20 + k) (by unfold l_use; omega) hat hu (he.trans (l_c20 (by omega)).symm) (nb_u (by omega)) (ns_u (by omega)) (l_same (20 + k) (nb_u (by omega)) (ns_u (by omega)) (by omega) (by omega) (by omega) (by omega) (by omega))
theorem LR.set2 (h : LR G B0 τ id F M E H S Z) {k w : Nat} {x : Int32} (hk : k < ns S) {e : va_E} (hat : b_at G (F (30 + k)) e H1) (hu : b_Up (F (30 + k)) H H1) (he : e = .inr (5, [.ref (F (40 + k)), .ref (F (50 + k)), .int (u3 S 2 k w x 2 k 0), .int (u3 S 2 k w x 2 k 1), .int (u3 S 2 k w x 2 k 2), .int (u3 S 2 k w x 2 k 3), .int (u3 S 2 k w x 2 k 4)])) : LR G B0 τ id F M E H1 (u3 S 2 k w x) Z := by
  have h8 := h.2.2.2.2
  exact h.put (i := 30 + k) (by unfold l_use; omega) hat hu (he.trans (l_c30 (by omega)).symm) (nb_u (by omega)) (ns_u (by omega)) (l_same (30 + k) (nb_u (by omega)) (ns_u (by omega)) (by omega) (by omega) (by omega) (by omega) (by omega))
theorem l_u4 {k w K : Nat} {x : Int32} : upd (fun j => S K k j) w x = fun j => u3 S K k w x K k j := by
  funext j
  unfold upd u3
  by_cases c : j = w
  · rw [if_pos c, if_pos ⟨rfl, c, rfl⟩]
  · rw [if_neg c, if_neg (fun q => c q.2.1)]
theorem LR.set4 (h : LR G B0 τ id F M E H S Z) {k w : Nat} {x : Int32} (hk : k < ns S) (hat : b_at G (F (40 + k)) (.inl (G.2.1 0, 8, .inl (upd (fun j => S 4 k j) w x))) H1) (hu : b_Up (F (40 + k)) H H1) : LR G B0 τ id F M E H1 (u3 S 4 k w x) Z := by
  have h8 := h.2.2.2.2
  exact h.put (i := 40 + k) (by unfold l_use; omega) hat hu (by rw [l_u4]; exact (l_c40 (by omega)).symm) (nb_u (by omega)) (ns_u (by omega)) (l_same (40 + k) (nb_u (by omega)) (ns_u (by omega)) (by omega) (by omega) (by omega) (by omega) (by omega))
theorem LR.set6 (h : LR G B0 τ id F M E H S Z) {k w : Nat} {x : Int32} (hk : k < ns S) (hat : b_at G (F (50 + k)) (.inl (G.2.1 0, 8, .inl (upd (fun j => S 5 k j) w x))) H1) (hu : b_Up (F (50 + k)) H H1) : LR G B0 τ id F M E H1 (u3 S 5 k w x) Z := by
  have h8 := h.2.2.2.2
  exact h.put (i := 50 + k) (by unfold l_use; omega) hat hu (by rw [l_u4]; exact l_c50.symm) (nb_u (by omega)) (ns_u (by omega)) (l_same (50 + k) (nb_u (by omega)) (ns_u (by omega)) (by omega) (by omega) (by omega) (by omega) (by omega))
def upZ (Z : Nat → Nat → Int32) (i j : Nat) (x : Int32) : Nat → Nat → Int32 := fun a b => if a = i ∧ b = j then x else Z a b
theorem LR.setZ (h : LR G B0 τ id F M E H S Z) {i w : Nat} {x : Int32} (hi : i < 8) (hat : b_at G (F (10 + i)) (.inl (G.2.1 0, 8, .inl (upd (Z i) w x))) H1) (hu : b_Up (F (10 + i)) H H1) : LR G B0 τ id F M E H1 S (upZ Z i w x) := by
  refine h.put (i := 10 + i) (by unfold l_use; omega) hat hu ?_ rfl rfl ?_
  · rw [l_c7 hi]
    congr 4
    funext j
    unfold upd upZ
    by_cases c : j = w
    · rw [if_pos c, if_pos ⟨rfl, c⟩]
    · rw [if_neg c, if_neg (fun q => c q.2)]
  · intro j hj hji hj7
    unfold l_cnt
    by_cases c : j < 7
    · have c6 : j = 0 ∨ j = 1 ∨ j = 2 ∨ j = 3 ∨ j = 4 ∨ j = 5 ∨ j = 6 := by omega
      rcases c6 with rfl | rfl | rfl | rfl | rfl | rfl | rfl
      all_goals rfl
    · have e : upZ Z i w x (j - 10) = Z (j - 10) ∨ ¬ j < 20 := by
        by_cases c7 : j < 20
        · refine Or.inl (funext fun b => if_neg ?_)
          rintro ⟨q, -⟩
          omega
        · exact Or.inr c7
      rcases e with e | e
      · rw [e]
      · rw [if_neg e, if_neg e]
end LR
