/-! ===== b_: a layer of single cells over the kit: one heap H, facts about cells (b_at), what a step changes (b_Up), a base address B0 below which nobody writes ===== -/
set_option maxRecDepth 100000
/-- all classes of which the law's run makes objects, by number -/
abbrev b_cl : List vw_C := [(RX1, TX1, 5), (RX2, TX2, 9), (RJ2, TJ2, 3), (RJ4, TJ4, 4), (RX4, TX4, 10), (RX5, TX5, 7), (RX20, TX20, 3), (RX21, TX21, 4), (RX3, TX3, 16), (RX12, TX12, 5), (RX13, TX13, 5), (RX14, TX14, 5), (RX15, TX15, 5), (RX17, TX17, 5), (RX7, TX7, 4), (RX16, TX16, 4), (RX18, TX18, 4), (RX19, TX19, 5), (RX9, TX9, 6), (RX10, TX10, 6), (RX11, TX11, 6), (RX22, TX22, 6)]
abbrev b_G : Type := va_G × (Nat → ClassId) × (Nat → Nat)
abbrev b_tys (G : b_G) : List (ClassId × FieldType) := [(G.2.1 0, .int), (G.2.1 1, .byte), (G.2.1 2, .object "java/lang/Object"), (G.2.1 3, .array .int), (G.2.1 4, .long)]
def b_A (B0 : Nat) : Nat → Prop := fun q => B0 ≤ q
def b_at (G : b_G) (a : Nat) (e : va_E) (H : Heap) : Prop := va_at G.1 b_cl (a, e) H
def b_Up (a : Nat) (H H1 : Heap) : Prop := H1.size = H.size ∧ ∀ q : Nat, q ≠ a → H1[q]? = H[q]?
/-- only new cells -/
def b_Ext (H H1 : Heap) : Prop := H.size ≤ H1.size ∧ ∀ q : Nat, q < H.size → H1[q]? = H[q]?
theorem b_P {G : b_G} {a : Nat} {e : va_E} {H : Heap} (h : b_at G a e H) : va_P G.1 b_cl [(a, e)] H := by
  intro k q hk
  match k, hk with
  | 0, hk => cases hk; exact h
  | k + 1, hk => simp at hk
theorem b_lt {G : b_G} {a : Nat} {e : va_E} {H : Heap} (h : b_at G a e H) : a < H.size := va_at.lt h
theorem b_kept {G : b_G} {a : Nat} {e : va_E} {H H1 : Heap} (h : b_at G a e H) (hq : H1[a]? = H[a]?) : b_at G a e H1 := va_at.kept h hq
theorem b_up {G : b_G} {a b : Nat} {e : va_E} {H H1 : Heap} (h : b_at G b e H) (hu : b_Up a H H1) (hn : b ≠ a) : b_at G b e H1 := b_kept h (hu.2 b hn)
theorem b_ext {G : b_G} {b : Nat} {e : va_E} {H H1 : Heap} (h : b_at G b e H) (hu : b_Ext H H1) : b_at G b e H1 := b_kept h (hu.2 b (b_lt h))
theorem b_Ext.rf {H : Heap} : b_Ext H H := ⟨Nat.le_refl _, fun _ _ => rfl⟩
theorem b_Ext.tr {H H1 H2 : Heap} (h : b_Ext H H1) (h2 : b_Ext H1 H2) : b_Ext H H2 := ⟨Nat.le_trans h.1 h2.1, fun q hq => (h2.2 q (Nat.lt_of_lt_of_le hq h.1)).trans (h.2 q hq)⟩
/-- words that ride with the tables, beside lw_all -/
def b_ride : Cond → Bool
  | .fieldLinkNest .. => true
  | .methodLinkNest .. => true
  | .castable .. => true
  | .declares .. => true
  | .privateMethod .. => true
  | _ => false
def b_NW (U : State) : Prop := ∀ w ∈ lw_tbl, b_ride w = true → va_Nw w U
theorem b_warmP {x : MethodName} {s U : State} (hW : s.WarmedH U.vm) (hZ : va_Nw (.privateMethod x) s) : va_Nw (.privateMethod x) U := va_tabs rfl (rfl : (s.setVm U.vm).vm = U.vm) (by rw [Cond.privateMethod_setVm hW.alike]; exact hZ)
theorem b_NW.warm {s U : State} (hW : s.WarmedH U.vm) (h : b_NW s) : b_NW U := by
  intro w hw hr
  have h1 := h w hw hr
  cases w <;> first
    | exact va_Nw.warmF hW h1
    | exact va_Nw.warmM hW h1
    | exact va_Nw.warmC hW h1
    | exact va_Nw.warmD hW h1
    | exact b_warmP hW h1
    | (exfalso; revert hr; simp [b_ride])
/-- pairs of classes of which the first is no second -/
def b_nc : List (String × String) := [("java/lang/IllegalArgumentException", "java/lang/IndexOutOfBoundsException"), ("java/lang/IllegalStateException", "java/lang/IndexOutOfBoundsException"), ("java/lang/IllegalStateException", "java/lang/IllegalArgumentException"), ("BottleLoop$NoCrates", "BottleLoop$NoBottles"), ("BottleLoop$NoMoney", "BottleLoop$NoBottles"), ("BottleLoop$NoMoney", "BottleLoop$NoCrates")]
def b_NC (U : State) : Prop := ∀ q ∈ b_nc, va_Nc q.1 q.2 U
def b_least : Nat → Int32 := fun k => [1, 1, 1, 0, 0, 2].getD k 0
def b_most : Nat → Int32 := fun k => [100, 100, 100, 500, 100, 1000].getD k 0
/-- the statics that are read -/
def b_S (G : b_G) (B0 : Nat) (U : State) (H : Heap) : Prop :=
  va_Z "java/util/ArrayList" "DEFAULTCAPACITY_EMPTY_ELEMENTDATA" "[Ljava/lang/Object;" (.ref (G.2.2 0)) (b_A B0) U H ∧ va_T (.object "java/lang/Object") (G.2.2 0) 0 (fun _ => .null) (b_A B0) U H ∧
  va_Z "BottleLoop" "LEAST" "[I" (.ref (G.2.2 1)) (b_A B0) U H ∧ va_T .int (G.2.2 1) 6 (fun j => .int (b_least j)) (b_A B0) U H ∧
  va_Z "BottleLoop" "MOST" "[I" (.ref (G.2.2 2)) (b_A B0) U H ∧ va_T .int (G.2.2 2) 6 (fun j => .int (b_most j)) (b_A B0) U H ∧
  va_Z "java/lang/String" "COMPACT_STRINGS" "Z" (.int 1) (b_A B0) U H ∧
  vx_Zq Bundle.tN "UNASSIGNED_STACK" Bundle.steD (b_A B0) U H ∧ vx_Zq Bundle.tN "SUPPRESSED_SENTINEL" Bundle.listD (b_A B0) U H ∧ va_Zq "jdk/internal/util/Preconditions" "SIOOBE_FORMATTER" "Ljava/util/function/BiFunction;" (b_A B0) U H
theorem b_S.moved {G : b_G} {B0 : Nat} {u U : State} {H : Heap} (hvm : u.vm.Alike U.vm) (h : b_S G B0 u H) : b_S G B0 U H := by
  obtain ⟨h1, h2, h3, h4, h5, h6, h7, h8, h9, h10⟩ := h
  exact ⟨h1.moved hvm, h2.moved hvm, h3.moved hvm, h4.moved hvm, h5.moved hvm, h6.moved hvm, h7.moved hvm, h8.moved hvm, h9.moved hvm, h10.moved hvm⟩
theorem b_S.kept {G : b_G} {B0 : Nat} {U : State} {H H1 : Heap} (h : b_S G B0 U H) (hq : ∀ a : Nat, a < H.size → ¬ b_A B0 a → H1[a]? = H[a]?) : b_S G B0 U H1 := by
  obtain ⟨h1, h2, h3, h4, h5, h6, h7, h8, h9, h10⟩ := h
  exact ⟨h1.kept hq, h2.kept hq, h3.kept hq, h4.kept hq, h5.kept hq, h6.kept hq, h7.kept hq, h8.kept hq, h9.kept hq, h10.kept hq⟩
/-- the class of int[][] is there -/
def b_A2 (U : State) : Prop := (Cond.arrayOver (.array .int)).before #[] U = true
theorem b_A2.moved {u U : State} (hvm : u.vm.Alike U.vm) (h : b_A2 u) : b_A2 U := by
  unfold b_A2 Cond.before at h ⊢
  simp only [Cond.holds, Cond.value, beq_iff_eq] at h ⊢
  rw [hvm.findClass]
  cases hc : u.vm.findClass (FieldType.array FieldType.int).toString with
  | none => rw [hc] at h; simp at h
  | some comp =>
    rw [hc] at h
    simp only [Option.bind_some, Option.bind_eq_some_iff, Option.map_eq_some_iff] at h ⊢
    obtain ⟨c, hi, k, hk, hb⟩ := h
    obtain ⟨k', hk', he⟩ := hvm.2.2 _ _ hk
    refine ⟨c, ?_, k', hk', ?_⟩
    · have e1 := va_idx_bare U.vm comp
      have e2 := va_idx_bare u.vm comp
      have e3 : U.vm.bare = u.vm.bare := by first | exact hvm.bare_eq | exact hvm.bare_eq.symm
      rw [e3] at e1
      exact (e1.symm.trans e2).trans hi
    · rw [hvm.findClass, he]
      exact hb
/-- all that every method takes along -/
def b_K (G : b_G) (B0 : Nat) (U : State) : Prop :=
  va_K G.1 b_cl (b_tys G) U ∧ b_NW U ∧ b_NC U ∧ B0 ≤ U.heap.size ∧ b_S G B0 U U.heap ∧ va_AO "java/lang/Object" U ∧ b_A2 U
theorem b_K.warm {G : b_G} {B0 : Nat} {s U : State} {locs : List Loc} (h : b_K G B0 s) (hW : s.WarmedH U.vm) (hS : va_S (b_A B0) s.heap U.heap locs) : b_K G B0 U := by
  obtain ⟨h1, h2, h3, h4, h5, h6, h7⟩ := h
  exact ⟨h1.moved hW.alike, h2.warm hW, fun q hq => (h3 q hq).moved hW.alike, Nat.le_trans h4 hS.1, (h5.kept hS.2.1).moved hW.alike, h6.moved hW.alike, h7.moved hW.alike⟩
/-- a contract's start: the arguments, the heap, what is taken along -/
abbrev b_Pc (G : b_G) (B0 : Nat) (H : Heap) (As : List Value) : Array Value → State → Prop := va_Pc As (fun U => U.heap = H ∧ b_K G B0 U)
theorem b_blind (G : b_G) (B0 : Nat) (H : Heap) (As : List Value) : FrameBlind (b_Pc G B0 H As) := by
  intro a U g mk q
  obtain ⟨q0, q1, q2⟩ := q
  exact ⟨q0, q1, b_K.warm (U := U.calling g mk a) (locs := []) q2 (State.WarmedH.refl U) va_S.rf⟩
theorem b_pre {G : b_G} {B0 : Nat} {s : State} {H : Heap} {locs : List Loc} (As : List Value) (hK : b_K G B0 s) (hS : va_S (b_A B0) s.heap H locs) : ∀ U : State, U.heap = H → s.WarmedH U.vm → b_Pc G B0 H As As.toArray U := by
  intro U hU hW
  exact ⟨rfl, hU, hK.warm hW (locs := locs) (by rw [hU]; exact hS)⟩
abbrev b_Qi (B0 : Nat) (post : Int32 → Heap → Prop) := va_Qi post (fun (u : Heap) (t : State) => t.heap = u) (b_A B0)
abbrev b_Ql (B0 : Nat) (post : Int64 → Heap → Prop) := va_Ql post (fun (u : Heap) (t : State) => t.heap = u) (b_A B0)
abbrev b_Qd (B0 : Nat) (post : UInt64 → Heap → Prop) := va_Qd post (fun (u : Heap) (t : State) => t.heap = u) (b_A B0)
abbrev b_Qv (B0 : Nat) (post : Heap → Prop) := va_Qv post (fun (u : Heap) (t : State) => t.heap = u) (b_A B0)
abbrev b_Qq (B0 : Nat) (post : Option Nat → Heap → Prop) := va_Qq post (fun (u : Heap) (t : State) => t.heap = u) (b_A B0)
/-- what a throw leaves: the class, the object's address, the heap -/
abbrev b_X (B0 : Nat) (px : String → Nat → Heap → Prop) : String → Addr → State → State → Prop := vx_X (fun _ : Heap => True) (fun (E : String) (q : Addr) (u : Heap) (t : State) => t.heap = u ∧ px E q u) (b_A B0)
def b_Cx (p : Program) (s : State) (m : MethodId) (args : Array Value) (c : Code) (cc : ByteArray) (nL : Nat) (own : String) (G : b_G) (B0 : Nat) : Prop :=
  p.tables.exec = Jvm.exec ∧ c.code = cc ∧ c.maxLocals = nL ∧ s.vm.findClass own = some m.cls ∧ (∀ w ∈ lw_all, w.before args s = true) ∧ b_K G B0 s
section BR
variable {p : Program} {l : Launch} {e : Env} {R : Room} {s : State} {m : MethodId} {args : Array Value} {below : List Frame} {meth : Method} {c : Code} {H : Heap} {locs : List Loc} {cells slots : Nat} {Q : State → Prop}
variable {cc : ByteArray} {pc nL : Nat} {own : String} {ls : Array Slot} {rest : List Value} {G : b_G} {B0 a : Nat}
theorem b_Cx.hx (h : b_Cx p s m args c cc nL own G B0) : p.tables.exec = Jvm.exec := h.1
theorem b_Cx.hb (h : b_Cx p s m args c cc nL own G B0) : c.code = cc := h.2.1
theorem b_Cx.ml (h : b_Cx p s m args c cc nL own G B0) : c.maxLocals = nL := h.2.2.1
theorem b_Cx.ow (h : b_Cx p s m args c cc nL own G B0) : s.vm.findClass own = some m.cls := h.2.2.2.1
theorem b_Cx.ts (h : b_Cx p s m args c cc nL own G B0) : ∀ w ∈ lw_all, w.before args s = true := h.2.2.2.2.1
theorem b_Cx.K (h : b_Cx p s m args c cc nL own G B0) : b_K G B0 s := h.2.2.2.2.2
theorem b_Cx.fix (h : b_Cx p s m args c cc nL own G B0) : CallFix p m c cc nL s args lw_all own := ⟨h.1, h.2.1, h.2.2.1, h.2.2.2.1, h.2.2.2.2.1⟩
theorem b_Cx.nw (h : b_Cx p s m args c cc nL own G B0) {w : Cond} (hw : w ∈ lw_tbl) (hr : b_ride w = true) (ho : w.onTables = true) : w.before args s = true := va_Nw.use ho (h.K.2.1 w hw hr)
/-- what a write leaves of the frame -/
theorem b_Sput {H0 H1 : Heap} {i : Nat} (hS : va_S (b_A B0) H0 H locs) (hu : b_Up a H H1) (ha : B0 ≤ a) : va_S (b_A B0) H0 H1 (locs ++ [⟨a, i⟩]) := hS.put hu.1 hu.2 ha
/-- a field's spelling: its own class, or an inherited one under a word of the tables -/
def b_same (ref : String) (o n d : String) : Prop := o = ref ∨ Cond.sameField ref o n d ∈ lw_all
theorem b_same.use {ref o n d : String} (h : b_same ref o n d) (hts : ∀ w ∈ lw_all, w.before args s = true) : ∀ x, s.fieldFound? o n d = some x → s.fieldFound? ref n d = some x := by
  intro x hx
  rcases h with h | h
  · rw [← h]; exact hx
  · exact u_same (hts _ h) x hx
theorem b_get (CX : b_Cx p s m args c cc nL own G B0) {ref C : String} {T : u_T} {N ci index : Nat} (hin : ∀ w ∈ u_ws C T N, w ∈ lw_all) (hc : b_cl[ci]? = some (C, T, N)) (k : Nat) (hk : k < N) (hlink : Cond.fieldLink own index ref (T k).2.1 (T k).2.2.1 ∈ lw_all) (hsame : b_same ref (T k).1 (T k).2.1 (T k).2.2.1)
    {fs : List Value} (hP : b_at G a (.inr (ci, fs)) H) {v : Value} (hv : fs[k]? = some v) (hdg : decode cc pc = .ok (.getfield index, 3))
    (kk : W p l e R s m args below meth c H locs cells slots Q (F0 m (pc + 3) ls (v :: rest))) : W p l e R s m args below meth c H locs cells slots Q (F0 m pc ls (.ref a :: rest)) :=
  va_get CX.hx CX.hb CX.ts hin CX.ow CX.K.1 (b_P hP) 0 rfl hc k hk (CX.ts _ hlink) (hsame.use CX.ts) hv hdg kk
theorem b_getN (CX : b_Cx p s m args c cc nL own G B0) {ref C host : String} {T : u_T} {N ci index : Nat} (hin : ∀ w ∈ u_ws C T N, w ∈ lw_all) (hc : b_cl[ci]? = some (C, T, N)) (k : Nat) (hk : k < N) (hlink : Cond.fieldLinkNest own index ref (T k).2.1 (T k).2.2.1 host ∈ lw_tbl) (hsame : b_same ref (T k).1 (T k).2.1 (T k).2.2.1)
    {fs : List Value} (hP : b_at G a (.inr (ci, fs)) H) {v : Value} (hv : fs[k]? = some v) (hdg : decode cc pc = .ok (.getfield index, 3))
    (kk : W p l e R s m args below meth c H locs cells slots Q (F0 m (pc + 3) ls (v :: rest))) : W p l e R s m args below meth c H locs cells slots Q (F0 m pc ls (.ref a :: rest)) :=
  va_getN CX.hx CX.hb CX.ts hin CX.ow CX.K.1 (b_P hP) 0 rfl hc k hk (CX.nw hlink rfl rfl) (hsame.use CX.ts) hv hdg kk
theorem b_apart (CX : b_Cx p s m args c cc nL own G B0) {C : String} {T : u_T} {N ci : Nat} (hin : ∀ w ∈ u_ws C T N, w ∈ lw_all) (ty0 : Nat → FieldType) (hty : ∀ k, k < N → parseFieldDescriptor (T k).2.2.1 = some (ty0 k)) (hc : b_cl[ci]? = some (C, T, N)) {x y : Nat} (hx : x < N) (hy : y < N) (hne : (T x).2.1 ≠ (T y).2.1) : G.1.2 ci x ≠ G.1.2 ci y := by
  obtain ⟨hSl, -⟩ := CX.K.1.1 ci _ hc
  obtain ⟨_, _, _, fa, hia, ea⟩ := hSl x hx
  obtain ⟨_, _, _, fb, hib, eb⟩ := hSl y hy
  rw [← ea, ← eb]
  refine u_apart (u_lays CX.ts hin hx) (u_lays CX.ts hin hy) hia hib ?_
  rw [(State.fieldFound?_type hia (hty x hx)).1, (State.fieldFound?_type hib (hty y hy)).1]
  exact hne
theorem b_set {cell : Cell} {N k : Nat} {iS : Nat → Nat} {V : Nat → Value} (h : ∀ x, x < N → cell.slots[iS x]? = some (V x)) (hap : ∀ x, x < N → x ≠ k → iS x ≠ iS k) (v : Value) : ∀ x, x < N → (cell.setSlot (iS k) v).slots[iS x]? = some (updV V k v x) := by
  intro x hx
  by_cases e : x = k
  · subst e
    have h1 := (Array.getElem?_eq_some_iff.mp (h x hx)).1
    simp [Cell.setSlot, updV, h1]
  · have h2 := hap x hx e
    simp [Cell.setSlot, updV, e, Array.getElem?_setIfInBounds, Ne.symm h2, h x hx]
theorem b_put (CX : b_Cx p s m args c cc nL own G B0) {ref C : String} {T : u_T} {N ci index : Nat} (hin : ∀ w ∈ u_ws C T N, w ∈ lw_all) (ty0 : Nat → FieldType) (hty : ∀ k, k < N → parseFieldDescriptor (T k).2.2.1 = some (ty0 k)) (hc : b_cl[ci]? = some (C, T, N)) (k : Nat) (hk : k < N) (hnm : ∀ x, x < N → x ≠ k → (T x).2.1 ≠ (T k).2.1) (hlink : Cond.fieldLink own index ref (T k).2.1 (T k).2.2.1 ∈ lw_all) (hsame : b_same ref (T k).1 (T k).2.1 (T k).2.2.1) (hfin : (T k).2.2.2 = false)
    {fs : List Value} (hP : b_at G a (.inr (ci, fs)) H) (hS : va_S (b_A B0) s.heap H locs) (ha : B0 ≤ a) {v : Value} (hn : narrow (ty0 k) v = v) (hfit : fits (ty0 k) v = true) (hl : k < fs.length) (hdg : decode cc pc = .ok (.putfield index, 3))
    (kk : ∀ (H1 : Heap) (locs1 : List Loc), b_at G a (.inr (ci, fs.set k v)) H1 → b_Up a H H1 → va_S (b_A B0) s.heap H1 locs1 → W p l e R s m args below meth c H1 locs1 cells slots Q (F0 m (pc + 3) ls rest)) : W p l e R s m args below meth c H locs cells slots Q (F0 m pc ls (v :: .ref a :: rest)) := by
  have hts := CX.ts
  have hd := hty k hk
  have hap := fun x (hx : x < N) (hne : x ≠ k) => b_apart CX hin ty0 hty hc hx hk (hnm x hx hne)
  obtain ⟨r, h1, cell, q1, q2, q3, q4⟩ := b_P hP 0 _ rfl
  have hr : r = (C, T, N) := Option.some.inj (h1.symm.trans hc)
  subst hr
  obtain ⟨hSl, hfc, kC, hkC, hkind⟩ := CX.K.1.1 ci _ hc
  obtain ⟨cf, kf, fi, f, hi, hsl⟩ := hSl k hk
  have hlay := hts _ (hin _ (u_in_lay hk))
  unfold u_lay at hlay
  rw [if_neg (by rw [hfin]; decide)] at hlay
  have hst := (u_facts hfc hkC (u_lays hts hin hk) hi).1
  have h6 := u_store hfc hkC hkind hlay hi hd hn hfit
  refine W.putK CX.hx CX.hb (f := f) ⟨CX.ow, hts _ hlink, ⟨_, _, _, hsame.use hts _ hi⟩, hst⟩ (by rw [q2]; exact h6) q1 q3 (by rw [hsl]; exact k2_hasslot (q4 k hk)) rfl rfl hdg fun H' e1 e2 e3 => ?_
  rw [hsl] at e1 ⊢
  exact kk H' _ ⟨_, hc, t_OB.to (V := updV (vp_V fs) k v) ⟨_, e1, q2, q3, b_set q4 hap v⟩ (fun j _ => vp_updV_set hl v j)⟩ ⟨e2, e3⟩ (b_Sput hS ⟨e2, e3⟩ ha)
theorem b_putN (CX : b_Cx p s m args c cc nL own G B0) {ref C host : String} {T : u_T} {N ci index : Nat} (hin : ∀ w ∈ u_ws C T N, w ∈ lw_all) (ty0 : Nat → FieldType) (hty : ∀ k, k < N → parseFieldDescriptor (T k).2.2.1 = some (ty0 k)) (hc : b_cl[ci]? = some (C, T, N)) (k : Nat) (hk : k < N) (hnm : ∀ x, x < N → x ≠ k → (T x).2.1 ≠ (T k).2.1) (hlink : Cond.fieldLinkNest own index ref (T k).2.1 (T k).2.2.1 host ∈ lw_tbl) (hsame : b_same ref (T k).1 (T k).2.1 (T k).2.2.1) (hfin : (T k).2.2.2 = false)
    {fs : List Value} (hP : b_at G a (.inr (ci, fs)) H) (hS : va_S (b_A B0) s.heap H locs) (ha : B0 ≤ a) {v : Value} (hn : narrow (ty0 k) v = v) (hfit : fits (ty0 k) v = true) (hl : k < fs.length) (hdg : decode cc pc = .ok (.putfield index, 3))
    (kk : ∀ (H1 : Heap) (locs1 : List Loc), b_at G a (.inr (ci, fs.set k v)) H1 → b_Up a H H1 → va_S (b_A B0) s.heap H1 locs1 → W p l e R s m args below meth c H1 locs1 cells slots Q (F0 m (pc + 3) ls rest)) : W p l e R s m args below meth c H locs cells slots Q (F0 m pc ls (v :: .ref a :: rest)) := by
  have hts := CX.ts
  have hd := hty k hk
  have hap := fun x (hx : x < N) (hne : x ≠ k) => b_apart CX hin ty0 hty hc hx hk (hnm x hx hne)
  obtain ⟨r, h1, cell, q1, q2, q3, q4⟩ := b_P hP 0 _ rfl
  have hr : r = (C, T, N) := Option.some.inj (h1.symm.trans hc)
  subst hr
  obtain ⟨hSl, hfc, kC, hkC, hkind⟩ := CX.K.1.1 ci _ hc
  obtain ⟨cf, kf, fi, f, hi, hsl⟩ := hSl k hk
  have hlay := hts _ (hin _ (u_in_lay hk))
  unfold u_lay at hlay
  rw [if_neg (by rw [hfin]; decide)] at hlay
  have hst := (u_facts hfc hkC (u_lays hts hin hk) hi).1
  have h6 := u_store hfc hkC hkind hlay hi hd hn hfit
  refine va_WputK CX.hx CX.hb (f := f) CX.ow (CX.nw hlink rfl rfl) (hsame.use hts _ hi) hst (by rw [q2]; exact h6) q1 q3 (by rw [hsl]; exact k2_hasslot (q4 k hk)) rfl rfl hdg fun H' e1 e2 e3 => ?_
  rw [hsl] at e1 ⊢
  exact kk H' _ ⟨_, hc, t_OB.to (V := updV (vp_V fs) k v) ⟨_, e1, q2, q3, b_set q4 hap v⟩ (fun j _ => vp_updV_set hl v j)⟩ ⟨e2, e3⟩ (b_Sput hS ⟨e2, e3⟩ ha)
/-- a final field, in its own class's constructor -/
theorem b_putF (CX : b_Cx p s m args c cc nL own G B0) {ref C : String} {T : u_T} {N ci index : Nat} (hin : ∀ w ∈ u_ws C T N, w ∈ lw_all) (ty0 : Nat → FieldType) (hty : ∀ k, k < N → parseFieldDescriptor (T k).2.2.1 = some (ty0 k)) (hc : b_cl[ci]? = some (C, T, N)) (k : Nat) (hk : k < N) (hnm : ∀ x, x < N → x ≠ k → (T x).2.1 ≠ (T k).2.1) (hlink : Cond.fieldLink own index ref (T k).2.1 (T k).2.2.1 ∈ lw_all) (hsame : b_same ref (T k).1 (T k).2.1 (T k).2.2.1) (hfin : (T k).2.2.2 = true) (hin2 : meth.name = "<init>") (hdecl : (T k).1 = own)
    {fs : List Value} (hP : b_at G a (.inr (ci, fs)) H) (hS : va_S (b_A B0) s.heap H locs) (ha : B0 ≤ a) {v : Value} (hn : narrow (ty0 k) v = v) (hfit : fits (ty0 k) v = true) (hl : k < fs.length) (hdg : decode cc pc = .ok (.putfield index, 3))
    (kk : ∀ (H1 : Heap) (locs1 : List Loc), b_at G a (.inr (ci, fs.set k v)) H1 → b_Up a H H1 → va_S (b_A B0) s.heap H1 locs1 → W p l e R s m args below meth c H1 locs1 cells slots Q (F0 m (pc + 3) ls rest)) : W p l e R s m args below meth c H locs cells slots Q (F0 m pc ls (v :: .ref a :: rest)) := by
  have hts := CX.ts
  have hd := hty k hk
  have hap := fun x (hx : x < N) (hne : x ≠ k) => b_apart CX hin ty0 hty hc hx hk (hnm x hx hne)
  obtain ⟨r, h1, cell, q1, q2, q3, q4⟩ := b_P hP 0 _ rfl
  have hr : r = (C, T, N) := Option.some.inj (h1.symm.trans hc)
  subst hr
  obtain ⟨hSl, hfc, kC, hkC, hkind⟩ := CX.K.1.1 ci _ hc
  obtain ⟨cf, kf, fi, f, hi, hsl⟩ := hSl k hk
  have hlay := hts _ (hin _ (u_in_lay hk))
  unfold u_lay at hlay
  rw [if_pos hfin] at hlay
  have hst := (u_facts hfc hkC (u_lays hts hin hk) hi).1
  have hcf : m.cls = cf := by
    obtain ⟨_, _, c', _, _, _, -, -, hf', -, -, -, hown2, -⟩ := Cond.laysFinal_spec hlay
    have e1 : c' = cf := by have := hi.symm.trans hf'; simp at this; exact this.1.symm
    rw [hdecl] at hown2
    rw [← e1]; exact Option.some.inj (CX.ow.symm.trans hown2)
  have h6 := u_fits hfc hkC hkind (Or.inr hlay) hi hd hn hfit
  refine W.putFinK CX.hx CX.hb CX.ow (hts _ hlink) (hsame.use hts _ hi) hst hcf hin2 (by rw [q2]; exact h6) q1 q3 (by rw [hsl]; exact k2_hasslot (q4 k hk)) rfl rfl hdg fun H' e1 e2 e3 => ?_
  rw [hsl] at e1 ⊢
  exact kk H' _ ⟨_, hc, t_OB.to (V := updV (vp_V fs) k v) ⟨_, e1, q2, q3, b_set q4 hap v⟩ (fun j _ => vp_updV_set hl v j)⟩ ⟨e2, e3⟩ (b_Sput hS ⟨e2, e3⟩ ha)
end BR
