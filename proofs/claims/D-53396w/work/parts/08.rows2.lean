/-! ===== b_: arrays, new cells, copies, statics ===== -/
set_option maxRecDepth 100000
section BR2
variable {p : Program} {l : Launch} {e : Env} {R : Room} {s : State} {m : MethodId} {args : Array Value} {below : List Frame} {meth : Method} {c : Code} {H : Heap} {locs : List Loc} {cells slots : Nat} {Q : State → Prop}
variable {cc : ByteArray} {pc nL : Nat} {own : String} {ls : Array Slot} {rest : List Value} {G : b_G} {B0 a : Nat}
theorem b_stI (cA : ClassId) (n k : Nat) (f : Nat → Int32) (x : Int32) : (vp_cell cA (n, .inl f)).setSlot k (.int x) = vp_cell cA (n, .inl (upd f k x)) := by
  rw [vp_cell_i, vp_cell_i, arrV_store]
  congr 1
  funext j
  by_cases hj : j = k <;> simp [updV, upd, hj]
theorem b_stL (cA : ClassId) (n k : Nat) (f : Nat → Int64) (x : Int64) : (vp_cell cA (n, .inr (.inl f))).setSlot k (.long x) = vp_cell cA (n, .inr (.inl (vp_updL f k x))) := by
  rw [vp_cell_l, vp_cell_l, arrV_store]
  congr 1
  funext j
  by_cases hj : j = k <;> simp [updV, vp_updL, hj]
theorem b_stQ (cA : ClassId) (n k : Nat) (f : Nat → Option Nat) (x : Option Nat) : (vp_cell cA (n, .inr (.inr (.inr (.inr f))))).setSlot k (va_rf x) = vp_cell cA (n, .inr (.inr (.inr (.inr (va_up f k x))))) := by
  rw [vp_cell_q, vp_cell_q, arrV_store]
  congr 1
  funext j
  by_cases hj : j = k <;> simp [updV, va_up, hj]
theorem b_cls {K : Nat} {t : ClassId × FieldType} {cA : ClassId} (hK : b_K G B0 s) (ht : (b_tys G)[K]? = some t) (hR : va_RA s t.1 t.2 → s.vm.findClass ("[" ++ t.2.toString) = some t.1) (hc : s.vm.findClass ("[" ++ t.2.toString) = some cA) : cA = t.1 :=
  Option.some.inj (hc.symm.trans (hR (hK.1.2 K t ht).2))
theorem b_alen (CX : b_Cx p s m args c cc nL own G B0) {x : vp_A} {cA : ClassId} {K : Nat} {ty : FieldType} (hP : b_at G a (.inl (cA, x)) H) (ht : (b_tys G)[K]? = some (cA, ty)) {v : Int32} (hv : nI x.1 = v) (hdg : decode cc pc = .ok (.arraylength, 1))
    (kk : W p l e R s m args below meth c H locs cells slots Q (F0 m (pc + 1) ls (.int v :: rest))) : W p l e R s m args below meth c H locs cells slots Q (F0 m pc ls (.ref a :: rest)) :=
  va_alen CX.hx CX.hb CX.K.1 (b_P hP) 0 K rfl ht hv hdg kk
theorem b_ild (CX : b_Cx p s m args c cc nL own G B0) {n : Nat} {f : Nat → Int32} (hP : b_at G a (.inl (G.2.1 0, n, .inl f)) H) {i : Int32} (hin : vp_in i n) {x : Int32} (hv : f i.toNatClampNeg = x) (hdg : decode cc pc = .ok (.iaload, 1))
    (kk : W p l e R s m args below meth c H locs cells slots Q (F0 m (pc + 1) ls (.int x :: rest))) : W p l e R s m args below meth c H locs cells slots Q (F0 m pc ls (.int i :: .ref a :: rest)) := by
  subst hv
  exact va_iald CX.hx CX.hb CX.K.1 (b_P hP) 0 0 rfl rfl hin hdg kk
theorem b_bld (CX : b_Cx p s m args c cc nL own G B0) {n : Nat} {f : Nat → Int32} (hP : b_at G a (.inl (G.2.1 1, n, .inl f)) H) {i : Int32} (hin : vp_in i n) {x : Int32} (hv : f i.toNatClampNeg = x) (hdg : decode cc pc = .ok (.baload, 1))
    (kk : W p l e R s m args below meth c H locs cells slots Q (F0 m (pc + 1) ls (.int x :: rest))) : W p l e R s m args below meth c H locs cells slots Q (F0 m pc ls (.int i :: .ref a :: rest)) := by
  subst hv
  exact va_bald CX.hx CX.hb CX.K.1 (b_P hP) 0 1 rfl rfl hin hdg kk
theorem b_lld (CX : b_Cx p s m args c cc nL own G B0) {n : Nat} {f : Nat → Int64} (hP : b_at G a (.inl (G.2.1 4, n, .inr (.inl f))) H) {i : Int32} (hin : vp_in i n) {x : Int64} (hv : f i.toNatClampNeg = x) (hdg : decode cc pc = .ok (.laload, 1))
    (kk : W p l e R s m args below meth c H locs cells slots Q (F0 m (pc + 1) ls (.long x :: rest))) : W p l e R s m args below meth c H locs cells slots Q (F0 m pc ls (.int i :: .ref a :: rest)) := by
  subst hv
  exact va_lald CX.hx CX.hb CX.K.1 (b_P hP) 0 4 rfl rfl hin hdg kk
theorem b_qld (CX : b_Cx p s m args c cc nL own G B0) {n : Nat} {f : Nat → Option Nat} (hP : b_at G a (.inl (G.2.1 2, n, .inr (.inr (.inr (.inr f))))) H) {i : Int32} (hin : vp_in i n) {x : Option Nat} (hv : f i.toNatClampNeg = x) (hdg : decode cc pc = .ok (.aaload, 1))
    (kk : W p l e R s m args below meth c H locs cells slots Q (F0 m (pc + 1) ls (va_rf x :: rest))) : W p l e R s m args below meth c H locs cells slots Q (F0 m pc ls (.int i :: .ref a :: rest)) := by
  subst hv
  exact va_aldq CX.hx CX.hb CX.K.1 (b_P hP) 0 2 rfl rfl hin hdg kk
theorem b_gld (CX : b_Cx p s m args c cc nL own G B0) {n : Nat} {f : Nat → Option Nat} (hP : b_at G a (.inl (G.2.1 3, n, .inr (.inr (.inr (.inr f))))) H) {i : Int32} (hin : vp_in i n) {x : Nat} (hv : f i.toNatClampNeg = some x) (hdg : decode cc pc = .ok (.aaload, 1))
    (kk : W p l e R s m args below meth c H locs cells slots Q (F0 m (pc + 1) ls (.ref x :: rest))) : W p l e R s m args below meth c H locs cells slots Q (F0 m pc ls (.int i :: .ref a :: rest)) := by
  have hlt : i.toNatClampNeg < n := Nat.not_le.mp fun q => hin (Or.inr q)
  exact W.aald (v := .ref x) (ty := .array .int) CX.hx CX.hb (b_P hP 0 _ rfl) ((CX.K.1.2 3 _ rfl).1 n (fun j => va_rf (f j))) rfl (fun q => by cases q) (by show ¬ (i < 0 ∨ (arrV _ _ _).slots.size ≤ _); rw [arrV_size]; exact hin) (by show (arrV _ _ _).slots[_]? = _; rw [arrV_read _ _ hlt, hv]; rfl) rfl rfl hdg kk
theorem b_ist (CX : b_Cx p s m args c cc nL own G B0) {n : Nat} {f : Nat → Int32} (hP : b_at G a (.inl (G.2.1 0, n, .inl f)) H) (hS : va_S (b_A B0) s.heap H locs) (ha : B0 ≤ a) {i x : Int32} (hin : vp_in i n) (hdg : decode cc pc = .ok (.iastore, 1))
    (kk : ∀ (H1 : Heap) (locs1 : List Loc), b_at G a (.inl (G.2.1 0, n, .inl (upd f i.toNatClampNeg x))) H1 → b_Up a H H1 → va_S (b_A B0) s.heap H1 locs1 → W p l e R s m args below meth c H1 locs1 cells slots Q (F0 m (pc + 1) ls rest)) : W p l e R s m args below meth c H locs cells slots Q (F0 m pc ls (.int x :: .int i :: .ref a :: rest)) := by
  refine W.iast CX.hx CX.hb (b_P hP 0 _ rfl) ((CX.K.1.2 0 _ rfl).1 n (fun j => .int (f j))) (fun q => by cases q) (by show ¬ (i < 0 ∨ (arrV _ _ _).slots.size ≤ _); rw [arrV_size]; exact hin) rfl rfl hdg fun H1 e z oq => ?_
  exact kk H1 _ (e.trans (congrArg some (b_stI _ _ _ _ _)) : H1[a]? = some _) ⟨z, oq⟩ (b_Sput hS ⟨z, oq⟩ ha)
theorem b_lst (CX : b_Cx p s m args c cc nL own G B0) {n : Nat} {f : Nat → Int64} (hP : b_at G a (.inl (G.2.1 4, n, .inr (.inl f))) H) (hS : va_S (b_A B0) s.heap H locs) (ha : B0 ≤ a) {i : Int32} {x : Int64} (hin : vp_in i n) (hdg : decode cc pc = .ok (.lastore, 1))
    (kk : ∀ (H1 : Heap) (locs1 : List Loc), b_at G a (.inl (G.2.1 4, n, .inr (.inl (vp_updL f i.toNatClampNeg x)))) H1 → b_Up a H H1 → va_S (b_A B0) s.heap H1 locs1 → W p l e R s m args below meth c H1 locs1 cells slots Q (F0 m (pc + 1) ls rest)) : W p l e R s m args below meth c H locs cells slots Q (F0 m pc ls (.long x :: .int i :: .ref a :: rest)) := by
  refine W.last CX.hx CX.hb (b_P hP 0 _ rfl) ((CX.K.1.2 4 _ rfl).1 n (fun j => .long (f j))) (fun q => by cases q) (by show ¬ (i < 0 ∨ (arrV _ _ _).slots.size ≤ _); rw [arrV_size]; exact hin) rfl rfl hdg fun H1 e z oq => ?_
  exact kk H1 _ (e.trans (congrArg some (b_stL _ _ _ _ _)) : H1[a]? = some _) ⟨z, oq⟩ (b_Sput hS ⟨z, oq⟩ ha)
/-- an object of class C put into an array of Objects -/
theorem b_qst (CX : b_Cx p s m args c cc nL own G B0) {n v : Nat} {C : String} {f : Nat → Option Nat} (hP : b_at G a (.inl (G.2.1 2, n, .inr (.inr (.inr (.inr f))))) H) (hS : va_S (b_A B0) s.heap H locs) (ha : B0 ≤ a) (hr : ∃ cellV : Cell, H[v]? = some cellV ∧ cellV.vm.isStatics = false ∧ s.vm.findClass C = some cellV.cls) (hC : va_Nw (.castable C "java/lang/Object") s) {i : Int32} (hin : vp_in i n) (hdg : decode cc pc = .ok (.aastore, 1))
    (kk : ∀ (H1 : Heap) (locs1 : List Loc), b_at G a (.inl (G.2.1 2, n, .inr (.inr (.inr (.inr (va_up f i.toNatClampNeg (some v))))))) H1 → b_Up a H H1 → va_S (b_A B0) s.heap H1 locs1 → W p l e R s m args below meth c H1 locs1 cells slots Q (F0 m (pc + 1) ls rest)) : W p l e R s m args below meth c H locs cells slots Q (F0 m pc ls (.ref v :: .int i :: .ref a :: rest)) := by
  have hlt : i.toNatClampNeg < n := Nat.not_le.mp fun q => hin (Or.inr q)
  have h0 : ¬ i < 0 := fun q => hin (Or.inl q)
  obtain ⟨cellV, g1, g3, g2⟩ := hr
  obtain ⟨kA, comp, k1, k2, k3, -⟩ := (CX.K.1.2 2 _ rfl).2
  obtain ⟨kE, hkE, -⟩ := Vm.findClass_spec k3
  obtain ⟨kC, hkC, -⟩ := Vm.findClass_spec g2
  refine W.aast CX.hx CX.hb (b_P hP 0 _ rfl) (fun q h => by cases h) (fun h => by cases h) k1 k2 rfl hkE ⟨h0, by show _ < (arrV _ _ _).slots.size; rw [arrV_size]; exact hlt⟩ g1 (fun q h => by rw [h] at g3; cases g3) hkC (vb_asgC hC _ _ k3 g2) rfl rfl hdg fun H1 e z oq => ?_
  exact kk H1 _ (e.trans (congrArg some (b_stQ _ _ _ _ (some v))) : H1[a]? = some _) ⟨z, oq⟩ (b_Sput hS ⟨z, oq⟩ ha)
theorem b_qstN (CX : b_Cx p s m args c cc nL own G B0) {n : Nat} {f : Nat → Option Nat} (hP : b_at G a (.inl (G.2.1 2, n, .inr (.inr (.inr (.inr f))))) H) (hS : va_S (b_A B0) s.heap H locs) (ha : B0 ≤ a) {i : Int32} (hin : vp_in i n) (hdg : decode cc pc = .ok (.aastore, 1))
    (kk : ∀ (H1 : Heap) (locs1 : List Loc), b_at G a (.inl (G.2.1 2, n, .inr (.inr (.inr (.inr (va_up f i.toNatClampNeg none)))))) H1 → b_Up a H H1 → va_S (b_A B0) s.heap H1 locs1 → W p l e R s m args below meth c H1 locs1 cells slots Q (F0 m (pc + 1) ls rest)) : W p l e R s m args below meth c H locs cells slots Q (F0 m pc ls (.null :: .int i :: .ref a :: rest)) := by
  refine va_WaastN (C := "java/lang/Object") CX.hx CX.hb (b_P hP 0 _ rfl) ((CX.K.1.2 2 _ rfl).1 n (fun j => va_rf (f j))) (fun h => by cases h) (by show ¬ (i < 0 ∨ (arrV _ _ _).slots.size ≤ _); rw [arrV_size]; exact hin) rfl rfl hdg fun H1 e z oq => ?_
  exact kk H1 _ (e.trans (congrArg some (b_stQ _ _ _ _ none)) : H1[a]? = some _) ⟨z, oq⟩ (b_Sput hS ⟨z, oq⟩ ha)
theorem b_Snew {H0 H1 : Heap} (hS : va_S (b_A B0) H0 H locs) (hu : b_Ext H H1) : va_S (b_A B0) H0 H1 locs :=
  ⟨Nat.le_trans hS.1 hu.1, fun x h1 h2 => (hu.2 x (Nat.lt_of_lt_of_le h1 hS.1)).trans (hS.2.1 x h1 h2), hS.2.2⟩
/-- a new object -/
theorem b_new (CX : b_Cx p s m args c cc nL own G B0) {C : String} {T : u_T} {N ci index : Nat} (hin : ∀ w ∈ u_ws C T N, w ∈ lw_all) (ty : Nat → FieldType) (hty : ∀ k, k < N → parseFieldDescriptor (T k).2.2.1 = some (ty k)) (hc : b_cl[ci]? = some (C, T, N)) (hcl : Cond.classLink own index C ∈ lw_all) (hinst : Cond.instantiable C N ∈ lw_all) (hini : Cond.initialized C ∈ lw_all)
    {fs : List Value} (hfs : ∀ j, j < N → defaultValue (ty j) = vp_V fs j) (hS : va_S (b_A B0) s.heap H locs) (hcells : cells + 1 ≤ R.cells) (hslots : slots + N ≤ R.slots) (hdg : decode cc pc = .ok (.new index, 3))
    (kk : ∀ (q : Nat) (H1 : Heap), q = H.size → B0 ≤ q → b_at G q (.inr (ci, fs)) H1 → H1.size = q + 1 → b_Ext H H1 → va_S (b_A B0) s.heap H1 locs → W p l e R s m args below meth c H1 locs (cells + 1) (slots + N) Q (F0 m (pc + 3) ls (.ref q :: rest))) : W p l e R s m args below meth c H locs cells slots Q (F0 m pc ls rest) := by
  have hKn := CX.K.1.1 ci _ hc
  refine W.newcK CX.hx CX.hb CX.ow (CX.ts _ hcl) (CX.ts _ hinst) (CX.ts _ hini) rfl hdg hcells hslots hKn.2.1 rfl fun H1 kC hkC e1 z1 o1 => ?_
  have hE : b_Ext H H1 := ⟨by omega, o1⟩
  exact kk H.size H1 rfl (Nat.le_trans CX.K.2.2.2.1 hS.1) ⟨_, hc, (u_born ty CX.ts hin hKn hkC e1 hty).to hfs⟩ z1 hE (b_Snew hS hE)
/-- a new array of a primitive type -/
theorem b_newa (CX : b_Cx p s m args c cc nL own G B0) {atype : ArrayType} {ty : FieldType} (hty : newarray.typeOf atype = ty) (hw : Cond.arrayClass ty ∈ lw_all) {K : Nat} {cA : ClassId} (hK : (b_tys G)[K]? = some (cA, ty)) (hRA : va_RA s cA ty → s.vm.findClass ("[" ++ ty.toString) = some cA)
    {n : Int32} {N' : Nat} {a0 : vp_A} (ha : vp_cell cA a0 = arrV cA N' (fun _ => defaultValue ty)) (hn : ¬ n < 0) (hN : n.toNatClampNeg = N') (hbytes : N' * componentBytes ty ≤ 536870912) (hS : va_S (b_A B0) s.heap H locs) (hcells : cells + 1 ≤ R.cells) (hslots : slots + N' ≤ R.slots) (hdg : decode cc pc = .ok (.newarray atype, 2))
    (kk : ∀ (q : Nat) (H1 : Heap), q = H.size → B0 ≤ q → b_at G q (.inl (cA, a0)) H1 → H1.size = q + 1 → b_Ext H H1 → va_S (b_A B0) s.heap H1 locs → W p l e R s m args below meth c H1 locs (cells + 1) (slots + N') Q (F0 m (pc + 2) ls (.ref q :: rest))) : W p l e R s m args below meth c H locs cells slots Q (F0 m pc ls (.int n :: rest)) := by
  subst hty
  refine va_newaK CX.hx CX.hb (CX.ts _ hw) rfl hdg rfl hn hN hbytes hcells hslots rfl fun H1 cA' e1 z1 o1 hAr hNm => ?_
  have hE : b_Ext H H1 := ⟨by omega, o1⟩
  have hcA : cA' = cA := Option.some.inj (hNm.symm.trans (hRA (CX.K.1.2 K _ hK).2))
  subst hcA
  exact kk H.size H1 rfl (Nat.le_trans CX.K.2.2.2.1 hS.1) (show H1[H.size]? = some (vp_cell cA' a0) by rw [ha]; exact e1) z1 hE (b_Snew hS hE)
/-- a new array of Objects -/
theorem b_newq (CX : b_Cx p s m args c cc nL own G B0) {index : Nat} (hclink : Cond.classLink own index "java/lang/Object" ∈ lw_all)
    {n : Int32} {N' : Nat} (hn : ¬ n < 0) (hN : n.toNatClampNeg = N') (hbytes : N' * 4 ≤ 536870912) (hS : va_S (b_A B0) s.heap H locs) (hcells : cells + 1 ≤ R.cells) (hslots : slots + N' ≤ R.slots) (hdg : decode cc pc = .ok (.anewarray index, 3))
    (kk : ∀ (q : Nat) (H1 : Heap), q = H.size → B0 ≤ q → b_at G q (.inl (G.2.1 2, N', .inr (.inr (.inr (.inr (fun _ => none)))))) H1 → H1.size = q + 1 → b_Ext H H1 → va_S (b_A B0) s.heap H1 locs → W p l e R s m args below meth c H1 locs (cells + 1) (slots + N') Q (F0 m (pc + 3) ls (.ref q :: rest))) : W p l e R s m args below meth c H locs cells slots Q (F0 m pc ls (.int n :: rest)) := by
  subst hN
  refine W.anew CX.hx CX.hb CX.ow (CX.ts _ hclink) (va_AO.use (A := args) CX.K.2.2.2.2.2.1) rfl hdg rfl hn hbytes hcells hslots fun cA kA comp f1 f2 f3 f4 => ?_
  generalize hH1 : H.push ({ cls := cA, slots := Array.replicate n.toNatClampNeg .null, vm := .none } : Cell) = H1
  have z1 : H1.size = H.size + 1 := by rw [← hH1, Array.size_push]
  have e1 : H1[H.size]? = some (arrV cA n.toNatClampNeg (fun _ => .null)) := by rw [← hH1, Array.getElem?_push_size, ← arrV_new]
  have o1 : ∀ q : Nat, q < H.size → H1[q]? = H[q]? := fun q hq => by rw [← hH1, Array.getElem?_push, if_neg (Nat.ne_of_lt hq)]
  have hE : b_Ext H H1 := ⟨by omega, o1⟩
  obtain ⟨-, -, -, -, -, k4⟩ := (CX.K.1.2 2 _ rfl).2
  cases f1.symm.trans k4
  exact kk H.size H1 rfl (Nat.le_trans CX.K.2.2.2.1 hS.1) (show H1[H.size]? = some (vp_cell _ _) from e1) z1 hE (b_Snew hS hE)
theorem b_outer (cA : ClassId) (N h0 : Nat) : ∀ i, Jvm.Free.Multi.outerC cA N h0 i = arrV cA N (fun j => if j < i then .ref (h0 + 1 + j) else .null)
  | 0 => by
    show ({ cls := cA, slots := Array.replicate N .null, vm := .none } : Cell) = _
    rw [arrV_new]
    congr 1
  | i + 1 => by
    show (Jvm.Free.Multi.outerC cA N h0 i).setSlot i _ = _
    rw [b_outer cA N h0 i, arrV_store]
    congr 1
    funext j
    by_cases h : j = i
    · subst h; simp [updV]
    · by_cases h2 : j < i
      · simp [updV, h, h2, Nat.lt_succ_of_lt h2]
      · simp [updV, h, h2, show ¬ j < i + 1 by omega]
/-- new int[n][k] -/
theorem b_multi (CX : b_Cx p s m args c cc nL own G B0) {index : Nat} (hclink : Cond.classLink own index "[[I" ∈ lw_all) (hover : Cond.arrayOver (.array .int) ∈ lw_tbl) (hov : (Cond.arrayOver (.array .int)).before args s = true) (hw : Cond.arrayClass .int ∈ lw_all)
    {n k : Int32} {N M : Nat} (hn : ¬ n < 0) (hk : ¬ k < 0) (hN : n.toNatClampNeg = N) (hM : k.toNatClampNeg = M) (hb1 : N * 4 ≤ 536870912) (hb2 : M * 4 ≤ 536870912) (hS : va_S (b_A B0) s.heap H locs) (hcells : cells + (1 + N) ≤ R.cells) (hslots : slots + (N + N * M) ≤ R.slots) (hdg : decode cc pc = .ok (.multianewarray index 2, 4))
    (kk : ∀ (q : Nat) (H1 : Heap), q = H.size → B0 ≤ q → b_at G q (.inl (G.2.1 3, N, .inr (.inr (.inr (.inr (fun j => if j < N then some (q + 1 + j) else none)))))) H1 → (∀ j, j < N → b_at G (q + 1 + j) (.inl (G.2.1 0, M, .inl (fun _ => 0))) H1) → H1.size = q + 1 + N → b_Ext H H1 → va_S (b_A B0) s.heap H1 locs → W p l e R s m args below meth c H1 locs (cells + 1 + N) (slots + N + N * M) Q (F0 m (pc + 4) ls (.ref q :: rest))) : W p l e R s m args below meth c H locs cells slots Q (F0 m pc ls (.int k :: .int n :: rest)) := by
  subst hN; subst hM
  intro T hT X
  subst hT
  obtain ⟨vm₁, cA, comp, hW1, hfA, hfC, -, -, X1, step⟩ := X.multianewarray2F CX.hx (own := own) (index := index) (ty := .int) CX.ow (CX.ts _ hclink) hov (CX.ts _ hw)
    (g := F0 m pc ls (.int k :: .int n :: rest)) rfl (by rw [CX.hb]; exact hdg) (n := n) (k := k) (rest := rest) rfl hn hk hb1 hb2 (by omega) rfl rfl hcells hslots
  obtain ⟨f1, f2, f3, f4⟩ := Jvm.Free.Multi.fill_facts (T.setVm vm₁) cA comp n.toNatClampNeg k.toNatClampNeg (defaultValue .int) n.toNatClampNeg
  have hA : s.vm.findClass ("[" ++ (FieldType.array FieldType.int).toString) = some (G.2.1 3) := (CX.K.1.2 3 _ rfl).2
  have hC : s.vm.findClass ("[" ++ FieldType.int.toString) = some (G.2.1 0) := (CX.K.1.2 0 _ rfl).2
  have eA : cA = G.2.1 3 := Option.some.inj (hfA.symm.trans hA)
  have eC : comp = G.2.1 0 := Option.some.inj (hfC.symm.trans hC)
  subst eA; subst eC
  have hE : b_Ext T.heap (Jvm.Free.Multi.fill (T.setVm vm₁) (G.2.1 3) (G.2.1 0) n.toNatClampNeg k.toNatClampNeg (defaultValue .int) n.toNatClampNeg).heap := ⟨by rw [f1]; show T.heap.size ≤ T.heap.size + 1 + _; omega, fun q hq => Jvm.Free.Multi.fill_old (T.setVm vm₁) _ _ _ _ _ hq _⟩
  obtain ⟨t, a1, b1⟩ := kk T.heap.size _ rfl (Nat.le_trans CX.K.2.2.2.1 hS.1)
    (by
      show _ = some (vp_cell _ _)
      refine f2.trans ?_
      rw [b_outer, vp_cell_q]
      congr 2
      funext j
      show (if j < _ then Value.ref (T.heap.size + 1 + j) else .null) = va_rf (if j < _ then some (T.heap.size + 1 + j) else none)
      split <;> rfl)
    (fun j hj => by
      show _ = some (vp_cell _ _)
      refine (Jvm.Free.Multi.fill_inner (T.setVm vm₁) (G.2.1 3) (G.2.1 0) n.toNatClampNeg k.toNatClampNeg (defaultValue .int) n.toNatClampNeg j hj).trans ?_
      rw [vp_cell_i]
      exact congrArg some (arrV_new (G.2.1 0) k.toNatClampNeg (.int 0)))
    f1 hE (b_Snew hS hE) _ rfl X1
  exact ⟨t, step t a1, b1⟩
theorem b_nn (z : Int32) (hz : ¬ z < 0) : z.toInt = (z.toNatClampNeg : Int) := by
  have hz0 : (0 : Int) ≤ z.toInt := by
    have := Int32.not_lt.mp hz
    simpa using Int32.le_iff_toInt_le.mp this
  show z.toInt = ((z.toInt.toNat : Nat) : Int)
  omega
theorem b_Scopy {H0 H1 : Heap} {L : List Loc} (hS : va_S (b_A B0) H0 H locs) (hu : b_Up a H H1) (ha : B0 ≤ a) (hL : ∀ q ∈ L, q.base = a) : va_S (b_A B0) H0 H1 (locs ++ L) := by
  refine ⟨by rw [hu.1]; exact hS.1, fun q h1 h2 => ?_, fun q hq => ?_⟩
  · rw [hu.2 q (fun e => h2 (by rw [e]; exact ha))]
    exact hS.2.1 q h1 h2
  · rcases List.mem_append.mp hq with h | h
    · exact hS.2.2 q h
    · rw [hL q h]; exact ha
/-- System.arraycopy of ints -/
theorem b_copyi (CX : b_Cx p s m args c cc nL own G B0) (hls : ls.size = nL) {index : Nat} (hlink : Cond.methodLink own index arraycopyName ∈ lw_all) (hnat : Cond.native arraycopyName ∈ lw_all) (hstat : Cond.static arraycopyName ∈ lw_all) (hini : Cond.initialized "java/lang/System" ∈ lw_all)
    {a0 n0 n1 : Nat} {f g : Nat → Int32} (h0 : b_at G a0 (.inl (G.2.1 0, n0, .inl f)) H) (h1 : b_at G a (.inl (G.2.1 0, n1, .inl g)) H) (hS : va_S (b_A B0) s.heap H locs) (ha : B0 ≤ a)
    {sp dp n : Int32} (k1 : ¬ sp < 0) (k2 : ¬ dp < 0) (k3 : ¬ n < 0) (k4 : sp.toNatClampNeg + n.toNatClampNeg ≤ n0) (k5 : dp.toNatClampNeg + n.toNatClampNeg ≤ n1)
    (hframes : 1 ≤ R.frames) (hlocals : (rest.map fun v => v.category).sum + (nativeFrameWords "java/lang/System" "arraycopy" 5 + 11) ≤ R.locals) (hdg : decode cc pc = .ok (.invokestatic index, 3))
    (kk : ∀ (H1 : Heap) (locs1 : List Loc), b_at G a (.inl (G.2.1 0, n1, .inl (va_cpy f g sp.toNatClampNeg dp.toNatClampNeg n.toNatClampNeg))) H1 → b_Up a H H1 → va_S (b_A B0) s.heap H1 locs1 → W p l e R s m args below meth c H1 locs1 cells slots Q (F0 m (pc + 3) ls rest)) : W p l e R s m args below meth c H locs cells slots Q (F0 m pc ls (.int n :: .int dp :: .ref a :: .int sp :: .ref a0 :: rest)) := by
  intro T hT X
  subst hT
  have hc0 : T.heap[a0]? = some (arrV (G.2.1 0) n0 (fun j => .int (f j))) := b_P h0 0 _ rfl
  have hc1 : T.heap[a]? = some (arrV (G.2.1 0) n1 (fun j => .int (g j))) := b_P h1 0 _ rfl
  obtain ⟨-, ks, hks, cm0, hkk⟩ := (CX.K.1.2 0 _ rfl).1 n0 (fun j => .int (f j))
  obtain ⟨vm', X', step⟩ := X.arraycopy CX.hx CX.ow (CX.ts _ hlink) (CX.ts _ hnat) (CX.ts _ hstat) (CX.ts _ hini) (src := a0) (dst := a) (srcPos := sp) (destPos := dp) (n := n) hc0 hc1
    (fun _ h => by cases h) (fun _ h => by cases h) (fun h => by cases h) (fun h => by cases h) hks hks hkk hkk rfl k1 k2 k3
    (by rw [b_nn sp k1, b_nn n k3, arrV_size]; omega) (by rw [b_nn dp k2, b_nn n k3, arrV_size]; omega)
    (fun vm₁ _ i hi => by
      rw [Array.getD_eq_getD_getElem?, arrV_read _ _ (by omega)]
      exact ⟨rfl, trivial⟩)
    (g := F0 m pc ls (.int n :: .int dp :: .ref a :: .int sp :: .ref a0 :: rest)) rfl (hls.trans CX.ml.symm) (rest := rest) rfl (by rw [CX.hb]; exact hdg) hframes (by show 2 * 0 + _ + _ ≤ _; omega)
  have e1 : copied (arrV (G.2.1 0) n0 (fun j => .int (f j))) (arrV (G.2.1 0) n1 (fun j => .int (g j))) sp dp n = arrV (G.2.1 0) n1 (fun j => .int (va_cpy f g sp.toNatClampNeg dp.toNatClampNeg n.toNatClampNeg j)) := va_copied (fun z => .int z) _ _ f g k4
  rw [e1] at X' step
  have hl : a < T.heap.size := (Array.getElem?_eq_some_iff.mp hc1).1
  have hu : b_Up a T.heap ((T.setVm vm').setCell a (arrV (G.2.1 0) n1 (fun j => .int (va_cpy f g sp.toNatClampNeg dp.toNatClampNeg n.toNatClampNeg j)))).heap := ⟨size_setCell _ _ _, fun q hq => heapAt_setCell_ne _ (Ne.symm hq)⟩
  obtain ⟨t, a1, b1⟩ := kk _ _ (heapAt_setCell_self (s := T.setVm vm') _ hl) hu (b_Scopy hS hu ha (fun q hq => by
      obtain ⟨z, -, hz⟩ := List.mem_map.mp hq
      rw [← hz])) _ rfl X'
  exact ⟨t, step t a1, b1⟩
/-- System.arraycopy of references, all of one class -/
theorem b_copyq (CX : b_Cx p s m args c cc nL own G B0) (hls : ls.size = nL) {index : Nat} (hlink : Cond.methodLink own index arraycopyName ∈ lw_all) (hnat : Cond.native arraycopyName ∈ lw_all) (hstat : Cond.static arraycopyName ∈ lw_all) (hini : Cond.initialized "java/lang/System" ∈ lw_all)
    {a0 n0 n1 : Nat} {f g : Nat → Option Nat} {C : String} (h0 : b_at G a0 (.inl (G.2.1 2, n0, .inr (.inr (.inr (.inr f))))) H) (h1 : b_at G a (.inl (G.2.1 2, n1, .inr (.inr (.inr (.inr g))))) H) (hS : va_S (b_A B0) s.heap H locs) (ha : B0 ≤ a)
    {sp dp n : Int32} (k1 : ¬ sp < 0) (k2 : ¬ dp < 0) (k3 : ¬ n < 0) (k4 : sp.toNatClampNeg + n.toNatClampNeg ≤ n0) (k5 : dp.toNatClampNeg + n.toNatClampNeg ≤ n1)
    (hel : ∀ i : Nat, i < n.toNatClampNeg → ∀ y : Nat, f (sp.toNatClampNeg + i) = some y → ∃ cellV : Cell, H[y]? = some cellV ∧ cellV.vm.isStatics = false ∧ s.vm.findClass C = some cellV.cls) (hC : va_Nw (.castable C "java/lang/Object") s)
    (hframes : 1 ≤ R.frames) (hlocals : (rest.map fun v => v.category).sum + (nativeFrameWords "java/lang/System" "arraycopy" 5 + 11) ≤ R.locals) (hdg : decode cc pc = .ok (.invokestatic index, 3))
    (kk : ∀ (H1 : Heap) (locs1 : List Loc), b_at G a (.inl (G.2.1 2, n1, .inr (.inr (.inr (.inr (va_cpy f g sp.toNatClampNeg dp.toNatClampNeg n.toNatClampNeg)))))) H1 → b_Up a H H1 → va_S (b_A B0) s.heap H1 locs1 → W p l e R s m args below meth c H1 locs1 cells slots Q (F0 m (pc + 3) ls rest)) : W p l e R s m args below meth c H locs cells slots Q (F0 m pc ls (.int n :: .int dp :: .ref a :: .int sp :: .ref a0 :: rest)) := by
  intro T hT X
  subst hT
  have hc0 : T.heap[a0]? = some (arrV (G.2.1 2) n0 (fun j => va_rf (f j))) := b_P h0 0 _ rfl
  have hc1 : T.heap[a]? = some (arrV (G.2.1 2) n1 (fun j => va_rf (g j))) := b_P h1 0 _ rfl
  obtain ⟨kA, comp, r1, r2, r3, -⟩ := (CX.K.1.2 2 _ rfl).2
  obtain ⟨vm', X', step⟩ := X.arraycopy CX.hx CX.ow (CX.ts _ hlink) (CX.ts _ hnat) (CX.ts _ hstat) (CX.ts _ hini) (src := a0) (dst := a) (srcPos := sp) (destPos := dp) (n := n) hc0 hc1
    (fun _ h => by cases h) (fun _ h => by cases h) (fun h => by cases h) (fun h => by cases h) r1 r1 r2 r2 rfl k1 k2 k3
    (by rw [b_nn sp k1, b_nn n k3, arrV_size]; omega) (by rw [b_nn dp k2, b_nn n k3, arrV_size]; omega)
    (fun vm₁ hal i hi => by
      rw [Array.getD_eq_getD_getElem?, arrV_read _ _ (by omega)]
      show fits _ (va_rf (f (sp.toNatClampNeg + i))) = true ∧ (T.setVm vm₁).takes comp (va_rf (f (sp.toNatClampNeg + i)))
      cases hy : f (sp.toNatClampNeg + i) with
      | none => exact ⟨rfl, trivial⟩
      | some y =>
        obtain ⟨cellV, g1, g2, g3⟩ := hel i hi y hy
        obtain ⟨kC, hkC, -⟩ := Vm.findClass_spec g3
        obtain ⟨kE, hkE, -⟩ := Vm.findClass_spec r3
        obtain ⟨kC', hkC', -⟩ := hal.2.2 _ _ hkC
        obtain ⟨kE', hkE', -⟩ := hal.2.2 _ _ hkE
        refine ⟨rfl, cellV, g1, (fun q h => by rw [h] at g2; cases g2), ⟨kC', hkC'⟩, ⟨kE', hkE'⟩, ?_⟩
        show vm₁.assignable _ _ = true
        rw [hal.assignable]
        exact vb_asgC hC _ _ r3 g3)
    (g := F0 m pc ls (.int n :: .int dp :: .ref a :: .int sp :: .ref a0 :: rest)) rfl (hls.trans CX.ml.symm) (rest := rest) rfl (by rw [CX.hb]; exact hdg) hframes (by show 2 * 0 + _ + _ ≤ _; omega)
  have e1 : copied (arrV (G.2.1 2) n0 (fun j => va_rf (f j))) (arrV (G.2.1 2) n1 (fun j => va_rf (g j))) sp dp n = arrV (G.2.1 2) n1 (fun j => va_rf (va_cpy f g sp.toNatClampNeg dp.toNatClampNeg n.toNatClampNeg j)) := va_copied (fun z => va_rf z) _ _ f g k4
  rw [e1] at X' step
  have hl : a < T.heap.size := (Array.getElem?_eq_some_iff.mp hc1).1
  have hu : b_Up a T.heap ((T.setVm vm').setCell a (arrV (G.2.1 2) n1 (fun j => va_rf (va_cpy f g sp.toNatClampNeg dp.toNatClampNeg n.toNatClampNeg j)))).heap := ⟨size_setCell _ _ _, fun q hq => heapAt_setCell_ne _ (Ne.symm hq)⟩
  obtain ⟨t, a1, b1⟩ := kk _ _ (heapAt_setCell_self (s := T.setVm vm') _ hl) hu (b_Scopy hS hu ha (fun q hq => by
      obtain ⟨z, -, hz⟩ := List.mem_map.mp hq
      rw [← hz])) _ rfl X'
  exact ⟨t, step t a1, b1⟩
/-- a static's value -/
theorem b_gets (CX : b_Cx p s m args c cc nL own G B0) {C n d : String} {v : Value} {index : Nat} (hZ : va_Z C n d v (b_A B0) s s.heap) (hS : va_S (b_A B0) s.heap H locs) (hlink : Cond.fieldLink own index C n d ∈ lw_all) (hdg : decode cc pc = .ok (.getstatic index, 3))
    (kk : W p l e R s m args below meth c H locs cells slots Q (F0 m (pc + 3) ls (v :: rest))) : W p l e R s m args below meth c H locs cells slots Q (F0 m pc ls rest) :=
  va_gets CX.hx CX.hb hZ hS CX.ow (CX.ts _ hlink) (fun _ h => h) hdg kk
theorem b_recv (hK : b_K G B0 s) {ci : Nat} {q : vw_C} {fs : List Value} (hc : b_cl[ci]? = some q) (h : b_at G a (.inr (ci, fs)) H) : ∃ cell : Cell, H[a]? = some cell ∧ cell.vm.isStatics = false ∧ s.vm.findClass q.1 = some cell.cls := va_recv hK.1 (b_P h) hc (q0 := 0) rfl
/-- checkcast to the object's own class -/
theorem b_cast (CX : b_Cx p s m args c cc nL own G B0) {index ci : Nat} {q : vw_C} {fs : List Value} (hc : b_cl[ci]? = some q) (h : b_at G a (.inr (ci, fs)) H) (hlink : Cond.classLink own index q.1 ∈ lw_all) (hdg : decode cc pc = .ok (.checkcast index, 3))
    (k : W p l e R s m args below meth c H locs cells slots Q (F0 m (pc + 3) ls (.ref a :: rest))) : W p l e R s m args below meth c H locs cells slots Q (F0 m pc ls (.ref a :: rest)) :=
  va_castS CX.hx CX.hb CX.ow (CX.ts _ hlink) (CX.K.1.1 ci q hc).2 (b_recv CX.K hc h) hdg k
end BR2
