/-! ===== what is thrown: rows, the shortages, what is saved ===== -/
set_option maxRecDepth 100000
/-- nobody holds the object's monitor -/
def b_fm (H : Heap) (a : Nat) : Prop := ∃ cell : Cell, H[a]? = some cell ∧ cell.monitor.owner = none ∧ cell.monitor.count = 0
theorem b_fm.ext {H H1 : Heap} {a : Nat} (h : b_fm H a) (hE : b_Ext H H1) : b_fm H1 a := by
  obtain ⟨c, h1, h2, h3⟩ := h
  exact ⟨c, (hE.2 a (Array.getElem?_eq_some_iff.mp h1).1).trans h1, h2, h3⟩
section BRX
variable {p : Program} {l : Launch} {e : Env} {R : Room} {s : State} {m : MethodId} {args : Array Value} {below : List Frame} {meth : Method} {c : Code} {H : Heap} {locs : List Loc} {cells slots : Nat} {Q : State → Prop}
variable {cc : ByteArray} {pc nL : Nat} {own : String} {ls : Array Slot} {rest : List Value} {G : b_G} {B0 a : Nat} {px : String → Nat → Heap → Prop}
/-- a thrown object at this frame: the class by name, its cell -/
def b_th (s : State) (H : Heap) (E : String) (q : Nat) : Prop := ∃ ce : Cell, H[q]? = some ce ∧ ce.vm = .none ∧ s.vm.findClass E = some ce.cls
theorem b_xi {post : Int32 → Heap → Prop} {mc ms : Nat} {st0 : List Value} {a0 : Array Value} (hr : vx_Run p l e R s m args below meth c H locs cells slots mc ms (F0 m pc ls st0) rest (b_Qi B0 post a0) (b_X B0 px) (b_A B0)) (hS : va_S (b_A B0) s.heap H locs)
    (kx : ∀ (E : String) (q9 : Nat) (H1 : Heap) (locs1 : List Loc), px E q9 H1 → va_S (b_A B0) s.heap H1 locs1 → b_th s H1 E q9 → vx_W p l e R s m args below meth c H1 locs1 (cells + mc) (slots + ms) Q (F0 m pc ls rest) q9)
    (kk : ∀ (r : Int32) (H1 : Heap) (locs1 : List Loc), post r H1 → va_S (b_A B0) s.heap H1 locs1 → W p l e R s m args below meth c H1 locs1 (cells + mc) (slots + ms) Q (F0 m (pc + 3) ls (.int r :: rest))) : W p l e R s m args below meth c H locs cells slots Q (F0 m pc ls st0) :=
  vx_calli hr hS (fun _ _ h => h) (fun _ h => h) (fun _ _ h => h) (fun E ce q9 u t H1 locs1 ht _ _ hb _ _ hS1 h1 h2 h3 => by
    obtain rfl : H1 = u := ht.symm.trans hb.1
    exact kx E q9 H1 locs1 hb.2 hS1 ⟨ce, h1, h2, h3⟩) (fun r u t H1 locs1 ht _ hp hb _ _ hS1 => by
    obtain rfl : H1 = u := ht.symm.trans hb
    exact kk r H1 locs1 hp hS1)
theorem b_xv {post : Heap → Prop} {mc ms : Nat} {st0 : List Value} {a0 : Array Value} (hr : vx_Run p l e R s m args below meth c H locs cells slots mc ms (F0 m pc ls st0) rest (b_Qv B0 post a0) (b_X B0 px) (b_A B0)) (hS : va_S (b_A B0) s.heap H locs)
    (kx : ∀ (E : String) (q9 : Nat) (H1 : Heap) (locs1 : List Loc), px E q9 H1 → va_S (b_A B0) s.heap H1 locs1 → b_th s H1 E q9 → vx_W p l e R s m args below meth c H1 locs1 (cells + mc) (slots + ms) Q (F0 m pc ls rest) q9)
    (kk : ∀ (H1 : Heap) (locs1 : List Loc), post H1 → va_S (b_A B0) s.heap H1 locs1 → W p l e R s m args below meth c H1 locs1 (cells + mc) (slots + ms) Q (F0 m (pc + 3) ls rest)) : W p l e R s m args below meth c H locs cells slots Q (F0 m pc ls st0) :=
  vx_callv hr hS (fun _ _ h => h) (fun _ h => h) (fun _ _ h => h) (fun E ce q9 u t H1 locs1 ht _ _ hb _ _ hS1 h1 h2 h3 => by
    obtain rfl : H1 = u := ht.symm.trans hb.1
    exact kx E q9 H1 locs1 hb.2 hS1 ⟨ce, h1, h2, h3⟩) (fun u t H1 locs1 ht _ hp hb _ _ hS1 => by
    obtain rfl : H1 = u := ht.symm.trans hb
    exact kk H1 locs1 hp hS1)
/-- .. of callees that only read when they return -/
theorem b_xi0 {P : Prop} {v : Int32} {mc ms : Nat} {st0 : List Value} {a0 : Array Value} (hr : vx_Run p l e R s m args below meth c H locs cells slots mc ms (F0 m pc ls st0) rest (b_Qi B0 (fun r H1 => P ∧ r = v ∧ H1 = H) a0) (b_X B0 px) (b_A B0)) (hS : va_S (b_A B0) s.heap H locs)
    (kx : ∀ (E : String) (q9 : Nat) (H1 : Heap) (locs1 : List Loc), px E q9 H1 → va_S (b_A B0) s.heap H1 locs1 → b_th s H1 E q9 → vx_W p l e R s m args below meth c H1 locs1 (cells + mc) (slots + ms) Q (F0 m pc ls rest) q9)
    (kk : P → ∀ locs1 : List Loc, va_S (b_A B0) s.heap H locs1 → W p l e R s m args below meth c H locs1 (cells + mc) (slots + ms) Q (F0 m (pc + 3) ls (.int v :: rest))) : W p l e R s m args below meth c H locs cells slots Q (F0 m pc ls st0) :=
  b_xi hr hS kx (fun r H1 locs1 hp hS1 => by
    obtain ⟨hP, rfl, rfl⟩ := hp
    exact kk hP locs1 hS1)
theorem b_xv0 {P : Prop} {mc ms : Nat} {st0 : List Value} {a0 : Array Value} (hr : vx_Run p l e R s m args below meth c H locs cells slots mc ms (F0 m pc ls st0) rest (b_Qv B0 (fun H1 => P ∧ H1 = H) a0) (b_X B0 px) (b_A B0)) (hS : va_S (b_A B0) s.heap H locs)
    (kx : ∀ (E : String) (q9 : Nat) (H1 : Heap) (locs1 : List Loc), px E q9 H1 → va_S (b_A B0) s.heap H1 locs1 → b_th s H1 E q9 → vx_W p l e R s m args below meth c H1 locs1 (cells + mc) (slots + ms) Q (F0 m pc ls rest) q9)
    (kk : P → ∀ locs1 : List Loc, va_S (b_A B0) s.heap H locs1 → W p l e R s m args below meth c H locs1 (cells + mc) (slots + ms) Q (F0 m (pc + 3) ls rest)) : W p l e R s m args below meth c H locs cells slots Q (F0 m pc ls st0) :=
  b_xv hr hS kx (fun H1 locs1 hp hS1 => by
    obtain ⟨hP, rfl⟩ := hp
    exact kk hP locs1 hS1)
/-- out of a method without a table -/
theorem b_xout {mc ms : Nat} {Qc : Array Value → State → Outcome → State → Prop} {E : String} {q : Nat} (ht : ∀ x ∈ c.exceptionTable.toList, False) (hlk : meth.locks = false) (he : b_th s H E q) (hS : va_S (b_A B0) s.heap H locs) (hc : cells ≤ mc) (hs : slots ≤ ms) (hp : px E q H) :
    vx_W p l e R s m args below meth c H locs cells slots (vx_MQ below Qc (b_X B0 px) args s mc ms (b_A B0)) (F0 m pc ls rest) q := by
  obtain ⟨ce, h1, h2, h3⟩ := he
  exact vx_out (fun x hx => (ht x hx).elim) hlk h1 h2 h3 (fun t ht' _ => ⟨H, trivial, ⟨ht', hp⟩, va_S.F hS ht'⟩) hS.2.2 hc hs
theorem b_xwid {q k n : Nat} (h1 : cells ≤ k) (h2 : slots ≤ n) (kk : vx_W p l e R s m args below meth c H locs k n Q (F0 m pc ls rest) q) : vx_W p l e R s m args below meth c H locs cells slots Q (F0 m pc ls rest) q := vx_widen h1 h2 kk
/-- caught by the first row of the table that covers, or by a later one -/
theorem b_xcatch (CX : b_Cx p s m args c cc nL own G B0) {E name : String} {q : Nat} (pre : List ExceptionTableEntry) (x : ExceptionTableEntry) (suf : List ExceptionTableEntry) (hsplit : c.exceptionTable.toList = pre ++ x :: suf)
    (hpass : ∀ z ∈ pre, covers z pc = false ∨ (z.catchType ≠ 0 ∧ ∃ nm : String, Cond.classLink own z.catchType nm ∈ lw_all ∧ (E, nm) ∈ b_nc)) (hx : covers x pc = true) (h0 : x.catchType ≠ 0)
    (hlink : Cond.classLink own x.catchType name ∈ lw_all) (hcast : (Cond.castable E name).before args s = true) (he : b_th s H E q)
    (kk : W p l e R s m args below meth c H locs cells slots Q (F0 m x.handlerPc ls [.ref q])) : vx_W p l e R s m args below meth c H locs cells slots Q (F0 m pc ls rest) q := by
  obtain ⟨ce, h1, h2, h3⟩ := he
  refine vx_catch CX.ow pre x suf hsplit (fun z hz => ?_) hx h0 (CX.ts _ hlink) hcast h1 h2 h3 kk
  rcases hpass z hz with h | ⟨h, nm, h4, h5⟩
  · exact Or.inl h
  · exact Or.inr ⟨h, nm, CX.ts _ h4, CX.K.2.2.1 _ h5⟩
/-- out of a method whose rows name other classes, or cover other places -/
theorem b_xoutP (CX : b_Cx p s m args c cc nL own G B0) {mc ms : Nat} {Qc : Array Value → State → Outcome → State → Prop} {E : String} {q : Nat} (hpass : ∀ z ∈ c.exceptionTable.toList, covers z pc = false ∨ (z.catchType ≠ 0 ∧ ∃ nm : String, Cond.classLink own z.catchType nm ∈ lw_all ∧ (E, nm) ∈ b_nc)) (hlk : meth.locks = false) (he : b_th s H E q) (hS : va_S (b_A B0) s.heap H locs) (hc : cells ≤ mc) (hs : slots ≤ ms) (hp : px E q H) :
    vx_W p l e R s m args below meth c H locs cells slots (vx_MQ below Qc (b_X B0 px) args s mc ms (b_A B0)) (F0 m pc ls rest) q := by
  obtain ⟨ce, h1, h2, h3⟩ := he
  refine vx_outP CX.ow hlk (fun z hz => ?_) h1 h2 h3 (fun t ht' _ => ⟨H, trivial, ⟨ht', hp⟩, va_S.F hS ht'⟩) hS.2.2 hc hs
  rcases hpass z hz with h | ⟨h, nm, h4, h5⟩
  · exact Or.inl h
  · exact Or.inr ⟨h, nm, CX.ts _ h4, CX.K.2.2.1 _ h5⟩
theorem b_athrow (CX : b_Cx p s m args c cc nL own G B0) {q : Nat} (hdg : decode cc pc = .ok (.athrow, 1)) (k : vx_W p l e R s m args below meth c H locs cells slots Q (F0 m pc ls rest) q) : W p l e R s m args below meth c H locs cells slots Q (F0 m pc ls (.ref q :: rest)) := vx_athrow CX.hx CX.hb hdg k
theorem b_thof (CX : b_Cx p s m args c cc nL own G B0) {ci : Nat} {qc : vw_C} {fs : List Value} (hc : b_cl[ci]? = some qc) (h : b_at G a (.inr (ci, fs)) H) : b_th s H qc.1 a := by
  obtain ⟨r, h1, cell, q1, q2, q3, q4⟩ := b_P h 0 _ rfl
  cases Option.some.inj (h1.symm.trans hc)
  obtain ⟨hSl, hfc, kC, hkC, hkind⟩ := CX.K.1.1 ci _ hc
  exact ⟨cell, q1, q3, by rw [q2]; exact hfc⟩
/-- .. of a method with a table -/
theorem b_ofXW {y : MethodName} {ret : Option FieldType} {rm : Room} {As : List Value} {Qc : Array Value → State → Outcome → State → Prop} {XC : String → Addr → State → State → Prop} {mc ms : Nat} {free : Addr → Prop} {hh : List (Nat × Nat × Nat × Nat)} (hy : plainName y.cls = true) (hn : (lg_sl As).length ≤ nL)
    (body : ∀ (p : Program) (e : Env) (s : State) (m : MethodId) (below : List Frame) (meth : Method) (c : Code), b_Cx p s m As.toArray c cc nL y.cls G B0 → meth.sig.returnType = ret → meth.locks = false → c.exceptionTable.toList = tableOf hh → va_S (b_A B0) s.heap H [] → ∀ ls : Array Slot, lv_has ls nL (lv_args 0 As) →
      W p l e rm s m As.toArray below meth c H [] 0 0 (vx_MQ below Qc XC As.toArray s mc ms free) (F0 m 0 ls [])) : vx_Met l y (wsW_ y cc nL ret hh) rm (b_Pc G B0 H As) Qc XC mc ms free := by
  refine vx_ofWH (cc := cc) (maxL := nL) (ret := ret) (hh := hh) hy rfl ?_
  intro p e s m args below meth c s₁ B hml hv
  obtain ⟨rfl, hH, hK⟩ := hv
  have hts : ∀ w ∈ lw_all, w.before As.toArray s = true := fun w h => atoms_spec (ws := wsW_ y cc nL ret hh) B.pre w (List.mem_cons_of_mem _ h)
  have htab := vx_table (x := y) B (atoms_spec (ws := wsW_ y cc nL ret hh) B.pre _ List.mem_cons_self)
  have hl := lv_entry As hn
  rw [lg_entry_eq]
  generalize (lg_sl As ++ List.replicate (nL - (lg_sl As).length) Slot.unset).toArray = ls at hl ⊢
  have k := body p e s m below meth c ⟨B.exec, B.bytes, hml, findClass_of_methodNamed B.named, hts, hK⟩ B.returns B.notSynchronized htab (by rw [hH]; exact va_S.rf) ls hl
  rw [hH]
  exact k
/-- 'throw new E()' out of a method without a table -/
theorem b_throw0 (CX : b_Cx p s m args c cc nL own G B0) (hlt : l.stackTraces = false) {cls : String} {names : List String} {ik ic mc ms : Nat} {Qc : Array Value → State → Outcome → State → Prop}
    (hcls : Bundle.fit cls = true) (hnames : ∀ n ∈ names, Bundle.fit n = true) (hk : Cond.classLink own ik cls ∈ lw_all) (hini : Cond.initialized cls ∈ lw_all) (hat : ∀ w ∈ vx_at0 own ic cls names, w.before args s = true)
    (hgood : (Cond.classLink own ik cls :: Cond.initialized cls :: vx_at0 own ic cls names).all vx_ot = true) (hS : va_S (b_A B0) s.heap H locs) (hsize : ls.size = nL)
    (d0 : decode cc pc = .ok (.new ik, 3)) (d3 : decode cc (pc + 3) = .ok (.dup, 1)) (d4 : decode cc (pc + 4) = .ok (.invokespecial ic, 3)) (d7 : decode cc (pc + 7) = .ok (.athrow, 1)) (ht : ∀ x ∈ c.exceptionTable.toList, False)
    (hRframes : names.length + 3 < R.frames) (hRlocals : (rest.map fun v => v.category).sum + (13 * (names.length + 1) + 42) ≤ R.locals) (hRcells : cells + 1 ≤ R.cells) (hRslots : slots + 6 ≤ R.slots) (hlocks : meth.locks = false) (hc : cells + 1 ≤ mc) (hs : slots + 6 ≤ ms)
    (hx : ∀ H1 : Heap, b_Ext H H1 → px cls H.size H1) :
    W p l e R s m args below meth c H locs cells slots (vx_MQ below Qc (b_X B0 px) args s mc ms (b_A B0)) (F0 m pc ls rest) :=
  vx_throw0 CX.hx CX.hb hlt CX.ow hcls hnames (CX.ts _ hk) (CX.ts _ hini) hat (fun w hw => List.all_eq_true.mp hgood w hw) CX.K.2.2.2.2.1.2.2.2.2.2.2.2.1 CX.K.2.2.2.2.1.2.2.2.2.2.2.2.2.1 hS (by rw [hsize]; exact CX.ml.symm) d0 d3 d4 d7 (fun x hx => (ht x hx).elim) hRframes hRlocals hRcells hRslots hlocks
    (fun t _ hz hq => ⟨t.heap, trivial, ⟨rfl, hx _ ⟨hz, hq⟩⟩, ⟨Nat.le_trans hS.1 hz, fun q h1 h2 => (hq q (Nat.lt_of_lt_of_le h1 hS.1)).trans (hS.2.1 q h1 h2)⟩⟩) hS.2.2 hc hs
/-- a method with a table, declared in a class above the receiver's -/
theorem b_cwVC {own C : String} {index maxL mc ms : Nat} {y : MethodName} {bytes : ByteArray} {ret : Option FieldType} {hh : List (Nat × Nat × Nat × Nat)} {rm : Room} (n : Nat) (ht : ∀ w ∈ lw_all, w.before args s = true) (h1 : Cond.methodLink own index y ∈ lw_all) (h2 : Cond.instanceMethod y ∈ lw_all) (h3 : Cond.selects C y y ∈ lw_all) (h4 : Cond.initialized y.cls ∈ lw_all) (h5 : Cond.codeWith y bytes maxL ret hh ∈ lw_all) (hrc : rm.cells = mc) (hrs : rm.slots = ms)
    (hd : y.cls ≠ "java/lang/invoke/MethodHandle" ∧ y.cls ≠ "java/lang/invoke/VarHandle" ∧ (parseMethodDescriptor y.desc).map (fun d => d.parameters.length) = some n) (hR : rm.frames + 1 ≤ R.frames ∧ 8 + (maxL + 11) + rm.locals ≤ R.locals) :
    vx_CVW R s args own C index y bytes maxL ret hh (wsW_ y bytes maxL ret hh) rm mc ms n := by
  refine ⟨⟨hrc, hrs, hR.1, hR.2, pay_in ht (lw_methW h5), List.mem_cons_self⟩, ht _ h5, ht _ h4, ⟨hd.1, hd.2.1⟩, fun sig h => ?_, ht _ h1, ht _ h2, ht _ h3⟩
  have h2 := hd.2.2
  rw [h] at h2
  exact (Option.some.inj h2).symm
theorem vx_f {args : Array Value} {s : State} {w : Cond} {L : List Cond} (h : vx_no w = true → w.before args s = true) (t : ∀ w' ∈ L.filter vx_no, w'.before args s = true) : ∀ w' ∈ (w :: L).filter vx_no, w'.before args s = true := by
  intro w' hw
  obtain ⟨h1, h2⟩ := List.mem_filter.mp hw
  rcases List.mem_cons.mp h1 with e | e
  · subst e; exact h h2
  · exact t w' (List.mem_filter.mpr ⟨e, h2⟩)
theorem vx_f0 {args : Array Value} {s : State} : ∀ w' ∈ ([] : List Cond).filter vx_no, w'.before args s = true := fun _ h => nomatch h
theorem b_putM (CX : b_Cx p s m args c cc nL own G B0) {ref C : String} {T : u_T} {N ci index : Nat} (hin : ∀ w ∈ u_ws C T N, w ∈ lw_all) (ty0 : Nat → FieldType) (hty : ∀ k, k < N → parseFieldDescriptor (T k).2.2.1 = some (ty0 k)) (hc : b_cl[ci]? = some (C, T, N)) (k : Nat) (hk : k < N) (hnm : ∀ x, x < N → x ≠ k → (T x).2.1 ≠ (T k).2.1) (hlink : Cond.fieldLink own index ref (T k).2.1 (T k).2.2.1 ∈ lw_all) (hsame : b_same ref (T k).1 (T k).2.1 (T k).2.2.1) (hfin : (T k).2.2.2 = false)
    {fs : List Value} (hP : b_at G a (.inr (ci, fs)) H) (hS : va_S (b_A B0) s.heap H locs) (ha : B0 ≤ a) {v : Value} (hn : narrow (ty0 k) v = v) (hfit : fits (ty0 k) v = true) (hl : k < fs.length) (hdg : decode cc pc = .ok (.putfield index, 3))
    (kk : ∀ (H1 : Heap) (locs1 : List Loc), b_at G a (.inr (ci, fs.set k v)) H1 → b_Up a H H1 → (b_fm H a → b_fm H1 a) → va_S (b_A B0) s.heap H1 locs1 → W p l e R s m args below meth c H1 locs1 cells slots Q (F0 m (pc + 3) ls rest)) : W p l e R s m args below meth c H locs cells slots Q (F0 m pc ls (v :: .ref a :: rest)) := by
  have hts := CX.ts
  have hd := hty k hk
  have hap := fun x (hx : x < N) (hne : x ≠ k) => b_apart CX hin ty0 hty hc hx hk (hnm x hx hne)
  obtain ⟨r, h1, cell, q1, q2, q3, q4⟩ := b_P hP 0 _ rfl
  have hr : r = (C, T, N) := Option.some.inj (h1.symm.trans hc)
  subst hr
  obtain ⟨hSl, hfc, kC, hkC, hkind⟩ := CX.K.1.1 ci _ hc
  obtain ⟨cf, kf, fi, f, hi, hsl⟩ := hSl k hk
  have hlay := hts _ (hin _ (u_in_lay hk))
  unfold u_lay at hlay
  rw [if_neg (by rw [hfin]; decide)] at hlay
  have hst := (u_facts hfc hkC (u_lays hts hin hk) hi).1
  have h6 := u_store hfc hkC hkind hlay hi hd hn hfit
  refine W.putK CX.hx CX.hb (f := f) ⟨CX.ow, hts _ hlink, ⟨_, _, _, hsame.use hts _ hi⟩, hst⟩ (by rw [q2]; exact h6) q1 q3 (by rw [hsl]; exact k2_hasslot (q4 k hk)) rfl rfl hdg fun H' e1 e2 e3 => ?_
  rw [hsl] at e1 ⊢
  exact kk H' _ ⟨_, hc, t_OB.to (V := updV (vp_V fs) k v) ⟨_, e1, q2, q3, b_set q4 hap v⟩ (fun j _ => vp_updV_set hl v j)⟩ ⟨e2, e3⟩ (fun ⟨c0, h0, m1, m2⟩ => by cases Option.some.inj (h0.symm.trans q1); exact ⟨_, e1, m1, m2⟩) (b_Sput hS ⟨e2, e3⟩ ha)
theorem b_newM (CX : b_Cx p s m args c cc nL own G B0) {C : String} {T : u_T} {N ci index : Nat} (hin : ∀ w ∈ u_ws C T N, w ∈ lw_all) (ty : Nat → FieldType) (hty : ∀ k, k < N → parseFieldDescriptor (T k).2.2.1 = some (ty k)) (hc : b_cl[ci]? = some (C, T, N)) (hcl : Cond.classLink own index C ∈ lw_all) (hinst : Cond.instantiable C N ∈ lw_all) (hini : Cond.initialized C ∈ lw_all)
    {fs : List Value} (hfs : ∀ j, j < N → defaultValue (ty j) = vp_V fs j) (hS : va_S (b_A B0) s.heap H locs) (hcells : cells + 1 ≤ R.cells) (hslots : slots + N ≤ R.slots) (hdg : decode cc pc = .ok (.new index, 3))
    (kk : ∀ (q : Nat) (H1 : Heap), q = H.size → B0 ≤ q → b_at G q (.inr (ci, fs)) H1 → H1.size = q + 1 → b_Ext H H1 → b_fm H1 q → va_S (b_A B0) s.heap H1 locs → W p l e R s m args below meth c H1 locs (cells + 1) (slots + N) Q (F0 m (pc + 3) ls (.ref q :: rest))) : W p l e R s m args below meth c H locs cells slots Q (F0 m pc ls rest) := by
  have hKn := CX.K.1.1 ci _ hc
  refine W.newcK CX.hx CX.hb CX.ow (CX.ts _ hcl) (CX.ts _ hinst) (CX.ts _ hini) rfl hdg hcells hslots hKn.2.1 rfl fun H1 kC hkC e1 z1 o1 => ?_
  have hE : b_Ext H H1 := ⟨by omega, o1⟩
  exact kk H.size H1 rfl (Nat.le_trans CX.K.2.2.2.1 hS.1) ⟨_, hc, (u_born ty CX.ts hin hKn hkC e1 hty).to hfs⟩ z1 hE ⟨_, e1, rfl, rfl⟩ (b_Snew hS hE)
/-- a final field in a constructor, of which another field of the object bears the name too: the other one's cell may be the same -/
theorem b_putFA (CX : b_Cx p s m args c cc nL own G B0) {ref C : String} {T : u_T} {N ci index : Nat} (hin : ∀ w ∈ u_ws C T N, w ∈ lw_all) (ty0 : Nat → FieldType) (hty : ∀ k, k < N → parseFieldDescriptor (T k).2.2.1 = some (ty0 k)) (hc : b_cl[ci]? = some (C, T, N)) (k k' : Nat) (hk : k < N) (hnm : ∀ x, x < N → x ≠ k → x ≠ k' → (T x).2.1 ≠ (T k).2.1) (hlink : Cond.fieldLink own index ref (T k).2.1 (T k).2.2.1 ∈ lw_all) (hsame : b_same ref (T k).1 (T k).2.1 (T k).2.2.1) (hfin : (T k).2.2.2 = true) (hin2 : meth.name = "<init>") (hdecl : (T k).1 = own)
    {fs : List Value} (hP : b_at G a (.inr (ci, fs)) H) (hS : va_S (b_A B0) s.heap H locs) (ha : B0 ≤ a) {v : Value} (hn : narrow (ty0 k) v = v) (hfit : fits (ty0 k) v = true) (hl : k < fs.length) (hl' : k' < fs.length) (hkk : k' ≠ k) (hdg : decode cc pc = .ok (.putfield index, 3))
    (kk : ∀ (w : Value) (H1 : Heap) (locs1 : List Loc), (w = v ∨ fs[k']? = some w) → b_at G a (.inr (ci, (fs.set k v).set k' w)) H1 → b_Up a H H1 → va_S (b_A B0) s.heap H1 locs1 → W p l e R s m args below meth c H1 locs1 cells slots Q (F0 m (pc + 3) ls rest)) : W p l e R s m args below meth c H locs cells slots Q (F0 m pc ls (v :: .ref a :: rest)) := by
  have hts := CX.ts
  have hd := hty k hk
  have hap := fun x (hx : x < N) (hne : x ≠ k) (hne' : x ≠ k') => b_apart CX hin ty0 hty hc hx hk (hnm x hx hne hne')
  obtain ⟨r, h1, cell, q1, q2, q3, q4⟩ := b_P hP 0 _ rfl
  have hr : r = (C, T, N) := Option.some.inj (h1.symm.trans hc)
  subst hr
  obtain ⟨hSl, hfc, kC, hkC, hkind⟩ := CX.K.1.1 ci _ hc
  obtain ⟨cf, kf, fi, f, hi, hsl⟩ := hSl k hk
  have hlay := hts _ (hin _ (u_in_lay hk))
  unfold u_lay at hlay
  rw [if_pos hfin] at hlay
  have hst := (u_facts hfc hkC (u_lays hts hin hk) hi).1
  have hcf : m.cls = cf := by
    obtain ⟨_, _, c', _, _, _, -, -, hf', -, -, -, hown2, -⟩ := Cond.laysFinal_spec hlay
    have e1 : c' = cf := by have := hi.symm.trans hf'; simp at this; exact this.1.symm
    rw [hdecl] at hown2
    rw [← e1]; exact Option.some.inj (CX.ow.symm.trans hown2)
  have h6 := u_fits hfc hkC hkind (Or.inr hlay) hi hd hn hfit
  refine W.putFinK CX.hx CX.hb CX.ow (hts _ hlink) (hsame.use hts _ hi) hst hcf hin2 (by rw [q2]; exact h6) q1 q3 (by rw [hsl]; exact k2_hasslot (q4 k hk)) rfl rfl hdg fun H' e1 e2 e3 => ?_
  rw [hsl] at e1 ⊢
  have hw : ∃ w : Value, (w = v ∨ fs[k']? = some w) ∧ ∀ x, x < N → (cell.setSlot (G.1.2 ci k) v).slots[G.1.2 ci x]? = some (vp_V ((fs.set k v).set k' w) x) := by
    have hV : ∀ (w : Value) (x : Nat), vp_V ((fs.set k v).set k' w) x = if x = k' then w else if x = k then v else vp_V fs x := by
      intro w x
      rw [← vp_updV_set (by rw [List.length_set]; exact hl') w x]
      unfold updV
      by_cases h9 : x = k'
      · rw [if_pos h9, if_pos h9]
      · rw [if_neg h9, if_neg h9, ← vp_updV_set hl v x]
        rfl
    have hsz : ∀ x, x < N → G.1.2 ci x < cell.slots.size := fun x hx => (Array.getElem?_eq_some_iff.mp (q4 x hx)).1
    by_cases hal : G.1.2 ci k' = G.1.2 ci k
    · refine ⟨v, Or.inl rfl, fun x hx => ?_⟩
      rw [hV]
      by_cases h9 : x = k'
      · subst h9
        rw [if_pos rfl, hal]
        simp [Cell.setSlot, hsz k hk]
      · rw [if_neg h9]
        by_cases h8 : x = k
        · subst h8
          rw [if_pos rfl]
          simp [Cell.setSlot, hsz x hx]
        · rw [if_neg h8]
          have h7 := hap x hx h8 h9
          simp [Cell.setSlot, Array.getElem?_setIfInBounds, Ne.symm h7, q4 x hx]
    · refine ⟨vp_V fs k', Or.inr ?_, fun x hx => ?_⟩
      · unfold vp_V
        simp [hl']
      · rw [hV]
        by_cases h9 : x = k'
        · subst h9
          rw [if_pos rfl]
          simp [Cell.setSlot, Array.getElem?_setIfInBounds, Ne.symm hal, q4 x hx]
        · rw [if_neg h9]
          by_cases h8 : x = k
          · subst h8
            rw [if_pos rfl]
            simp [Cell.setSlot, hsz x hx]
          · rw [if_neg h8]
            have h7 := hap x hx h8 h9
            simp [Cell.setSlot, Array.getElem?_setIfInBounds, Ne.symm h7, q4 x hx]
  obtain ⟨w, hw1, hw2⟩ := hw
  exact kk w H' _ hw1 ⟨_, hc, t_OB.to (V := vp_V ((fs.set k v).set k' w)) ⟨_, e1, q2, q3, hw2⟩ (fun j _ => rfl)⟩ ⟨e2, e3⟩ (b_Sput hS ⟨e2, e3⟩ ha)
end BRX
section EXT
variable {G : b_G} {B0 : Nat} {τ τ1 : b_T} {id : Nat} {F : Nat → Nat} {M : Nat → Int32} {E : Nat → Bool} {H H1 H2 : Heap} {S S1 : b_St} {Z : Nat → Nat → Int32} {a b t tb : Nat} {e e1 : va_E} {T : Nat → Prop}
theorem LR.ext (h : LR G B0 τ id F M E H S Z) (hE : b_Ext H H1) : LR G B0 τ id F M E H1 S Z := ⟨fun i hi => (h.1 i hi).ext hE, h.2⟩
theorem LR.re (h : LR G B0 τ id F M E H S Z) (hA : b_Ag τ τ1 H) : LR G B0 τ1 id F M E H S Z := ⟨fun i hi => (h.1 i hi).re hA, h.2⟩
theorem b_Ext.up (h : b_Ext H H1) (hu : b_Up a H1 H2) (ha : H.size ≤ a) : b_Ext H H2 := ⟨Nat.le_trans h.1 (Nat.le_of_eq hu.1.symm), fun q hq => (hu.2 q (by omega)).trans (h.2 q hq)⟩
theorem b_Up.rf : b_Up a H H := ⟨rfl, fun _ _ => rfl⟩
theorem b_Up.tr (h : b_Up a H H1) (h2 : b_Up a H1 H2) : b_Up a H H2 := ⟨h2.1.trans h.1, fun q hq => (h2.2 q hq).trans (h.2 q hq)⟩
theorem b_Ag.ge (hq : H.size ≤ b) : b_Ag τ (upT τ b t) H := fun q hl => if_neg (by omega)
theorem b_tt.ad (h : b_tt G B0 τ H a t e) (hE : b_Ext H H1) (hq : H.size ≤ b) : b_tt G B0 (upT τ b tb) H1 a t e := (h.re (b_Ag.ge hq)).ext hE
theorem LR.ad (h : LR G B0 τ id F M E H S Z) (hE : b_Ext H H1) (hq : H.size ≤ b) : LR G B0 (upT τ b tb) id F M E H1 S Z := (h.re (b_Ag.ge hq)).ext hE
theorem b_Ext.Fr (hE : b_Ext H H1) : b_Fr τ T H H1 := ⟨hE.1, fun q hq _ => hE.2 q hq⟩
end EXT
/-! the shortages: 1 no bottles, 2 no crates, 3 no money -/
def e_cell (ci : Nat) (cause : Value) : va_E := .inr (ci, [cause, .null, .null, .null, .null, .int (nI 0)])
def e_nm (v : Nat) : String := if v = 1 then RX9 else if v = 2 then RX10 else RX11
/-- a shortage thrown: its number, its class, its object -/
def e_px (G : b_G) (B0 : Nat) (H : Heap) (code : Int32) (E : String) (q : Nat) (H1 : Heap) : Prop := b_Ext H H1 ∧ H.size ≤ q ∧ B0 ≤ q ∧ ∃ v, (v = 1 ∨ v = 2 ∨ v = 3) ∧ code = nI v ∧ E = e_nm v ∧ b_at G q (e_cell (17 + v) .null) H1
theorem e_px.mv {G : b_G} {B0 : Nat} {H0 H H1 : Heap} {code : Int32} {E : String} {q : Nat} (h : e_px G B0 H code E q H1) (hE : b_Ext H0 H) : e_px G B0 H0 code E q H1 := ⟨hE.tr h.1, Nat.le_trans hE.1 h.2.1, h.2.2⟩
theorem e_px.cd {G : b_G} {B0 : Nat} {H H1 : Heap} {code code1 : Int32} {E : String} {q : Nat} (h : e_px G B0 H code E q H1) (he : code = code1) : e_px G B0 H code1 E q H1 := he ▸ h
theorem e_px.n0 {G : b_G} {B0 : Nat} {H H1 : Heap} {code : Int32} {E : String} {q : Nat} (h : e_px G B0 H code E q H1) : ¬ code = nI 0 := by
  obtain ⟨-, -, -, v, h1, h2, -⟩ := h
  rw [h2]
  rcases h1 with rfl | rfl | rfl <;> decide
/-- what the swaps left: at the top a loop's own matrix is the difference of the table's -/
def pZ (Z : Nat → Nat → Int32) (S : b_St) : Prop := ∀ i j, i < 8 → j < 8 → Z i j = S 3 i j - S 3 j i
/-- the saved loops -/
def SV (G : b_G) (B0 : Nat) (τ : b_T) (d c n : Nat) (ids P : Nat → Nat) (H : Heap) (L : Nat → b_St) : Prop :=
  (∀ k, k < n → (∃ (F : Nat → Nat) (M : Nat → Int32) (E : Nat → Bool) (Z : Nat → Nat → Int32), F 0 = P k ∧ LR G B0 τ (ids k) F M E H (L k) Z ∧ pZ Z (L k)) ∧ b_WF (L k) ∧ ¬ ids k = d ∧ 0 < ids k ∧ ids k < c) ∧ ∀ j k, j < k → k < n → ¬ ids j = ids k
section SVS
variable {G : b_G} {B0 : Nat} {τ τ1 : b_T} {d c n : Nat} {ids P : Nat → Nat} {H H1 : Heap} {L : Nat → b_St} {T : Nat → Prop} {a b t tb : Nat}
theorem SV.mv (h : SV G B0 τ d c n ids P H L) (f : ∀ k, k < n → ¬ ids k = d → 0 < ids k → ids k < c → ∀ F M E Z, LR G B0 τ (ids k) F M E H (L k) Z → LR G B0 τ1 (ids k) F M E H1 (L k) Z) : SV G B0 τ1 d c n ids P H1 L := by
  refine ⟨fun k hk => ?_, h.2⟩
  obtain ⟨⟨F, M, E, Z, h1, h2, h3⟩, h4, h5, h6, h7⟩ := h.1 k hk
  exact ⟨⟨F, M, E, Z, h1, f k hk h5 h6 h7 F M E Z h2, h3⟩, h4, h5, h6, h7⟩
theorem SV.fr (h : SV G B0 τ d c n ids P H L) (hF : b_Fr τ T H H1) (hT : ∀ k, ¬ k = d → 0 < k → k < c → ∀ i, i < 60 → ¬ T (1000 * k + i)) : SV G B0 τ d c n ids P H1 L := h.mv fun k _ h1 h2 h3 _ _ _ _ hL => hL.fr hF (hT (ids k) h1 h2 h3)
theorem SV.ca (h : SV G B0 τ d c n ids P H L) (hF : b_Fr τ T H H1) (hA : b_Ag τ τ1 H) (hT : ∀ k, ¬ k = d → 0 < k → k < c → ∀ i, i < 60 → ¬ T (1000 * k + i)) : SV G B0 τ1 d c n ids P H1 L := h.mv fun k _ h1 h2 h3 _ _ _ _ hL => hL.ca hF hA (hT (ids k) h1 h2 h3)
theorem SV.new (h : SV G B0 τ d c n ids P H L) (hE : b_Ext H H1) (hq : b = H.size) : SV G B0 (upT τ b tb) d c n ids P H1 L := h.mv fun k _ h1 h2 h3 _ _ _ _ hL => hL.new hE hq
theorem SV.ad (h : SV G B0 τ d c n ids P H L) (hE : b_Ext H H1) (hq : H.size ≤ b) : SV G B0 (upT τ b tb) d c n ids P H1 L := h.mv fun k _ h1 h2 h3 _ _ _ _ hL => hL.ad hE hq
theorem SV.ext (h : SV G B0 τ d c n ids P H L) (hE : b_Ext H H1) : SV G B0 τ d c n ids P H1 L := h.mv fun k _ h1 h2 h3 _ _ _ _ hL => hL.ext hE
theorem SV.up (h : SV G B0 τ d c n ids P H L) (hu : b_Up a H H1) (ha : τ a = t) (ht : ∀ k, ¬ k = d → 0 < k → k < c → t < 1000 * k ∨ 1000 * k + 1000 ≤ t) : SV G B0 τ d c n ids P H1 L := h.mv fun k _ h1 h2 h3 _ _ _ _ hL => hL.up hu ha (ht (ids k) h1 h2 h3)
end SVS
/-- the system's object, all of it: 0 itself, 1 the list of what is saved, 2 its array, 3 the text, 4 its bytes, 5 what is taken -/
def XR (G : b_G) (B0 : Nat) (τ : b_T) (A : Nat → Nat) (H : Heap) (z : b_Z) : Prop :=
  ∃ (d c : Nat) (ids P : Nat → Nat) (F : Nat → Nat) (M : Nat → Int32) (E : Nat → Bool) (Z : Nat → Nat → Int32) (sm : Int32) (r : Nat) (se : Bool) (ml : Int32) (hs : Int64) (bt tk : Nat → Int32),
    b_tt G B0 τ H (A 0) 0 (.inr (0, [.ref (F 0), .ref (A 1), .ref (A 3), .ref (A 5), .long hs])) ∧
    b_tt G B0 τ H (A 1) 1 (.inr (2, [.int sm, .ref (if se = true then r else G.2.2 0), .int (nI z.2.1)])) ∧
    (se = true → b_tt G B0 τ H r 2 (.inl (G.2.1 2, q_refs 10 (fun j => if j < z.2.1 then some (P j) else none)))) ∧ (se = true ∨ z.2.1 = 0) ∧
    b_tt G B0 τ H (A 3) 3 (.inr (3, [.ref (A 4), .int (nI 0), .int ml, .int (nI z.2.2.2.1)])) ∧
    b_tt G B0 τ H (A 4) 4 (.inl (G.2.1 1, 60, .inl bt)) ∧ (∀ j, j < z.2.2.2.1 → bt j = nI (z.2.2.2.2 j)) ∧
    b_tt G B0 τ H (A 5) 5 (.inl (G.2.1 0, 8, .inl tk)) ∧
    LR G B0 τ d F M E H z.1 Z ∧ pZ Z z.1 ∧ b_WF z.1 ∧ SV G B0 τ d c z.2.1 ids P H z.2.2.1 ∧ 0 < d ∧ d < c ∧ z.2.1 ≤ 6 ∧ z.2.2.2.1 ≤ 60 ∧ ∀ j, z.2.2.2.2 j < 128
