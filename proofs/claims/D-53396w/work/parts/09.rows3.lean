/-! ===== b_: a method's entry, its ends, calls ===== -/
set_option maxRecDepth 100000
section BR3
variable {p : Program} {l : Launch} {e : Env} {R : Room} {s : State} {m : MethodId} {args : Array Value} {below : List Frame} {meth : Method} {c : Code} {H : Heap} {locs : List Loc} {cells slots : Nat} {Q : State → Prop}
variable {cc : ByteArray} {pc nL : Nat} {own : String} {ls : Array Slot} {rest : List Value} {G : b_G} {B0 a : Nat}
/-- a contract out of a walk -/
theorem b_of {y : MethodName} {ret : Option FieldType} {rm : Room} {As : List Value} {Qc : Array Value → State → Outcome → State → Prop} {mc ms : Nat} {free : Addr → Prop} (hy : plainName y.cls = true) (hn : (lg_sl As).length ≤ nL)
    (body : ∀ (p : Program) (e : Env) (s : State) (m : MethodId) (below : List Frame) (meth : Method) (c : Code), b_Cx p s m As.toArray c cc nL y.cls G B0 → meth.sig.returnType = ret → meth.locks = false → meth.name = y.name → va_S (b_A B0) s.heap H [] → ∀ ls : Array Slot, lv_has ls nL (lv_args 0 As) →
      W p l e rm s m As.toArray below meth c H [] 0 0 (MQ below Qc As.toArray s mc ms free) (F0 m 0 ls [])) : Met l y (ws_ y cc nL ret) rm (b_Pc G B0 H As) Qc mc ms free := by
  refine Met.ofW (cc := cc) (maxL := nL) (ret := ret) hy rfl ?_
  intro p e s m args below meth c s₁ B hml hv
  obtain ⟨rfl, hH, hK⟩ := hv
  have hts : ∀ w ∈ lw_all, w.before As.toArray s = true := fun w h => atoms_spec (ws := ws_ y cc nL ret) B.pre w (List.mem_cons_of_mem _ h)
  have hl := lv_entry As hn
  rw [lg_entry_eq]
  generalize (lg_sl As ++ List.replicate (nL - (lg_sl As).length) Slot.unset).toArray = ls at hl ⊢
  have k := body p e s m below meth c ⟨B.exec, B.bytes, hml, findClass_of_methodNamed B.named, hts, hK⟩ B.returns B.notSynchronized (name_of_methodNamed B.named B.method).1 (by rw [hH]; exact va_S.rf) ls hl
  rw [hH]
  exact k
/-- .. of a method that may throw -/
theorem b_ofX {y : MethodName} {ret : Option FieldType} {rm : Room} {As : List Value} {Qc : Array Value → State → Outcome → State → Prop} {XC : String → Addr → State → State → Prop} {mc ms : Nat} {free : Addr → Prop} (hy : plainName y.cls = true) (hn : (lg_sl As).length ≤ nL)
    (body : ∀ (p : Program) (e : Env) (s : State) (m : MethodId) (below : List Frame) (meth : Method) (c : Code), b_Cx p s m As.toArray c cc nL y.cls G B0 → meth.sig.returnType = ret → meth.locks = false → (∀ x ∈ c.exceptionTable.toList, False) → va_S (b_A B0) s.heap H [] → ∀ ls : Array Slot, lv_has ls nL (lv_args 0 As) →
      W p l e rm s m As.toArray below meth c H [] 0 0 (vx_MQ below Qc XC As.toArray s mc ms free) (F0 m 0 ls [])) : vx_Met l y (ws_ y cc nL ret) rm (b_Pc G B0 H As) Qc XC mc ms free := by
  refine vx_ofW (cc := cc) (maxL := nL) (ret := ret) hy rfl ?_
  intro p e s m args below meth c s₁ B hml htab hv
  obtain ⟨rfl, hH, hK⟩ := hv
  have hts : ∀ w ∈ lw_all, w.before As.toArray s = true := fun w h => atoms_spec (ws := ws_ y cc nL ret) B.pre w (List.mem_cons_of_mem _ h)
  have hl := lv_entry As hn
  rw [lg_entry_eq]
  generalize (lg_sl As ++ List.replicate (nL - (lg_sl As).length) Slot.unset).toArray = ls at hl ⊢
  have k := body p e s m below meth c ⟨B.exec, B.bytes, hml, findClass_of_methodNamed B.named, hts, hK⟩ B.returns B.notSynchronized htab (by rw [hH]; exact va_S.rf) ls hl
  rw [hH]
  exact k
theorem b_iret {v : Int32} {post : Int32 → Heap → Prop} {mc ms : Nat} (CX : b_Cx p s m args c cc nL own G B0) (hr : meth.sig.returnType = some .int) (hlocks : meth.locks = false) (hS : va_S (b_A B0) s.heap H locs) (hc : cells ≤ mc) (hs : slots ≤ ms) (hdg : decode cc pc = .ok (.ireturn, 1)) (hp : post v H) :
    W p l e R s m args below meth c H locs cells slots (MQ below (b_Qi B0 post) args s mc ms (b_A B0)) (F0 m pc ls [.int v]) :=
  W.widen hc hs (W.iret CX.hx CX.hb hr (fun t ht hW => ⟨⟨v, H, rfl, hp, ht⟩, hS.F ht⟩) hS.2.2 hdg hlocks)
theorem b_zret {v : Int32} {ty : FieldType} {post : Int32 → Heap → Prop} {mc ms : Nat} (CX : b_Cx p s m args c cc nL own G B0) (hr : meth.sig.returnType = some ty) (hlocks : meth.locks = false) (hS : va_S (b_A B0) s.heap H locs) (hc : cells ≤ mc) (hs : slots ≤ ms) (hn : narrow ty (.int v) = .int v) (hdg : decode cc pc = .ok (.ireturn, 1)) (hp : post v H) :
    W p l e R s m args below meth c H locs cells slots (MQ below (b_Qi B0 post) args s mc ms (b_A B0)) (F0 m pc ls [.int v]) :=
  W.widen hc hs (W.zret CX.hx CX.hb hr hn (fun t ht hW => ⟨⟨v, H, rfl, hp, ht⟩, hS.F ht⟩) hS.2.2 hdg hlocks)
theorem b_lret {v : Int64} {post : Int64 → Heap → Prop} {mc ms : Nat} (CX : b_Cx p s m args c cc nL own G B0) (hr : meth.sig.returnType = some .long) (hlocks : meth.locks = false) (hS : va_S (b_A B0) s.heap H locs) (hc : cells ≤ mc) (hs : slots ≤ ms) (hdg : decode cc pc = .ok (.lreturn, 1)) (hp : post v H) :
    W p l e R s m args below meth c H locs cells slots (MQ below (b_Ql B0 post) args s mc ms (b_A B0)) (F0 m pc ls [.long v]) :=
  W.widen hc hs (W.lret CX.hx CX.hb hr (fun t ht hW => ⟨⟨v, H, rfl, hp, ht⟩, hS.F ht⟩) hS.2.2 hdg hlocks)
theorem b_dret {v : UInt64} {post : UInt64 → Heap → Prop} {mc ms : Nat} (CX : b_Cx p s m args c cc nL own G B0) (hr : meth.sig.returnType = some .double) (hlocks : meth.locks = false) (hS : va_S (b_A B0) s.heap H locs) (hc : cells ≤ mc) (hs : slots ≤ ms) (hdg : decode cc pc = .ok (.dreturn, 1)) (hp : post v H) :
    W p l e R s m args below meth c H locs cells slots (MQ below (b_Qd B0 post) args s mc ms (b_A B0)) (F0 m pc ls [.double v]) :=
  W.widen hc hs (W.dret CX.hx CX.hb hr (fun t ht hW => ⟨⟨v, H, rfl, hp, ht⟩, hS.F ht⟩) hS.2.2 hdg hlocks)
theorem b_vret {post : Heap → Prop} {mc ms : Nat} (CX : b_Cx p s m args c cc nL own G B0) (hr : meth.sig.returnType = none) (hlocks : meth.locks = false) (hS : va_S (b_A B0) s.heap H locs) (hc : cells ≤ mc) (hs : slots ≤ ms) (hdg : decode cc pc = .ok (.return_, 1)) (hp : post H) :
    W p l e R s m args below meth c H locs cells slots (MQ below (b_Qv B0 post) args s mc ms (b_A B0)) (F0 m pc ls []) :=
  W.widen hc hs (W.vret CX.hx CX.hb hr (fun t ht hW => ⟨⟨H, rfl, hp, ht⟩, hS.F ht⟩) hS.2.2 hdg hlocks)
theorem b_aret {v : Option Nat} {rt : FieldType} {post : Option Nat → Heap → Prop} {mc ms : Nat} (CX : b_Cx p s m args c cc nL own G B0) (hr : meth.sig.returnType = some rt) (hrt : (∃ n, rt = .object n) ∨ ∃ t, rt = .array t) (hlocks : meth.locks = false) (hS : va_S (b_A B0) s.heap H locs) (hc : cells ≤ mc) (hs : slots ≤ ms) (hdg : decode cc pc = .ok (.areturn, 1)) (hp : post v H) :
    W p l e R s m args below meth c H locs cells slots (MQ below (b_Qq B0 post) args s mc ms (b_A B0)) (F0 m pc ls [va_rf v]) :=
  W.widen hc hs (W.aret CX.hx CX.hb hr hrt (by cases v with | none => exact Or.inl rfl | some x => exact Or.inr ⟨x, rfl⟩) (fun t ht hW => ⟨⟨v, H, rfl, hp, ht⟩, hS.F ht⟩) hS.2.2 hdg hlocks)
/-- a call's end: int, long, double, void, reference -/
theorem b_ci {post : Int32 → Heap → Prop} {mc ms : Nat} {st0 : List Value} {a0 : Array Value} (hr : va_Run p l e R s m args below meth c H locs cells slots mc ms (F0 m pc ls st0) rest (b_Qi B0 post a0) (b_A B0)) (hS : va_S (b_A B0) s.heap H locs)
    (kk : ∀ (r : Int32) (H1 : Heap) (locs1 : List Loc), post r H1 → va_S (b_A B0) s.heap H1 locs1 → W p l e R s m args below meth c H1 locs1 (cells + mc) (slots + ms) Q (F0 m (pc + 3) ls (.int r :: rest))) : W p l e R s m args below meth c H locs cells slots Q (F0 m pc ls st0) :=
  va_calli hr hS (fun _ _ h => h) (fun _ h => h) (fun r u t H1 locs1 ht _ hp hb _ _ hS1 => by
    obtain rfl : H1 = u := ht.symm.trans hb
    exact kk r H1 locs1 hp hS1)
theorem b_cl' {post : Int64 → Heap → Prop} {mc ms : Nat} {st0 : List Value} {a0 : Array Value} (hr : va_Run p l e R s m args below meth c H locs cells slots mc ms (F0 m pc ls st0) rest (b_Ql B0 post a0) (b_A B0)) (hS : va_S (b_A B0) s.heap H locs)
    (kk : ∀ (r : Int64) (H1 : Heap) (locs1 : List Loc), post r H1 → va_S (b_A B0) s.heap H1 locs1 → W p l e R s m args below meth c H1 locs1 (cells + mc) (slots + ms) Q (F0 m (pc + 3) ls (.long r :: rest))) : W p l e R s m args below meth c H locs cells slots Q (F0 m pc ls st0) :=
  va_calll hr hS (fun _ _ h => h) (fun _ h => h) (fun r u t H1 locs1 ht _ hp hb _ _ hS1 => by
    obtain rfl : H1 = u := ht.symm.trans hb
    exact kk r H1 locs1 hp hS1)
theorem b_cd {post : UInt64 → Heap → Prop} {mc ms : Nat} {st0 : List Value} {a0 : Array Value} (hr : va_Run p l e R s m args below meth c H locs cells slots mc ms (F0 m pc ls st0) rest (b_Qd B0 post a0) (b_A B0)) (hS : va_S (b_A B0) s.heap H locs)
    (kk : ∀ (r : UInt64) (H1 : Heap) (locs1 : List Loc), post r H1 → va_S (b_A B0) s.heap H1 locs1 → W p l e R s m args below meth c H1 locs1 (cells + mc) (slots + ms) Q (F0 m (pc + 3) ls (.double r :: rest))) : W p l e R s m args below meth c H locs cells slots Q (F0 m pc ls st0) :=
  va_calld hr hS (fun _ _ h => h) (fun _ h => h) (fun r u t H1 locs1 ht _ hp hb _ _ hS1 => by
    obtain rfl : H1 = u := ht.symm.trans hb
    exact kk r H1 locs1 hp hS1)
theorem b_cv {post : Heap → Prop} {mc ms : Nat} {st0 : List Value} {a0 : Array Value} (hr : va_Run p l e R s m args below meth c H locs cells slots mc ms (F0 m pc ls st0) rest (b_Qv B0 post a0) (b_A B0)) (hS : va_S (b_A B0) s.heap H locs)
    (kk : ∀ (H1 : Heap) (locs1 : List Loc), post H1 → va_S (b_A B0) s.heap H1 locs1 → W p l e R s m args below meth c H1 locs1 (cells + mc) (slots + ms) Q (F0 m (pc + 3) ls rest)) : W p l e R s m args below meth c H locs cells slots Q (F0 m pc ls st0) :=
  va_callv hr hS (fun _ _ h => h) (fun _ h => h) (fun u t H1 locs1 ht _ hp hb _ _ hS1 => by
    obtain rfl : H1 = u := ht.symm.trans hb
    exact kk H1 locs1 hp hS1)
theorem b_cq {post : Option Nat → Heap → Prop} {mc ms : Nat} {st0 : List Value} {a0 : Array Value} (hr : va_Run p l e R s m args below meth c H locs cells slots mc ms (F0 m pc ls st0) rest (b_Qq B0 post a0) (b_A B0)) (hS : va_S (b_A B0) s.heap H locs)
    (kk : ∀ (r : Option Nat) (H1 : Heap) (locs1 : List Loc), post r H1 → va_S (b_A B0) s.heap H1 locs1 → W p l e R s m args below meth c H1 locs1 (cells + mc) (slots + ms) Q (F0 m (pc + 3) ls (va_rf r :: rest))) : W p l e R s m args below meth c H locs cells slots Q (F0 m pc ls st0) :=
  va_callq hr hS (fun _ _ h => h) (fun _ h => h) (fun r u t H1 locs1 ht _ hp hb _ _ hS1 => by
    obtain rfl : H1 = u := ht.symm.trans hb
    exact kk r H1 locs1 hp hS1)
/-- .. of a callee that only reads -/
theorem b_ci0 {v : Int32} {st0 : List Value} {a0 : Array Value} (hr : va_Run p l e R s m args below meth c H locs cells slots 0 0 (F0 m pc ls st0) rest (b_Qi B0 (fun r H1 => r = v ∧ H1 = H) a0) (b_A B0)) (hS : va_S (b_A B0) s.heap H locs)
    (kk : ∀ locs1 : List Loc, va_S (b_A B0) s.heap H locs1 → W p l e R s m args below meth c H locs1 cells slots Q (F0 m (pc + 3) ls (.int v :: rest))) : W p l e R s m args below meth c H locs cells slots Q (F0 m pc ls st0) :=
  b_ci hr hS (fun r H1 locs1 hp hS1 => by
    obtain ⟨rfl, rfl⟩ := hp
    exact kk locs1 hS1)
theorem b_cd0 {v : UInt64} {st0 : List Value} {a0 : Array Value} (hr : va_Run p l e R s m args below meth c H locs cells slots 0 0 (F0 m pc ls st0) rest (b_Qd B0 (fun r H1 => r = v ∧ H1 = H) a0) (b_A B0)) (hS : va_S (b_A B0) s.heap H locs)
    (kk : ∀ locs1 : List Loc, va_S (b_A B0) s.heap H locs1 → W p l e R s m args below meth c H locs1 cells slots Q (F0 m (pc + 3) ls (.double v :: rest))) : W p l e R s m args below meth c H locs cells slots Q (F0 m pc ls st0) :=
  b_cd hr hS (fun r H1 locs1 hp hS1 => by
    obtain ⟨rfl, rfl⟩ := hp
    exact kk locs1 hS1)
theorem b_cq0 {v : Nat} {st0 : List Value} {a0 : Array Value} (hr : va_Run p l e R s m args below meth c H locs cells slots 0 0 (F0 m pc ls st0) rest (b_Qq B0 (fun r H1 => r = some v ∧ H1 = H) a0) (b_A B0)) (hS : va_S (b_A B0) s.heap H locs)
    (kk : ∀ locs1 : List Loc, va_S (b_A B0) s.heap H locs1 → W p l e R s m args below meth c H locs1 cells slots Q (F0 m (pc + 3) ls (.ref v :: rest))) : W p l e R s m args below meth c H locs cells slots Q (F0 m pc ls st0) :=
  b_cq hr hS (fun r H1 locs1 hp hS1 => by
    obtain ⟨rfl, rfl⟩ := hp
    exact kk locs1 hS1)
/-- booleans -/
def bI (P : Prop) [Decidable P] : Int32 := if P then 1 else 0
theorem bI_t {P : Prop} [Decidable P] (h : P) : bI P = 1 := if_pos h
theorem bI_f {P : Prop} [Decidable P] (h : ¬ P) : bI P = 0 := if_neg h
theorem bI_0 {P : Prop} [Decidable P] : bI P = 0 ↔ ¬ P := by unfold bI; split <;> simp_all
theorem bI_n0 {P : Prop} [Decidable P] : ¬ bI P = 0 ↔ P := by unfold bI; split <;> simp_all
theorem bI_nar {P : Prop} [Decidable P] : narrow .boolean (.int (bI P)) = .int (bI P) := by unfold bI; split <;> rfl
theorem bI_fit {P : Prop} [Decidable P] : fits .boolean (.int (bI P)) = true := by unfold bI; split <;> rfl
theorem b_ifeq {P : Prop} [Decidable P] {off : Int} {tgt : Nat} (CX : b_Cx p s m args c cc nL own G B0) (hdg : decode cc pc = .ok (.ifCond .eq off, 3)) (ht : (pc : Int) + off = (tgt : Int)) (kt : ¬ P → W p l e R s m args below meth c H locs cells slots Q (F0 m tgt ls rest)) (kf : P → W p l e R s m args below meth c H locs cells slots Q (F0 m (pc + 3) ls rest)) : W p l e R s m args below meth c H locs cells slots Q (F0 m pc ls (.int (bI P) :: rest)) :=
  lv_if_eq CX.hx CX.hb hdg ht (fun h => kt (bI_0.mp h)) (fun h => kf (bI_n0.mp h))
theorem b_ifne {P : Prop} [Decidable P] {off : Int} {tgt : Nat} (CX : b_Cx p s m args c cc nL own G B0) (hdg : decode cc pc = .ok (.ifCond .ne off, 3)) (ht : (pc : Int) + off = (tgt : Int)) (kt : P → W p l e R s m args below meth c H locs cells slots Q (F0 m tgt ls rest)) (kf : ¬ P → W p l e R s m args below meth c H locs cells slots Q (F0 m (pc + 3) ls rest)) : W p l e R s m args below meth c H locs cells slots Q (F0 m pc ls (.int (bI P) :: rest)) :=
  lv_if_ne CX.hx CX.hb hdg ht (fun h => kt (bI_n0.mp h)) (fun h => kf (bI_0.mp h))
/-- the int on top, said otherwise -/
theorem b_top {x y : Int32} (h : x = y) (k : W p l e R s m args below meth c H locs cells slots Q (F0 m pc ls (.int y :: rest))) : W p l e R s m args below meth c H locs cells slots Q (F0 m pc ls (.int x :: rest)) := by
  rw [h]; exact k
theorem b_iaddN (CX : b_Cx p s m args c cc nL own G B0) {x y : Nat} (hdg : decode cc pc = .ok (.iadd, 1)) (k : W p l e R s m args below meth c H locs cells slots Q (F0 m (pc + 1) ls (.int (nI (x + y)) :: rest))) : W p l e R s m args below meth c H locs cells slots Q (F0 m pc ls (.int (nI y) :: .int (nI x) :: rest)) :=
  lv_iadd CX.hx CX.hb hdg (by rw [nI_add]; exact k)
theorem b_imulN (CX : b_Cx p s m args c cc nL own G B0) {x y : Nat} (hdg : decode cc pc = .ok (.imul, 1)) (k : W p l e R s m args below meth c H locs cells slots Q (F0 m (pc + 1) ls (.int (nI (x * y)) :: rest))) : W p l e R s m args below meth c H locs cells slots Q (F0 m pc ls (.int (nI y) :: .int (nI x) :: rest)) :=
  lv_imul CX.hx CX.hb hdg (by rw [pk_mul]; exact k)
theorem b_isubN (CX : b_Cx p s m args c cc nL own G B0) {x y : Nat} (h : y ≤ x) (hdg : decode cc pc = .ok (.isub, 1)) (k : W p l e R s m args below meth c H locs cells slots Q (F0 m (pc + 1) ls (.int (nI (x - y)) :: rest))) : W p l e R s m args below meth c H locs cells slots Q (F0 m pc ls (.int (nI y) :: .int (nI x) :: rest)) :=
  lv_isub CX.hx CX.hb hdg (by rw [pk_sub h]; exact k)
end BR3
