/-! ===== Throwable.getCause, synchronized: the cause, of an object whose monitor nobody holds (follows the kit's Steps.intGetterSync and va_callVU) ===== -/
set_option maxRecDepth 100000
abbrev cGC : ByteArray := prog_47_method_8_code
abbrev yGC : MethodName := ⟨"java/lang/Throwable", "getCause", "()Ljava/lang/Throwable;"⟩
theorem dGC_0 : decode cGC 0 = .ok (.aload_n 0, 1) := by decide +kernel
theorem dGC_1 : decode cGC 1 = .ok (.getfield 7, 3) := by decide +kernel
theorem dGC_4 : decode cGC 4 = .ok (.aload_n 0, 1) := by decide +kernel
theorem dGC_5 : decode cGC 5 = .ok (.if_acmp .ne 7, 3) := by decide +kernel
theorem dGC_8 : decode cGC 8 = .ok (.aconst_null, 1) := by decide +kernel
theorem dGC_9 : decode cGC 9 = .ok (.goto 7, 3) := by decide +kernel
theorem dGC_12 : decode cGC 12 = .ok (.aload_n 0, 1) := by decide +kernel
theorem dGC_13 : decode cGC 13 = .ok (.getfield 7, 3) := by decide +kernel
theorem dGC_16 : decode cGC 16 = .ok (.areturn, 1) := by decide +kernel
section GC
variable {p : Program} {l : Launch} {e : Env} {R : Room} {s : State} {m : MethodId} {args : Array Value} {below : List Frame} {meth : Method} {c : Code} {T : State} {locs : List Loc} {cells slots : Nat}
theorem b_gcSteps (X : Stand p l e R s m args below meth c T locs cells slots) (hx : p.tables.exec = Jvm.exec) {g : JFrame} (hg : g.method = m) (hsize : g.locals.size = c.maxLocals) {ig : Instr} {len : Nat} (hdg : decode c.code g.pc = .ok (ig, len))
    {m' : MethodId} {m2 : Method} {c2 : Code} (hn : s.methodNamed? yGC = some m') (hm2 : s.vm.method? m' = some m2) (hc2 : m2.code = some c2) (hb2 : c2.code = cGC) (hl2 : c2.maxLocals = 1) (hret : m2.sig.returnType = some (.object "java/lang/Throwable")) (hlk : m2.locks = true) (hst2 : m2.isStatic = false)
    (hlink : (Cond.fieldLink "java/lang/Throwable" 7 "java/lang/Throwable" "cause" "Ljava/lang/Throwable;").before args s = true)
    {cf i : Nat} {k : Class} {f : Field} (hi : s.fieldFound? "java/lang/Throwable" "cause" "Ljava/lang/Throwable;" = some (cf, k, i, f)) (hst : f.isStatic = false)
    {a : Nat} {cell : Cell} (hcell : T.heap[a]? = some cell) (hknown : cell.vm ≠ .unknown) (hfree : cell.monitor.owner = none) (hcount : cell.monitor.count = 0) {o : Option Nat} (hslot : cell.slots[f.slot]? = some (va_rf o)) (hne : o ≠ some a)
    (hframes : 1 ≤ R.frames) (hlocals : 2 * g.monitorRoom + (g.stack.map fun v => v.category).sum + (1 + 2 + 11) ≤ R.locals) :
    ∃ vm', Stand p l e R s m args below meth c (T.setVm vm') locs cells slots ∧
      ∀ (acts : List Action) target, Steps p.tables e below ((T.setVm vm').setTop { g with pc := g.pc + len, stack := va_rf o :: g.stack }) target → Steps p.tables e below (doInvoke e (T.setTop g) acts m' #[.ref a]).1 target := by
  have hown : s.vm.findClass "java/lang/Throwable" = some m'.cls := findClass_of_methodNamed hn
  have hpl : e.platform.magicAccessors = ({} : Platform).magicAccessors := by rw [X.admits.platform]
  obtain ⟨ci', cfl, k', i', f', hi', hlinks, hright⟩ := Cond.fieldLink_spec hown hlink e.platform hpl
  cases hi.symm.trans hi'
  obtain ⟨hk, hf⟩ := State.fieldFound?_spec hi
  obtain ⟨vm', hgives, hW', hready, hfi⟩ := State.fieldEntry (e := e) X.warmed hlinks hright hk hf
  refine ⟨vm', X.noted hW', fun acts target hrest => ?_⟩
  subst hg
  have h := X.here
  have hm : T.vm.method? m' = some m2 := by rw [X.warmed.alike.method?]; exact hm2
  have hmV : vm'.method? m' = some m2 := by rw [hW'.alike.method?]; exact hm2
  have hlt : a < T.heap.size := (Array.getElem?_eq_some_iff.mp hcell).1
  have hplain : T.plainMethod m' := by
    refine State.plainMethod.of_name ?_
    intro k hk
    obtain ⟨k', hk', hn'⟩ := className_of_methodNamed (X.named hn)
    cases (show T.vm.classes[m'.cls]? = some k from hk).symm.trans hk'
    rw [hn']; decide
  have hroom : e.platform.stackFull (((T.setTop g).threads[(T.setTop g).cur]?).getD { frames := [] }) (T.setTop g).frames (c2.maxLocals + 2) = false := by
    rw [hl2]; exact X.notFull hsize hframes hlocals
  rw [doInvoke_enter_sync h.top acts hm hc2 hlk hst2 rfl hcell (Or.inl hfree) hroom]
  have hT := At.enter_sync (g := g) h #[.ref a] a (cell.withEntry T.cur) hm hc2 hplain
  have hs' : (T.setCell a (cell.withEntry T.cur)).topJava?.isSome := h.top
  have hfr := frames_entered (g := g) hs' (.java (entryFrameSync m' #[.ref a] c2.maxLocals a))
  rw [hl2] at hT hfr ⊢
  have hcell' : (((T.setCell a (cell.withEntry T.cur)).setTop g).pushFrame (.java (entryFrameSync m' #[.ref a] 1 a))).heap[a]? = some (cell.withEntry T.cur) := by
    show (T.heap.setIfInBounds a (cell.withEntry T.cur))[a]? = _
    simp [hlt]
  show Steps p.tables e below ((((T.setCell a (cell.withEntry T.cur)).setTop g).pushFrame (.java (entryFrameSync m' #[.ref a] 1 a))).setTop
    { method := m', pc := 0, locals := #[.val (.ref a)], stack := [], locked := some a, monitorRoom := 1 }) target
  generalize hU : ((T.setCell a (cell.withEntry T.cur)).setTop g).pushFrame (.java (entryFrameSync m' #[.ref a] 1 a)) = U at hT hfr hcell' ⊢
  have hUvm : U.vm = T.vm := by rw [← hU]; rfl
  jvm_step hT [hx, hb2, dGC_0, Value.isRef]
  have hAl : U.vm.Alike vm' := by rw [hUvm]; exact X.warmed.alike.symm.trans hW'.alike
  have hT2 : At (U.setVm vm') m' c2 below := hT.setVm hAl
  have ht2 := fun f => State.topJava?_setTop' (s := U.setVm vm') f hT2.top
  have hg2 : (Jvm.resolveField m'.cls 7).Gives e.toSetting U.vm (.ok (cf, i)) vm' := by rw [hUvm]; exact hgives
  jvm_step hT [hx, hb2, dGC_1, getfield.wp_cold (e := e) (s := U) (f := { method := m', pc := 1, locals := #[.val (.ref a)], stack := [.ref a], locked := some a, monitorRoom := 1 }) hT.top hg2 hready hfi,
    getfield.wp_ready (e := e) (s := U.setVm vm') (c := cf) (field := f) (a := a) (rest := []) (cell := cell.withEntry T.cur) (v := va_rf o)
    (f := { method := m', pc := 1, locals := #[.val (.ref a)], stack := [.ref a], locked := some a, monitorRoom := 1 }) hT2.top hready hst rfl hcell' hknown hslot]
  jvm_step hT2 [hT2.top, ht2, hx, hb2, dGC_4, Value.isRef]
  have hend : ∀ (pc : Nat) (hd : decode c2.code pc = .ok (.areturn, 1)), Steps p.tables e below ((U.setVm vm').setTop { method := m', pc := pc, locals := #[.val (.ref a)], stack := [va_rf o], locked := some a, monitorRoom := 1 }) target := by
    intro pc hd
    have hm3 : (U.setVm vm').vm.method? m' = some m2 := hmV
    have hr : (va_rf o).isRef = true := by cases o <;> rfl
    jvm_step hT2 [hT2.top, ht2, hx, hd, hm3, hret, narrow, hr]
    refine ⟨m2, hmV, ⟨_, hret, rfl⟩, fun acts' => ?_⟩
    rw [doReturn_leave_sync (u := U.setVm vm') (g := g) (meth := m2) (cg := c) (ig := ig) (len := len) (a := a) (cell := cell.withEntry T.cur)
      (f := { method := m', pc := pc, locals := #[.val (.ref a)], stack := [], locked := some a, monitorRoom := 1 }) acts' (Launch.admits_frameOwnsMonitors X.admits) hfr hm3 hlk rfl rfl hcell' (by rw [← hU]; rfl)
      (by
        have h9 := (h.setVm (X.warmed.alike.symm.trans hW'.alike : T.vm.Alike vm')).code
        rw [State.code?_eq] at h9 ⊢
        rw [← hU]
        exact h9) hdg,
      Cell.left_withEntry T.cur hfree hcount]
    have hback : ((U.setVm vm').setCell a cell).setFrames (.java g :: (T.setCell a (cell.withEntry T.cur)).frames.tail) = (T.setVm vm').setTop g := by
      have e1 : (U.setVm vm').setCell a cell = ((T.setVm vm').setTop g).pushFrame (.java (entryFrameSync m' #[.ref a] 1 a)) := by
        have e2 : ((T.setVm vm').setCell a (cell.withEntry T.cur)).setCell a cell = T.setVm vm' := by
          have e3 : ((T.setVm vm').setCell a (cell.withEntry T.cur)).setCell a cell = (T.setVm vm').setCell a cell := by
            simp [State.setCell, Array.setIfInBounds_setIfInBounds]
          rw [e3, State.setCell_same (show (T.setVm vm').heap[a]? = some cell from hcell)]
        rw [← hU]
        calc _ = (((((T.setVm vm').setCell a (cell.withEntry T.cur)).setCell a cell).setTop g).pushFrame (.java (entryFrameSync m' #[.ref a] 1 a))) := rfl
          _ = _ := by rw [e2]
      rw [e1]
      exact setFrames_entered (s := T.setVm vm') h.top _
    rw [hback, State.setTop_setTop]
    simpa using hrest
  cases o with
  | none =>
    jvm_step hT2 [hT2.top, ht2, hx, hb2, dGC_5, if_acmp.holds, Value.asRef?, va_rf]
    intro acts'
    rw [afterInstr_branch e 3 { method := m', pc := 5, locals := #[.val (.ref a)], stack := [], locked := some a, monitorRoom := 1 } acts' 7 hT2.top (by show (0 : Int) ≤ ((5 : Nat) : Int) + 7; omega)]
    show Steps p.tables e below ((U.setVm vm').setTop { method := m', pc := 12, locals := #[.val (.ref a)], stack := [], locked := some a, monitorRoom := 1 }) target
    jvm_step hT2 [hT2.top, ht2, hx, hb2, dGC_12, Value.isRef]
    jvm_step hT2 [hT2.top, ht2, hx, hb2, dGC_13, getfield.wp_ready (e := e) (s := U.setVm vm') (c := cf) (field := f) (a := a) (rest := []) (cell := cell.withEntry T.cur) (v := va_rf none)
      (f := { method := m', pc := 13, locals := #[.val (.ref a)], stack := [.ref a], locked := some a, monitorRoom := 1 }) hT2.top hready hst rfl hcell' hknown hslot]
    exact hend 16 (by rw [hb2]; exact dGC_16)
  | some q =>
    have hqa : ¬ q = a := fun h => hne (by rw [h])
    jvm_step hT2 [hT2.top, ht2, hx, hb2, dGC_5, if_acmp.holds, Value.asRef?, va_rf, hqa]
    intro acts'
    rw [afterInstr_branch e 3 { method := m', pc := 5, locals := #[.val (.ref a)], stack := [], locked := some a, monitorRoom := 1 } acts' 7 hT2.top (by show (0 : Int) ≤ ((5 : Nat) : Int) + 7; omega)]
    show Steps p.tables e below ((U.setVm vm').setTop { method := m', pc := 12, locals := #[.val (.ref a)], stack := [], locked := some a, monitorRoom := 1 }) target
    jvm_step hT2 [hT2.top, ht2, hx, hb2, dGC_12, Value.isRef]
    jvm_step hT2 [hT2.top, ht2, hx, hb2, dGC_13, getfield.wp_ready (e := e) (s := U.setVm vm') (c := cf) (field := f) (a := a) (rest := []) (cell := cell.withEntry T.cur) (v := va_rf (some q))
      (f := { method := m', pc := 13, locals := #[.val (.ref a)], stack := [.ref a], locked := some a, monitorRoom := 1 }) hT2.top hready hst rfl hcell' hknown hslot]
    exact hend 16 (by rw [hb2]; exact dGC_16)
end GC
/-- the call: the cause -/
theorem b_runGC {p : Program} {l : Launch} {e : Env} {R : Room} {s : State} {m : MethodId} {args : Array Value} {below : List Frame} {meth : Method} {c : Code} {H : Heap} {locs : List Loc} {cells slots nL pc a : Nat} {cc : ByteArray} {ls : Array Slot} {rest : List Value} {G : b_G} {B0 : Nat}
    (CX : b_Cx p s m args c cc nL RX22 G B0) (hls : ls.size = nL) {o : Option Nat} {c1 c2 c3 c4 c5 : Value} (hat : b_at G a (.inr (21, [va_rf o, c1, c2, c3, c4, c5])) H) (hmo : b_fm H a) (hne : o ≠ some a)
    (hR : 1 ≤ R.frames ∧ 8 + (1 + 2 + 11) ≤ R.locals) (hw : (rest.map fun v => v.category).sum ≤ 8) (hdg : decode cc pc = .ok (.invokevirtual 9, 3)) :
    va_Run p l e R s m args below meth c H locs cells slots 0 0 (F0 m pc ls (.ref a :: rest)) rest (b_Qq B0 (fun r H1 => r = o ∧ H1 = H) #[.ref a]) (b_A B0) := by
  intro T hT X
  obtain ⟨r1, h1, cell, q1, q2, q3, q4⟩ := hat
  have hr : r1 = (RX22, TX22, 6) := Option.some.inj (h1.symm.trans rfl)
  subst hr
  obtain ⟨ce, m1, mo, mc⟩ := hmo
  cases q1.symm.trans m1
  obtain ⟨hSl, hfc, kC, hkC, hkind⟩ := CX.K.1.1 21 (RX22, TX22, 6) rfl
  obtain ⟨cf, kf, fi, f, hi, hsl⟩ := hSl 0 (by decide)
  have hfacts := (u_facts hfc hkC (u_lays CX.ts in_X22 (show 0 < 6 by decide)) hi).1
  have hx := CX.hx
  have hb := CX.hb
  have hml : c.maxLocals = nL := CX.fix.2.2.1
  have hinst := CX.ts _ q1754
  have hcs := CX.ts _ q1755
  obtain ⟨r0, r, hn, hrm, hst, hab⟩ := Cond.instanceMethod_spec hinst
  obtain ⟨m2, c2', hm2, hc2, hb2, hl2, hret, hlk, -, hsig⟩ := Cond.codeSync_spec hn hcs
  cases hrm.symm.trans hm2
  obtain ⟨cn, ck, r1, hcn, hck, hni, hf, hn1⟩ := Cond.sameMethod_found (CX.ts _ q1751)
  cases hn.symm.trans hn1
  obtain ⟨c3', r2, m3, q1', q2', q3', q4', kP, hkP, hkPi⟩ := Cond.selects_spec (CX.ts _ q1753)
  have hcls : s.vm.findClass RX22 = some cell.cls := by rw [q2]; exact hfc
  cases hcls.symm.trans q1'
  cases hf.symm.trans q2'
  cases hn.symm.trans q3'
  have hselP : selectMethod e.platform s.vm cell.cls r0 = .method r0 := by rw [Launch.admits_selectMethod X.admits]; exact q4'
  have hlen0 : ([] : List Value).length = r.sig.parameters.length := by
    have h9 : parseMethodDescriptor "()Ljava/lang/Throwable;" = some r.sig := hsig
    have h8 : (parseMethodDescriptor "()Ljava/lang/Throwable;").map (fun d => d.parameters.length) = some 0 := by decide +kernel
    rw [h9] at h8
    exact (Option.some.inj h8).symm
  obtain ⟨vm₁, X₁, hstep₁⟩ := X.invokevirtualUp hx CX.ow (CX.ts _ q1750) (CX.ts _ q1751) (by decide) hn hrm hst (a := a) (cell := cell) (by rw [hT]; exact q1)
    (fun z h => by rw [q3] at h; cases h) hselP hrm hab hkP hkPi (g := F0 m pc ls (.ref a :: rest)) rfl (argsL := []) (rest := rest) hlen0 rfl (by rw [hb]; exact hdg)
  obtain ⟨vm₂, X₂, hstep₂⟩ := b_gcSteps X₁ hx (g := { F0 m pc ls (.ref a :: rest) with stack := rest }) rfl (hls.trans hml.symm) (ig := .invokevirtual 9) (len := 3) (by rw [hb]; exact hdg) hn hrm hc2 hb2 hl2 hret hlk hst (CX.ts _ q544) hi hfacts (a := a) (cell := cell) (by show T.heap[a]? = _; rw [hT]; exact q1)
    (by rw [q3]; exact fun h => by cases h) mo mc (o := o) (by rw [hsl, q4 0 (by decide)]; rfl) hne hR.1 (by show 2 * 0 + (rest.map fun v => v.category).sum + (1 + 2 + 11) ≤ R.locals; omega)
  refine ⟨some (va_rf o), T, (T.setVm vm₁).setVm vm₂, (T.setVm vm₁).setVm vm₂, [], hT, by simpa using X₂, (fun q h => nomatch h), rfl, rfl, ⟨⟨o, H, rfl, ⟨rfl, rfl⟩, hT⟩, ⟨Nat.le_refl _, fun _ _ _ => rfl⟩⟩, fun target h => ?_⟩
  exact hstep₁ _ fun acts => hstep₂ acts target h
