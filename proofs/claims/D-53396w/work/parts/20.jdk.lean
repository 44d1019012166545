/-! lists, texts -/
set_option maxRecDepth 100000
def p_max (x y : Int32) : Int32 := if x < y then y else x
theorem p_min1 {x y : Int32} (h : y < x) : y = p_least x y := by
  unfold p_least
  rw [if_neg (fun q => Int32.lt_irrefl (Int32.lt_trans h q))]
theorem q_one (v : Nat) : va_up (fun _ => none) 0 (some v) = fun j => if j < 1 then some v else none := by
  funext j
  by_cases c : j = 0
  · subst c; rfl
  · rw [if_neg (by omega)]
    simp [va_up, c]
theorem q_more (n v : Nat) (f : Nat → Nat) : va_up (fun j => if j < n then some (f j) else none) n (some v) = fun j => if j < n + 1 then some (if j = n then v else f j) else none := by
  funext j
  by_cases c : j = n
  · subst c
    simp [va_up]
  · have e : (if j < n then some (f j) else none) = (if j < n + 1 then some (f j) else none) := by
      by_cases d : j < n
      · rw [if_pos d, if_pos (by omega)]
      · rw [if_neg d, if_neg (by omega)]
    simp [va_up, c, e]
theorem q_last {n : Nat} (h : 0 < n) (f : Nat → Nat) : va_up (fun j => if j < n then some (f j) else none) (n - 1) none = fun j => if j < n - 1 then some (f j) else none := by
  funext j
  unfold va_up
  by_cases c : j = n - 1
  · rw [if_pos c, if_neg (by omega)]
  · rw [if_neg c]
    show (if j < n then some (f j) else none) = _
    by_cases d : j < n
    · rw [if_pos d, if_pos (by omega)]
    · rw [if_neg d, if_neg (by omega)]
theorem q_rem {n i : Nat} (h : i + 1 < n) (f : Nat → Nat) : va_up (va_cpy (fun j => if j < n then some (f j) else none) (fun j => if j < n then some (f j) else none) (i + 1) i (n - 1 - i)) (n - 1) none = fun j => if j < n - 1 then some (if j < i then f j else f (j + 1)) else none := by
  funext j
  unfold va_up va_cpy
  by_cases c : j = n - 1
  · rw [if_pos c, if_neg (by omega)]
  · rw [if_neg c]
    by_cases d : i ≤ j ∧ j < i + (n - 1 - i)
    · rw [if_pos d]
      show (if i + 1 + (j - i) < n then some (f (i + 1 + (j - i))) else none) = _
      rw [if_pos (by omega), if_pos (by omega), if_neg (by omega), show i + 1 + (j - i) = j + 1 by omega]
    · rw [if_neg d]
      show (if j < n then some (f j) else none) = _
      by_cases e : j < n
      · rw [if_pos e, if_pos (by omega), if_pos (by omega)]
      · rw [if_neg e, if_neg (by omega)]
theorem p_minN {n : Nat} (h : n ≤ 60) : p_least (nI n) (nI 60) = nI n := by
  unfold p_least
  by_cases c : nI n < nI 60
  · rw [if_pos c]
  · rw [if_neg c]
    have : ¬ n < 60 := fun q => c ((nI_ltI (by omega) (by decide)).mpr q)
    rw [show n = 60 by omega]
theorem p_and255 {k : Nat} (h : k < 128) : nI k &&& nI 255 = nI k := by
  rw [pk_andN (by omega) 8 (by decide), show k % 2 ^ 8 = k by omega]
theorem p_i2c {k : Nat} (h : k < 128) : ((nI k).toUInt32 % 65536).toInt32 = nI k := by
  rw [pk_char, pk_tn (by omega), show k % 65536 = k by omega]
theorem p_i2b {k : Nat} (h : k < 128) : (nI k).toInt8.toInt32 = nI k := by
  have e : ∀ j : Fin 128, (nI j.1).toInt8.toInt32 = nI j.1 := by decide +kernel
  exact e ⟨k, h⟩
theorem p_narb {k : Nat} (h : k < 128) : vp_nar .byte (nI k) = nI k := by
  have e : ∀ j : Fin 128, vp_nar .byte (nI j.1) = nI j.1 := by decide +kernel
  exact e ⟨k, h⟩
theorem p_cap {m : Nat} (h : m ≤ 60) : nI m - nI 60 ≤ 0 := by
  rw [Int32.le_iff_toInt_le, pk_sub_toInt (by omega) (by omega)]
  show _ ≤ (0 : Int)
  omega
theorem p_min2 {x y : Int32} (h : ¬ y < x) : x = p_least x y := by
  unfold p_least
  by_cases c : x < y
  · rw [if_pos c]
  · rw [if_neg c]
    exact Int32.le_antisymm (Int32.not_lt.mp h) (Int32.not_lt.mp c)
theorem p_minE {x y : Int32} : (if y < x then y else x) = p_least x y := by
  by_cases c : y < x
  · rw [if_pos c]; exact p_min1 c
  · rw [if_neg c]; exact p_min2 c
theorem nofn_X1 : ∀ j, j < 5 → defaultValue (tyX1 j) = vp_V [.null, .null, .null, .null, .long 0] j := by
  intro j hj
  match j, hj with
  | 0, _ => rfl
  | 1, _ => rfl
  | 2, _ => rfl
  | 3, _ => rfl
  | 4, _ => rfl
  | n + 5, h => exact absurd h (by omega)
theorem nofn_X2 : ∀ j, j < 9 → defaultValue (tyX2 j) = vp_V [.null, .null, .null, .null, .int (nI 0), .int (nI 0), .int (nI 0), .int (nI 0), .int (nI 0)] j := by
  intro j hj
  match j, hj with
  | 0, _ => rfl
  | 1, _ => rfl
  | 2, _ => rfl
  | 3, _ => rfl
  | 4, _ => rfl
  | 5, _ => rfl
  | 6, _ => rfl
  | 7, _ => rfl
  | 8, _ => rfl
  | n + 9, h => exact absurd h (by omega)
theorem nofn_J2 : ∀ j, j < 3 → defaultValue (tyJ2 j) = vp_V [.int (nI 0), .null, .int (nI 0)] j := by
  intro j hj
  match j, hj with
  | 0, _ => rfl
  | 1, _ => rfl
  | 2, _ => rfl
  | n + 3, h => exact absurd h (by omega)
theorem nofn_J4 : ∀ j, j < 4 → defaultValue (tyJ4 j) = vp_V [.null, .int (nI 0), .int (nI 0), .int (nI 0)] j := by
  intro j hj
  match j, hj with
  | 0, _ => rfl
  | 1, _ => rfl
  | 2, _ => rfl
  | 3, _ => rfl
  | n + 4, h => exact absurd h (by omega)
theorem nofn_X4 : ∀ j, j < 10 → defaultValue (tyX4 j) = vp_V [.int (nI 0), .int (nI 0), .int (nI 0), .int (nI 0), .int (nI 0), .int (nI 0), .int (nI 0), .int (nI 0), .int (nI 0), .int (nI 0)] j := by
  intro j hj
  match j, hj with
  | 0, _ => rfl
  | 1, _ => rfl
  | 2, _ => rfl
  | 3, _ => rfl
  | 4, _ => rfl
  | 5, _ => rfl
  | 6, _ => rfl
  | 7, _ => rfl
  | 8, _ => rfl
  | 9, _ => rfl
  | n + 10, h => exact absurd h (by omega)
theorem nofn_X5 : ∀ j, j < 7 → defaultValue (tyX5 j) = vp_V [.null, .null, .int (nI 0), .int (nI 0), .int (nI 0), .int (nI 0), .int (nI 0)] j := by
  intro j hj
  match j, hj with
  | 0, _ => rfl
  | 1, _ => rfl
  | 2, _ => rfl
  | 3, _ => rfl
  | 4, _ => rfl
  | 5, _ => rfl
  | 6, _ => rfl
  | n + 7, h => exact absurd h (by omega)
theorem nofn_X20 : ∀ j, j < 3 → defaultValue (tyX20 j) = vp_V [.null, .int (nI 0), .null] j := by
  intro j hj
  match j, hj with
  | 0, _ => rfl
  | 1, _ => rfl
  | 2, _ => rfl
  | n + 3, h => exact absurd h (by omega)
theorem nofn_X21 : ∀ j, j < 4 → defaultValue (tyX21 j) = vp_V [.int (nI 0), .int (nI 0), .int (nI 0), .int (nI 0)] j := by
  intro j hj
  match j, hj with
  | 0, _ => rfl
  | 1, _ => rfl
  | 2, _ => rfl
  | 3, _ => rfl
  | n + 4, h => exact absurd h (by omega)
theorem nofn_X3 : ∀ j, j < 16 → defaultValue (tyX3 j) = vp_V [.null, .null, .null, .int (nI 0), .null, .int (nI 0), .int (nI 0), .null, .null, .int (nI 0), .int (nI 0), .int (nI 0), .int (nI 0), .int (nI 0), .int (nI 0), .int (nI 0)] j := by
  intro j hj
  match j, hj with
  | 0, _ => rfl
  | 1, _ => rfl
  | 2, _ => rfl
  | 3, _ => rfl
  | 4, _ => rfl
  | 5, _ => rfl
  | 6, _ => rfl
  | 7, _ => rfl
  | 8, _ => rfl
  | 9, _ => rfl
  | 10, _ => rfl
  | 11, _ => rfl
  | 12, _ => rfl
  | 13, _ => rfl
  | 14, _ => rfl
  | 15, _ => rfl
  | n + 16, h => exact absurd h (by omega)
theorem nofn_X12 : ∀ j, j < 5 → defaultValue (tyX12 j) = vp_V [.null, .int (nI 0), .int (nI 0), .int (nI 0), .null] j := by
  intro j hj
  match j, hj with
  | 0, _ => rfl
  | 1, _ => rfl
  | 2, _ => rfl
  | 3, _ => rfl
  | 4, _ => rfl
  | n + 5, h => exact absurd h (by omega)
theorem nofn_X13 : ∀ j, j < 5 → defaultValue (tyX13 j) = vp_V [.null, .int (nI 0), .int (nI 0), .int (nI 0), .null] j := by
  intro j hj
  match j, hj with
  | 0, _ => rfl
  | 1, _ => rfl
  | 2, _ => rfl
  | 3, _ => rfl
  | 4, _ => rfl
  | n + 5, h => exact absurd h (by omega)
theorem nofn_X14 : ∀ j, j < 5 → defaultValue (tyX14 j) = vp_V [.null, .int (nI 0), .int (nI 0), .int (nI 0), .null] j := by
  intro j hj
  match j, hj with
  | 0, _ => rfl
  | 1, _ => rfl
  | 2, _ => rfl
  | 3, _ => rfl
  | 4, _ => rfl
  | n + 5, h => exact absurd h (by omega)
theorem nofn_X15 : ∀ j, j < 5 → defaultValue (tyX15 j) = vp_V [.null, .int (nI 0), .int (nI 0), .int (nI 0), .null] j := by
  intro j hj
  match j, hj with
  | 0, _ => rfl
  | 1, _ => rfl
  | 2, _ => rfl
  | 3, _ => rfl
  | 4, _ => rfl
  | n + 5, h => exact absurd h (by omega)
theorem nofn_X17 : ∀ j, j < 5 → defaultValue (tyX17 j) = vp_V [.null, .int (nI 0), .int (nI 0), .int (nI 0), .null] j := by
  intro j hj
  match j, hj with
  | 0, _ => rfl
  | 1, _ => rfl
  | 2, _ => rfl
  | 3, _ => rfl
  | 4, _ => rfl
  | n + 5, h => exact absurd h (by omega)
theorem nofn_X7 : ∀ j, j < 4 → defaultValue (tyX7 j) = vp_V [.null, .int (nI 0), .int (nI 0), .null] j := by
  intro j hj
  match j, hj with
  | 0, _ => rfl
  | 1, _ => rfl
  | 2, _ => rfl
  | 3, _ => rfl
  | n + 4, h => exact absurd h (by omega)
theorem nofn_X16 : ∀ j, j < 4 → defaultValue (tyX16 j) = vp_V [.null, .int (nI 0), .int (nI 0), .null] j := by
  intro j hj
  match j, hj with
  | 0, _ => rfl
  | 1, _ => rfl
  | 2, _ => rfl
  | 3, _ => rfl
  | n + 4, h => exact absurd h (by omega)
theorem nofn_X18 : ∀ j, j < 4 → defaultValue (tyX18 j) = vp_V [.null, .int (nI 0), .int (nI 0), .null] j := by
  intro j hj
  match j, hj with
  | 0, _ => rfl
  | 1, _ => rfl
  | 2, _ => rfl
  | 3, _ => rfl
  | n + 4, h => exact absurd h (by omega)
theorem nofn_X19 : ∀ j, j < 5 → defaultValue (tyX19 j) = vp_V [.null, .int (nI 0), .int (nI 0), .int (nI 0), .null] j := by
  intro j hj
  match j, hj with
  | 0, _ => rfl
  | 1, _ => rfl
  | 2, _ => rfl
  | 3, _ => rfl
  | 4, _ => rfl
  | n + 5, h => exact absurd h (by omega)
theorem nofn_X9 : ∀ j, j < 6 → defaultValue (tyX9 j) = vp_V [.null, .null, .null, .null, .null, .int (nI 0)] j := by
  intro j hj
  match j, hj with
  | 0, _ => rfl
  | 1, _ => rfl
  | 2, _ => rfl
  | 3, _ => rfl
  | 4, _ => rfl
  | 5, _ => rfl
  | n + 6, h => exact absurd h (by omega)
theorem nofn_X10 : ∀ j, j < 6 → defaultValue (tyX10 j) = vp_V [.null, .null, .null, .null, .null, .int (nI 0)] j := by
  intro j hj
  match j, hj with
  | 0, _ => rfl
  | 1, _ => rfl
  | 2, _ => rfl
  | 3, _ => rfl
  | 4, _ => rfl
  | 5, _ => rfl
  | n + 6, h => exact absurd h (by omega)
theorem nofn_X11 : ∀ j, j < 6 → defaultValue (tyX11 j) = vp_V [.null, .null, .null, .null, .null, .int (nI 0)] j := by
  intro j hj
  match j, hj with
  | 0, _ => rfl
  | 1, _ => rfl
  | 2, _ => rfl
  | 3, _ => rfl
  | 4, _ => rfl
  | 5, _ => rfl
  | n + 6, h => exact absurd h (by omega)
theorem nofn_X22 : ∀ j, j < 6 → defaultValue (tyX22 j) = vp_V [.null, .null, .null, .null, .null, .int (nI 0)] j := by
  intro j hj
  match j, hj with
  | 0, _ => rfl
  | 1, _ => rfl
  | 2, _ => rfl
  | 3, _ => rfl
  | 4, _ => rfl
  | 5, _ => rfl
  | n + 6, h => exact absurd h (by omega)
section R4
variable {p : Program} {l : Launch} {e : Env} {R : Room} {s : State} {m : MethodId} {args : Array Value} {below : List Frame} {meth : Method} {c : Code} {H : Heap} {locs : List Loc} {cells slots : Nat} {Q : State → Prop}
variable {cc : ByteArray} {pc nL : Nat} {own : String} {ls : Array Slot} {rest : List Value} {G : b_G} {B0 a : Nat}
theorem b_cv0 {st0 : List Value} {a0 : Array Value} (hr : va_Run p l e R s m args below meth c H locs cells slots 0 0 (F0 m pc ls st0) rest (b_Qv B0 (fun H1 => H1 = H) a0) (b_A B0)) (hS : va_S (b_A B0) s.heap H locs)
    (kk : ∀ locs1 : List Loc, va_S (b_A B0) s.heap H locs1 → W p l e R s m args below meth c H locs1 cells slots Q (F0 m (pc + 3) ls rest)) : W p l e R s m args below meth c H locs cells slots Q (F0 m pc ls st0) :=
  b_cv hr hS (fun H1 locs1 hp hS1 => by
    obtain rfl := hp
    exact kk locs1 hS1)
theorem b_bst (CX : b_Cx p s m args c cc nL own G B0) {n : Nat} {f : Nat → Int32} (hP : b_at G a (.inl (G.2.1 1, n, .inl f)) H) (hS : va_S (b_A B0) s.heap H locs) (ha : B0 ≤ a) {i x : Int32} (hin : vp_in i n) (hdg : decode cc pc = .ok (.bastore, 1))
    (kk : ∀ (H1 : Heap) (locs1 : List Loc), b_at G a (.inl (G.2.1 1, n, .inl (upd f i.toNatClampNeg (vp_nar .byte x)))) H1 → b_Up a H H1 → va_S (b_A B0) s.heap H1 locs1 → W p l e R s m args below meth c H1 locs1 cells slots Q (F0 m (pc + 1) ls rest)) : W p l e R s m args below meth c H locs cells slots Q (F0 m pc ls (.int x :: .int i :: .ref a :: rest)) := by
  refine W.bast CX.hx CX.hb (b_P hP 0 _ rfl) ((CX.K.1.2 1 _ rfl).1 n (fun j => .int (f j))) (fun q => by cases q) (by show ¬ (i < 0 ∨ (arrV _ _ _).slots.size ≤ _); rw [arrV_size]; exact hin) rfl rfl hdg fun H1 e z oq => ?_
  refine kk H1 _ ?_ ⟨z, oq⟩ (b_Sput hS ⟨z, oq⟩ ha)
  show H1[a]? = some (vp_cell _ _)
  rw [e]
  rw [vp_cell_i, vp_cell_i, arrV_store]
  congr 2
  funext q
  by_cases hq : q = i.toNatClampNeg
  · subst hq
    simp [updV, upd, vp_nar]
    try rfl
  · simp [updV, upd, hq]
theorem b_at_nQ {α : Type} {f : Nat → α} {n : Nat} {x : α} (hn : n < 2147483648) (h : f n = x) : f (nI n).toNatClampNeg = x := by
  rw [nI_cl hn]; exact h
end R4
theorem lw_U {own C owner : String} {idx : Nat} {x y : MethodName} {b : ByteArray} {L : Nat} {r : Option FieldType} (h1 : Cond.methodLink own idx x ∈ lw_all) (h2 : Cond.sameMethod x.cls owner x.name x.desc ∈ lw_all) (h3 : Cond.selects C x y ∈ lw_all) (h4 : Cond.instanceMethod y ∈ lw_all) (h5 : Cond.initialized y.cls ∈ lw_all) (h6 : Cond.code y b L r ∈ lw_all) : GoodIn lw_all (va_wsU own idx C owner x y (ws_ y b L r)) := by
  refine lw_app ?_ (lw_meth h6)
  intro w hw
  simp only [List.mem_cons, List.not_mem_nil, or_false] at hw
  rcases hw with e | e | e | e | e
  · rw [e]; exact h1
  · rw [e]; exact h2
  · rw [e]; exact h3
  · rw [e]; exact h4
  · rw [e]; exact h5
section VPV
variable {p : Program} {l : Launch} {e : Env} {R : Room} {s : State} {m : MethodId} {args : Array Value} {below : List Frame} {meth : Method} {c : Code}
/-- a private method, called through an object of a class below its own -/
theorem b_callVP {T : State} {locs : List Loc} {cells slots : Nat} (X : Stand p l e R s m args below meth c T locs cells slots) (hexec : p.tables.exec = Jvm.exec) {own : String} {index : Nat} {y : MethodName} {bytes : ByteArray} {maxL : Nat} {ret : Option FieldType}
    (hown : s.vm.findClass own = some m.cls) (hlink : (Cond.methodLink own index y).before args s = true) (hsame : (Cond.sameMethod y.cls y.cls y.name y.desc).before args s = true)
    (howner : y.cls ≠ "java/lang/invoke/MethodHandle" ∧ y.cls ≠ "java/lang/invoke/VarHandle")
    (hpriv : (Cond.privateMethod y).before args s = true) (hinst : (Cond.instanceMethod y).before args s = true) (hcode : (Cond.code y bytes maxL ret).before args s = true)
    {W : Nat} {Pre : Pt → Array Value → Prop} {Post : Pt → Array Value → Option Value → Pt → Prop} (hK : Back l R p e below s args y 3 W Pre Post)
    {b : Addr} {cellB : Cell} (hcell : T.heap[b]? = some cellB) (hobj : cellB.vm.isStatics = false)
    {g : JFrame} (hg : g.method = m) (hsize : g.locals.size = c.maxLocals) {argsL rest : List Value} (hlen : ∀ sig, parseMethodDescriptor y.desc = some sig → argsL.length = sig.parameters.length)
    (hstack : g.stack = argsL.reverse ++ .ref b :: rest) (hW : 2 * g.monitorRoom + (rest.map fun v => v.category).sum ≤ W) (hdg : decode c.code g.pc = .ok (.invokevirtual index, 3))
    (hpre : ∀ vm₁, s.WarmedH vm₁ → Pre ⟨T.setVm vm₁, locs, cells, slots⟩ (Value.ref b :: argsL).toArray) :
    ∃ (v : Option Value) (vm₁ : Vm) (B : Pt), s.WarmedH vm₁ ∧ Stand p l e R s m args below meth c B.U B.locs B.cells B.slots ∧ Post ⟨T.setVm vm₁, locs, cells, slots⟩ (Value.ref b :: argsL).toArray v B ∧
      ∀ target, Steps p.tables e below (B.U.setTop { g with pc := g.pc + 3, stack := v.toList ++ rest }) target → Steps p.tables e below (T.setTop g) target := by
  obtain ⟨mk, methM, hnamed, hmethM, hstM, habM⟩ := Cond.instanceMethod_spec hinst
  obtain ⟨methM', cM, hmethM', hcodeM', -, hlocalsM, -, -, -, hsigM⟩ := Cond.code_spec hnamed hcode
  cases hmethM.symm.trans hmethM'
  obtain ⟨cn, ck, r1, hcn, hck, hni, hf, hn1⟩ := Cond.sameMethod_found hsame
  have hcls : mk.cls = cn := Option.some.inj ((findClass_of_methodNamed hnamed).symm.trans hcn)
  have hselP : selectMethod e.platform s.vm cellB.cls mk = .method mk := selectMethod_private hmethM (Cond.privateMethod_at hpriv mk methM hnamed hmethM)
  obtain ⟨vm₁, X₁, hstep₁⟩ := X.invokevirtualUp hexec hown hlink hsame howner hnamed hmethM hstM (a := b) (cell := cellB) hcell
    (fun z h => by rw [h] at hobj; cases hobj) hselP hmethM habM (by rw [hcls]; exact hck) hni (g := g) hg (argsL := argsL) (rest := rest) (hlen _ hsigM) hstack hdg
  obtain ⟨v, B, X', hpost, hsteps⟩ := hK m meth c ⟨T.setVm vm₁, locs, cells, slots⟩ { g with stack := rest } (.invokevirtual index) mk (Value.ref b :: argsL).toArray X₁ hg hsize hdg hW (X₁.named hnamed) (hpre vm₁ X₁.warmed)
  exact ⟨v, vm₁, B, X₁.warmed, X', hpost, fun target h => hstep₁ _ fun acts => by rw [doInvoke_state]; exact hsteps.trans h⟩
variable {H : Heap} {locs : List Loc} {cells slots : Nat}
theorem b_runP {y : MethodName} {bytes cc : ByteArray} {maxL nL mc ms n index : Nat} {ret : Option FieldType} {ws : List Cond} {rm : Room} {Pc : Array Value → State → Prop} {Qc : Array Value → State → Outcome → State → Prop} {free : Addr → Prop} {Ts : List Cond} {own C : String} {b : Addr} {As rest : List Value} {g : JFrame}
    (S : CallFix p m c cc nL s args Ts own) (hM : Met l y ws rm Pc Qc mc ms free)
    (cw : (rm.cells = mc ∧ rm.slots = ms ∧ rm.frames + 1 ≤ R.frames ∧ 8 + (maxL + 11) + rm.locals ≤ R.locals ∧ (∀ w ∈ ws, ∀ (a' : Array Value) (U : State), s.WarmedH U.vm → w.before a' U = true) ∧ Cond.code y bytes maxL ret ∈ ws) ∧ (Cond.methodLink own index y).before args s = true ∧ (Cond.sameMethod y.cls y.cls y.name y.desc).before args s = true ∧ (y.cls ≠ "java/lang/invoke/MethodHandle" ∧ y.cls ≠ "java/lang/invoke/VarHandle") ∧ (Cond.privateMethod y).before args s = true ∧ (Cond.instanceMethod y).before args s = true ∧ (Cond.initialized y.cls).before args s = true ∧ (Cond.code y bytes maxL ret).before args s = true ∧ (∀ sig, parseMethodDescriptor y.desc = some sig → n = sig.parameters.length)) (hp : PreV s H C b Pc As)
    (hg : g.method = m) (hn : As.length = n) (hsize : g.locals.size = nL) (hstack : g.stack = As.reverse ++ .ref b :: rest) (hW : 2 * g.monitorRoom + (rest.map fun v => v.category).sum ≤ 8) (hdg : decode cc g.pc = .ok (.invokevirtual index, 3)) (hf : cells + mc ≤ R.cells ∧ slots + ms ≤ R.slots) :
    va_Run p l e R s m args below meth c H locs cells slots mc ms g rest (Qc (Value.ref b :: As).toArray) (free) := by
  obtain ⟨⟨hrc, hrs, hfr, hlo, hws, hcw⟩, k1, k2, k3, k4, k5, hini, k7, k8⟩ := cw
  have hK : Back l R p e below s args y 3 8 (PreOf R mc ms Pc) (PostOf Qc mc ms free) := back_of (bytes := bytes) (maxL := maxL) (ret := ret) hM hp.1 hrc hrs hfr hlo hws hcw (fun a' U hW => word_at hW (Or.inl (by first | rfl | simp [Cond.onTables, Cond.keeps, Cond.steady])) hini)
  obtain ⟨hx, hb, hml, ho, -⟩ := S
  obtain ⟨-, ⟨cellB, hcB, hoB, hclB⟩, hPc⟩ := hp
  intro T hT X
  obtain ⟨v, vm₁, ⟨U', l2, c2, s2⟩, hW₁, X', ⟨g', mk, t, L, e1, e2, hq, h1, hL, h2, h3⟩, st⟩ := b_callVP X hx (bytes := bytes) (maxL := maxL) (ret := ret) ho k1 k2 k3 k4 k5 k7 hK (by rw [hT]; exact hcB) hoB hg (hsize.trans hml.symm) (argsL := As) (rest := rest) (fun sig h => hn.trans (k8 sig h)) hstack hW (by rw [hb]; exact hdg)
    (fun vm₁ hW₁ => ⟨hf.1, hf.2, hPc (T.setVm vm₁) hT hW₁⟩)
  dsimp only [Pt.U, Pt.locs, Pt.cells, Pt.slots] at X' e1 e2 h1 h2 h3 st
  subst h1; subst h2; subst h3
  exact ⟨v, (T.setVm vm₁).calling g' mk (Value.ref b :: As).toArray, t, U', L, hT, X', hL, e1, e2, hq, st⟩
end VPV
theorem b_cwP {R : Room} {s : State} {args : Array Value} {own : String} {index maxL mc ms : Nat} {y : MethodName} {bytes : ByteArray} {ret : Option FieldType} {rm : Room} (n : Nat) (ht : ∀ w ∈ lw_all, w.before args s = true) (h1 : Cond.methodLink own index y ∈ lw_all) (h2 : Cond.sameMethod y.cls y.cls y.name y.desc ∈ lw_all) (h3 : (Cond.privateMethod y).before args s = true) (h4 : Cond.instanceMethod y ∈ lw_all) (h5 : Cond.initialized y.cls ∈ lw_all) (h6 : Cond.code y bytes maxL ret ∈ lw_all) (hrc : rm.cells = mc) (hrs : rm.slots = ms)
    (hd : (y.cls ≠ "java/lang/invoke/MethodHandle" ∧ y.cls ≠ "java/lang/invoke/VarHandle") ∧ (parseMethodDescriptor y.desc).map (fun d => d.parameters.length) = some n) (hR : rm.frames + 1 ≤ R.frames ∧ 8 + (maxL + 11) + rm.locals ≤ R.locals) :
    (rm.cells = mc ∧ rm.slots = ms ∧ rm.frames + 1 ≤ R.frames ∧ 8 + (maxL + 11) + rm.locals ≤ R.locals ∧ (∀ w ∈ ws_ y bytes maxL ret, ∀ (a' : Array Value) (U : State), s.WarmedH U.vm → w.before a' U = true) ∧ Cond.code y bytes maxL ret ∈ ws_ y bytes maxL ret) ∧ (Cond.methodLink own index y).before args s = true ∧ (Cond.sameMethod y.cls y.cls y.name y.desc).before args s = true ∧ (y.cls ≠ "java/lang/invoke/MethodHandle" ∧ y.cls ≠ "java/lang/invoke/VarHandle") ∧ (Cond.privateMethod y).before args s = true ∧ (Cond.instanceMethod y).before args s = true ∧ (Cond.initialized y.cls).before args s = true ∧ (Cond.code y bytes maxL ret).before args s = true ∧ (∀ sig, parseMethodDescriptor y.desc = some sig → n = sig.parameters.length) := by
  have hc : Cond.code y bytes maxL ret ∈ ws_ y bytes maxL ret := List.mem_cons_self
  refine ⟨⟨hrc, hrs, hR.1, hR.2, pay_in ht (lw_meth h6), hc⟩, ht _ h1, ht _ h2, hd.1, h3, ht _ h4, ht _ h5, ht _ h6, fun sig h => ?_⟩
  have h2 := hd.2
  rw [h] at h2
  exact (Option.some.inj h2).symm
theorem lw_SU {own : String} {idx : Nat} {y : MethodName} {b : ByteArray} {L : Nat} {r : Option FieldType} (h1 : Cond.methodLink own idx y ∈ lw_all) (h2 : Cond.sameMethod y.cls y.cls y.name y.desc ∈ lw_all) (h3 : Cond.superclass own y.cls ∈ lw_all) (h4 : Cond.instanceMethod y ∈ lw_all) (h5 : Cond.initialized y.cls ∈ lw_all) (h6 : Cond.code y b L r ∈ lw_all) : GoodIn lw_all (va_wsSU own idx y (ws_ y b L r)) := by
  refine lw_app ?_ (lw_meth h6)
  intro w hw
  simp only [List.mem_cons, List.not_mem_nil, or_false] at hw
  rcases hw with e | e | e | e | e
  · rw [e]; exact h1
  · rw [e]; exact h2
  · rw [e]; exact h3
  · rw [e]; exact h4
  · rw [e]; exact h5

set_option maxHeartbeats 2000000 in
set_option maxRecDepth 100000 in
theorem m_J0_init (l : Launch) {G : b_G} {B0 : Nat} {H : Heap} {a : Nat} : Met l yJ0_init (ws_ yJ0_init cJ0_init 1 (Option.none)) ({ frames := 1, cells := 0, slots := 0, locals := 20 } : Room) (b_Pc G B0 H [.ref a]) (b_Qv B0 (fun H1 => H1 = H)) 0 0 (b_A B0) := by
  refine b_of (by decide) (Nat.le_of_ble_eq_true rfl) ?_
  intro p e s m below meth c CX hr hlk hnm hS ls hl
  have CX : b_Cx p s m _ c cJ0_init 1 RJ0 G B0 := CX
  have hx := CX.hx
  have hb := CX.hb
  have hl : lv_has ls 1 [(0, .ref a)] := hl
  generalize hQ : MQ below (b_Qv B0 (fun H1 => H1 = H)) ([.ref a] : List Value).toArray s 0 0 (b_A B0) = Q
  refine lv_aload_n hx hb dJ0_init_0 rfl (lv_at hl 0 rfl) ?_
  refine W.objInit hx hb CX.ow (CX.ts _ q151) (CX.ts _ q132) (CX.ts _ q133) rfl (by rw [CX.ml]; exact hl.1) rfl dJ0_init_1 (Nat.le_of_ble_eq_true rfl) (Nat.le_of_ble_eq_true rfl) ?_
  refine W.eq (g2 := F0 m 4 ls []) rfl ?_
  rw [← hQ]
  exact b_vret CX hr hlk hS (Nat.le_of_ble_eq_true rfl) (Nat.le_of_ble_eq_true rfl) dJ0_init_4 (rfl)
theorem cs_J1_1 {p : Program} {l : Launch} {e : Env} {R : Room} {s : State} {m : MethodId} {args : Array Value} {below : List Frame} {meth : Method} {c : Code} {H : Heap} {locs : List Loc} {cells slots : Nat} {cc : ByteArray} {pc nL a : Nat} {ls : Array Slot} {rest : List Value} {G : b_G} {B0 : Nat} (CX : b_Cx p s m args c cc nL RJ1 G B0) (hls : ls.size = nL) {rm : Room} {mc ms : Nat} {As st0 : List Value} {Qc : Array Value → State → Outcome → State → Prop} (hM : Met l yJ0_init (ws_ yJ0_init cJ0_init 1 (Option.none)) rm (b_Pc G B0 H (.ref a :: As)) Qc mc ms (b_A B0)) (hn : As.length = 0) (hS : va_S (b_A B0) s.heap H locs) (hst : st0 = As.reverse ++ .ref a :: rest) (hr : rm.cells = mc ∧ rm.slots = ms ∧ rm.frames + 1 ≤ R.frames ∧ 8 + (1 + 11) + rm.locals ≤ R.locals) (hw : (rest.map fun v => v.category).sum ≤ 8) (hdg : decode cc pc = .ok (.invokespecial 1, 3)) (hf : cells + mc ≤ R.cells ∧ slots + ms ≤ R.slots) : va_Run p l e R s m args below meth c H locs cells slots mc ms (F0 m pc ls st0) rest (Qc (Value.ref a :: As).toArray) (b_A B0) := va_runI CX.fix hM (cwI 0 CX.ts (lw_meth q150) rfl hr.1 hr.2.1 (CX.ts _ q81) (CX.ts _ q148) (CX.ts _ q149) rfl (by decide +kernel) ⟨hr.2.2.1, hr.2.2.2⟩) ⟨b_blind G B0 H _, b_pre _ CX.K hS⟩ rfl hn hls hst (lv_room hw) hdg hf
theorem pf_J1_7_2 {p : Program} {l : Launch} {e : Env} {R : Room} {s : State} {m : MethodId} {args : Array Value} {below : List Frame} {meth : Method} {c : Code} {H : Heap} {locs : List Loc} {cells slots : Nat} {Q : State → Prop} {cc : ByteArray} {pc nL a : Nat} {ls : Array Slot} {rest : List Value} {G : b_G} {B0 : Nat} (CX : b_Cx p s m args c cc nL RJ1 G B0) {fs : List Value} (hP : b_at G a (.inr (2, fs)) H) (hS : va_S (b_A B0) s.heap H locs) (ha : B0 ≤ a) {v : Value} (hn : narrow (tyJ2 0) v = v) (hfit : fits (tyJ2 0) v = true) (hl : 0 < fs.length) (hdg : decode cc pc = .ok (.putfield 7, 3)) (kk : ∀ (H1 : Heap) (locs1 : List Loc), b_at G a (.inr (2, fs.set 0 v)) H1 → b_Up a H H1 → va_S (b_A B0) s.heap H1 locs1 → W p l e R s m args below meth c H1 locs1 cells slots Q (F0 m (pc + 3) ls rest)) : W p l e R s m args below meth c H locs cells slots Q (F0 m pc ls (v :: .ref a :: rest)) := b_put CX in_J2 tyJ2 tyJ2_ok rfl 0 (by decide) (by decide +kernel) q156 (Or.inl rfl) rfl hP hS ha hn hfit hl hdg kk
set_option maxHeartbeats 2000000 in
set_option maxRecDepth 100000 in
theorem m_J1_init (l : Launch) {G : b_G} {B0 : Nat} {H : Heap} {τ : b_T} {a : Nat} {ta : Nat} (hc_th : b_tt G B0 τ H a (ta) (.inr (2, [.int (nI 0), .null, .int (nI 0)]))) : Met l yJ1_init (ws_ yJ1_init cJ1_init 1 (Option.none)) ({ frames := 2, cells := 0, slots := 0, locals := 40 } : Room) (b_Pc G B0 H [.ref a]) (b_Qv B0 (fun H1 => b_Fr τ (fun t => t = ta) H H1 ∧ b_tt G B0 τ H1 a (ta) (.inr (2, [.int (nI 0), .null, .int (nI 0)])))) 0 0 (b_A B0) := by
  refine b_of (by decide) (Nat.le_of_ble_eq_true rfl) ?_
  intro p e s m below meth c CX hr hlk hnm hS ls hl
  have CX : b_Cx p s m _ c cJ1_init 1 RJ1 G B0 := CX
  have hx := CX.hx
  have hb := CX.hb
  have hl : lv_has ls 1 [(0, .ref a)] := hl
  generalize hQ : MQ below (b_Qv B0 (fun H1 => b_Fr τ (fun t => t = ta) H H1 ∧ b_tt G B0 τ H1 a (ta) (.inr (2, [.int (nI 0), .null, .int (nI 0)])))) ([.ref a] : List Value).toArray s 0 0 (b_A B0) = Q
  have hF : b_Fr τ (fun t => t = ta) H H := b_Fr.rf
  have hA : b_Ag τ τ H := b_Ag.rf
  refine lv_aload_n hx hb dJ1_init_0 rfl (lv_at hl 0 rfl) ?_
  refine b_cv0 (cs_J1_1 (rest := []) CX hl.1 (m_J0_init l (a := a) ) rfl hS rfl ⟨rfl, rfl, Nat.le_of_ble_eq_true rfl, Nat.le_of_ble_eq_true rfl⟩ (Nat.le_of_ble_eq_true rfl) dJ1_init_1 ⟨Nat.le_of_ble_eq_true rfl, Nat.le_of_ble_eq_true rfl⟩) hS (fun locs hS => ?_)
  refine lv_aload_n hx hb dJ1_init_4 rfl (lv_at hl 0 rfl) ?_
  refine lv_iconst (v := nI 0) hx hb dJ1_init_5 rfl ?_
  refine pf_J1_7_2 CX hc_th.at hS hc_th.B rfl rfl (Nat.le_of_ble_eq_true rfl) dJ1_init_6 (fun H1 locs hat hu hS => ?_)
  have hF := hF.up hA hu hc_th.tag (fun _ => show (ta) = ta by omega)
  have hc_th : b_tt G B0 τ H1 a (ta) (.inr (2, [.int (nI 0), .null, .int (nI 0)])) := hc_th.set hat
  rw [← hQ]
  exact b_vret CX hr hlk hS (Nat.le_of_ble_eq_true rfl) (Nat.le_of_ble_eq_true rfl) dJ1_init_9 (⟨hF, hc_th⟩)
theorem cs_J2_1 {p : Program} {l : Launch} {e : Env} {R : Room} {s : State} {m : MethodId} {args : Array Value} {below : List Frame} {meth : Method} {c : Code} {H : Heap} {locs : List Loc} {cells slots : Nat} {cc : ByteArray} {pc nL a : Nat} {ls : Array Slot} {rest : List Value} {G : b_G} {B0 : Nat} (CX : b_Cx p s m args c cc nL RJ2 G B0) (hls : ls.size = nL) {rm : Room} {mc ms : Nat} {As st0 : List Value} {Qc : Array Value → State → Outcome → State → Prop} (hM : Met l yJ1_init (ws_ yJ1_init cJ1_init 1 (Option.none)) rm (b_Pc G B0 H (.ref a :: As)) Qc mc ms (b_A B0)) (hn : As.length = 0) (hS : va_S (b_A B0) s.heap H locs) (hst : st0 = As.reverse ++ .ref a :: rest) (hr : rm.cells = mc ∧ rm.slots = ms ∧ rm.frames + 1 ≤ R.frames ∧ 8 + (1 + 11) + rm.locals ≤ R.locals) (hw : (rest.map fun v => v.category).sum ≤ 8) (hdg : decode cc pc = .ok (.invokespecial 1, 3)) (hf : cells + mc ≤ R.cells ∧ slots + ms ≤ R.slots) : va_Run p l e R s m args below meth c H locs cells slots mc ms (F0 m pc ls st0) rest (Qc (Value.ref a :: As).toArray) (b_A B0) := va_runI CX.fix hM (cwI 0 CX.ts (lw_meth q147) rfl hr.1 hr.2.1 (CX.ts _ q82) (CX.ts _ q145) (CX.ts _ q146) rfl (by decide +kernel) ⟨hr.2.2.1, hr.2.2.2⟩) ⟨b_blind G B0 H _, b_pre _ CX.K hS⟩ rfl hn hls hst (lv_room hw) hdg hf
theorem pf_J2_9_2 {p : Program} {l : Launch} {e : Env} {R : Room} {s : State} {m : MethodId} {args : Array Value} {below : List Frame} {meth : Method} {c : Code} {H : Heap} {locs : List Loc} {cells slots : Nat} {Q : State → Prop} {cc : ByteArray} {pc nL a : Nat} {ls : Array Slot} {rest : List Value} {G : b_G} {B0 : Nat} (CX : b_Cx p s m args c cc nL RJ2 G B0) {fs : List Value} (hP : b_at G a (.inr (2, fs)) H) (hS : va_S (b_A B0) s.heap H locs) (ha : B0 ≤ a) {v : Value} (hn : narrow (tyJ2 1) v = v) (hfit : fits (tyJ2 1) v = true) (hl : 1 < fs.length) (hdg : decode cc pc = .ok (.putfield 9, 3)) (kk : ∀ (H1 : Heap) (locs1 : List Loc), b_at G a (.inr (2, fs.set 1 v)) H1 → b_Up a H H1 → va_S (b_A B0) s.heap H1 locs1 → W p l e R s m args below meth c H1 locs1 cells slots Q (F0 m (pc + 3) ls rest)) : W p l e R s m args below meth c H locs cells slots Q (F0 m pc ls (v :: .ref a :: rest)) := b_put CX in_J2 tyJ2 tyJ2_ok rfl 1 (by decide) (by decide +kernel) q154 (Or.inl rfl) rfl hP hS ha hn hfit hl hdg kk
set_option maxHeartbeats 2000000 in
set_option maxRecDepth 100000 in
theorem m_J2_init (l : Launch) {G : b_G} {B0 : Nat} {H : Heap} {τ : b_T} {a : Nat} {ta : Nat} (hc_th : b_tt G B0 τ H a (ta) (.inr (2, [.int (nI 0), .null, .int (nI 0)]))) : Met l yJ2_init (ws_ yJ2_init cJ2_init 1 (Option.none)) ({ frames := 3, cells := 0, slots := 0, locals := 60 } : Room) (b_Pc G B0 H [.ref a]) (b_Qv B0 (fun H1 => b_Fr τ (fun t => t = ta) H H1 ∧ b_tt G B0 τ H1 a (ta) (.inr (2, [.int (nI 0), .ref ((G.2.2 0)), .int (nI 0)])))) 0 0 (b_A B0) := by
  refine b_of (by decide) (Nat.le_of_ble_eq_true rfl) ?_
  intro p e s m below meth c CX hr hlk hnm hS ls hl
  have CX : b_Cx p s m _ c cJ2_init 1 RJ2 G B0 := CX
  have hx := CX.hx
  have hb := CX.hb
  have hl : lv_has ls 1 [(0, .ref a)] := hl
  generalize hQ : MQ below (b_Qv B0 (fun H1 => b_Fr τ (fun t => t = ta) H H1 ∧ b_tt G B0 τ H1 a (ta) (.inr (2, [.int (nI 0), .ref ((G.2.2 0)), .int (nI 0)])))) ([.ref a] : List Value).toArray s 0 0 (b_A B0) = Q
  have hF : b_Fr τ (fun t => t = ta) H H := b_Fr.rf
  have hA : b_Ag τ τ H := b_Ag.rf
  refine lv_aload_n hx hb dJ2_init_0 rfl (lv_at hl 0 rfl) ?_
  refine b_cv (cs_J2_1 (rest := []) CX hl.1 (m_J1_init l (a := a) (ta := ta) hc_th) rfl hS rfl ⟨rfl, rfl, Nat.le_of_ble_eq_true rfl, Nat.le_of_ble_eq_true rfl⟩ (Nat.le_of_ble_eq_true rfl) dJ2_init_1 ⟨Nat.le_of_ble_eq_true rfl, Nat.le_of_ble_eq_true rfl⟩) hS (fun H1 locs hp hS => ?_)
  obtain ⟨hF9, hx0⟩ := hp
  have hz9 := hF.1
  have hF0 := hF.tr hA hF9 (fun q9 hq9 x9 => by have x8 : τ q9 = ta := x9; show τ q9 = ta; omega)
  have hF := hF0
  have hc_th : b_tt G B0 τ H1 a (ta) (.inr (2, [.int (nI 0), .null, .int (nI 0)])) := hx0
  refine lv_aload_n hx hb dJ2_init_4 rfl (lv_at hl 0 rfl) ?_
  refine b_gets (v := .ref ((G.2.2 0))) CX CX.K.2.2.2.2.1.1 hS q152 dJ2_init_5 ?_
  refine pf_J2_9_2 CX hc_th.at hS hc_th.B rfl rfl (Nat.le_of_ble_eq_true rfl) dJ2_init_8 (fun H2 locs hat hu hS => ?_)
  have hF := hF.up hA hu hc_th.tag (fun _ => show (ta) = ta by omega)
  have hc_th : b_tt G B0 τ H2 a (ta) (.inr (2, [.int (nI 0), .ref ((G.2.2 0)), .int (nI 0)])) := hc_th.set hat
  rw [← hQ]
  exact b_vret CX hr hlk hS (Nat.le_of_ble_eq_true rfl) (Nat.le_of_ble_eq_true rfl) dJ2_init_11 (⟨hF, hc_th⟩)
theorem gf_J2_48_2 {p : Program} {l : Launch} {e : Env} {R : Room} {s : State} {m : MethodId} {args : Array Value} {below : List Frame} {meth : Method} {c : Code} {H : Heap} {locs : List Loc} {cells slots : Nat} {Q : State → Prop} {cc : ByteArray} {pc nL a : Nat} {ls : Array Slot} {rest : List Value} {G : b_G} {B0 : Nat} (CX : b_Cx p s m args c cc nL RJ2 G B0) {fs : List Value} (hP : b_at G a (.inr (2, fs)) H) {v : Value} (hv : fs[2]? = some v) (hdg : decode cc pc = .ok (.getfield 48, 3)) (kk : W p l e R s m args below meth c H locs cells slots Q (F0 m (pc + 3) ls (v :: rest))) : W p l e R s m args below meth c H locs cells slots Q (F0 m pc ls (.ref a :: rest)) := b_get CX in_J2 rfl 2 (by decide) q155 (Or.inl rfl) hP hv hdg kk
set_option maxHeartbeats 2000000 in
set_option maxRecDepth 100000 in
theorem m_J2_size (l : Launch) {G : b_G} {B0 : Nat} {H : Heap} {τ : b_T} {a : Nat} {ta : Nat} {mc : Int32} {ra : Nat} {x : Int32} (hc_th : b_tt G B0 τ H a (ta) (.inr (2, [.int mc, .ref ra, .int x]))) : Met l yJ2_size (ws_ yJ2_size cJ2_size 1 (Option.some Jvm.ClassFile.FieldType.int)) ({ frames := 0, cells := 0, slots := 0, locals := 0 } : Room) (b_Pc G B0 H [.ref a]) (b_Qi B0 (fun r H1 => r = x ∧ H1 = H)) 0 0 (b_A B0) := by
  refine b_of (by decide) (Nat.le_of_ble_eq_true rfl) ?_
  intro p e s m below meth c CX hr hlk hnm hS ls hl
  have CX : b_Cx p s m _ c cJ2_size 1 RJ2 G B0 := CX
  have hx := CX.hx
  have hb := CX.hb
  have hl : lv_has ls 1 [(0, .ref a)] := hl
  generalize hQ : MQ below (b_Qi B0 (fun r H1 => r = x ∧ H1 = H)) ([.ref a] : List Value).toArray s 0 0 (b_A B0) = Q
  refine lv_aload_n hx hb dJ2_size_0 rfl (lv_at hl 0 rfl) ?_
  refine gf_J2_48_2 CX hc_th.at rfl dJ2_size_1 ?_
  rw [← hQ]
  exact b_iret CX hr hlk hS (Nat.le_of_ble_eq_true rfl) (Nat.le_of_ble_eq_true rfl) dJ2_size_4 (⟨rfl, rfl⟩)
set_option maxHeartbeats 2000000 in
set_option maxRecDepth 100000 in
theorem m_J13_checkIndex (l : Launch) {G : b_G} {B0 : Nat} {H : Heap} {i : Nat} {n : Nat} (hi : i < n) (hn : n < 2147483648) : Met l yJ13_checkIndex (ws_ yJ13_checkIndex cJ13_checkIndex 3 (Option.some Jvm.ClassFile.FieldType.int)) ({ frames := 0, cells := 0, slots := 0, locals := 0 } : Room) (b_Pc G B0 H [.int (nI i), .int (nI n), .null]) (b_Qi B0 (fun r H1 => r = nI i ∧ H1 = H)) 0 0 (b_A B0) := by
  refine b_of (by decide) (Nat.le_of_ble_eq_true rfl) ?_
  intro p e s m below meth c CX hr hlk hnm hS ls hl
  have CX : b_Cx p s m _ c cJ13_checkIndex 3 RJ13 G B0 := CX
  have hx := CX.hx
  have hb := CX.hb
  have hl : lv_has ls 3 [(0, .int (nI i)), (1, .int (nI n)), (2, .null)] := hl
  generalize hQ : MQ below (b_Qi B0 (fun r H1 => r = nI i ∧ H1 = H)) ([.int (nI i), .int (nI n), .null] : List Value).toArray s 0 0 (b_A B0) = Q
  refine lv_iload_n hx hb dJ13_checkIndex_0 rfl (lv_at hl 0 rfl) ?_
  refine lv_if_lt (tgt := 9) hx hb dJ13_checkIndex_1 (by decide) (fun c_1 => ?_) (fun c_1 => ?_)
  · exact absurd c_1 (by exact nI_pos (by omega))
  · refine lv_iload_n hx hb dJ13_checkIndex_4 rfl (lv_at hl 0 rfl) ?_
    refine lv_iload_n hx hb dJ13_checkIndex_5 rfl (lv_at hl 1 rfl) ?_
    refine b_icmp_ltN (tgt := 16) CX (by omega) (by omega) dJ13_checkIndex_6 (by decide) (fun c_6 => ?_) (fun c_6 => ?_)
    · refine lv_iload_n hx hb dJ13_checkIndex_16 rfl (lv_at hl 0 rfl) ?_
      rw [← hQ]
      exact b_iret CX hr hlk hS (Nat.le_of_ble_eq_true rfl) (Nat.le_of_ble_eq_true rfl) dJ13_checkIndex_17 (⟨rfl, rfl⟩)
    · exfalso; omega
theorem cs_J12_105 {p : Program} {l : Launch} {e : Env} {R : Room} {s : State} {m : MethodId} {args : Array Value} {below : List Frame} {meth : Method} {c : Code} {H : Heap} {locs : List Loc} {cells slots : Nat} {cc : ByteArray} {pc nL : Nat} {ls : Array Slot} {rest : List Value} {G : b_G} {B0 : Nat} (CX : b_Cx p s m args c cc nL RJ12 G B0) (hls : ls.size = nL) {rm : Room} {mc ms : Nat} {As st0 : List Value} {Qc : Array Value → State → Outcome → State → Prop} (hM : Met l yJ13_checkIndex (ws_ yJ13_checkIndex cJ13_checkIndex 3 (Option.some Jvm.ClassFile.FieldType.int)) rm (b_Pc G B0 H As) Qc mc ms (b_A B0)) (hn : As.length = 3) (hS : va_S (b_A B0) s.heap H locs) (hst : st0 = As.reverse ++ rest) (hr : rm.cells = mc ∧ rm.slots = ms ∧ rm.frames + 1 ≤ R.frames ∧ 8 + (3 + 11) + rm.locals ≤ R.locals) (hw : (rest.map fun v => v.category).sum ≤ 8) (hdg : decode cc pc = .ok (.invokestatic 105, 3)) (hf : cells + mc ≤ R.cells ∧ slots + ms ≤ R.slots) : va_Run p l e R s m args below meth c H locs cells slots mc ms (F0 m pc ls st0) rest (Qc As.toArray) (b_A B0) := va_runS CX.fix hM (va_cwS 3 CX.ts (lw_S q802 q678 q95 q679) rfl hr.1 hr.2.1 (by decide +kernel) ⟨hr.2.2.1, hr.2.2.2⟩) ⟨b_blind G B0 H _, b_pre _ CX.K hS⟩ rfl hn hls hst (lv_room hw) hdg hf
set_option maxHeartbeats 2000000 in
set_option maxRecDepth 100000 in
theorem m_J12_checkIndex (l : Launch) {G : b_G} {B0 : Nat} {H : Heap} {i : Nat} {n : Nat} (hi : i < n) (hn : n < 2147483648) : Met l yJ12_checkIndex (ws_ yJ12_checkIndex cJ12_checkIndex 2 (Option.some Jvm.ClassFile.FieldType.int)) ({ frames := 1, cells := 0, slots := 0, locals := 22 } : Room) (b_Pc G B0 H [.int (nI i), .int (nI n)]) (b_Qi B0 (fun r H1 => r = nI i ∧ H1 = H)) 0 0 (b_A B0) := by
  refine b_of (by decide) (Nat.le_of_ble_eq_true rfl) ?_
  intro p e s m below meth c CX hr hlk hnm hS ls hl
  have CX : b_Cx p s m _ c cJ12_checkIndex 2 RJ12 G B0 := CX
  have hx := CX.hx
  have hb := CX.hb
  have hl : lv_has ls 2 [(0, .int (nI i)), (1, .int (nI n))] := hl
  generalize hQ : MQ below (b_Qi B0 (fun r H1 => r = nI i ∧ H1 = H)) ([.int (nI i), .int (nI n)] : List Value).toArray s 0 0 (b_A B0) = Q
  refine lv_iload_n hx hb dJ12_checkIndex_0 rfl (lv_at hl 0 rfl) ?_
  refine lv_iload_n hx hb dJ12_checkIndex_1 rfl (lv_at hl 1 rfl) ?_
  refine lv_null hx hb dJ12_checkIndex_2 ?_
  refine b_ci0 (cs_J12_105 (rest := []) CX hl.1 (m_J13_checkIndex l (i := i) (n := n) (by omega) (by omega)) rfl hS rfl ⟨rfl, rfl, Nat.le_of_ble_eq_true rfl, Nat.le_of_ble_eq_true rfl⟩ (Nat.le_of_ble_eq_true rfl) dJ12_checkIndex_3 ⟨Nat.le_of_ble_eq_true rfl, Nat.le_of_ble_eq_true rfl⟩) hS (fun locs hS => ?_)
  rw [← hQ]
  exact b_iret CX hr hlk hS (Nat.le_of_ble_eq_true rfl) (Nat.le_of_ble_eq_true rfl) dJ12_checkIndex_6 (⟨rfl, rfl⟩)
theorem gf_J2_9_2 {p : Program} {l : Launch} {e : Env} {R : Room} {s : State} {m : MethodId} {args : Array Value} {below : List Frame} {meth : Method} {c : Code} {H : Heap} {locs : List Loc} {cells slots : Nat} {Q : State → Prop} {cc : ByteArray} {pc nL a : Nat} {ls : Array Slot} {rest : List Value} {G : b_G} {B0 : Nat} (CX : b_Cx p s m args c cc nL RJ2 G B0) {fs : List Value} (hP : b_at G a (.inr (2, fs)) H) {v : Value} (hv : fs[1]? = some v) (hdg : decode cc pc = .ok (.getfield 9, 3)) (kk : W p l e R s m args below meth c H locs cells slots Q (F0 m (pc + 3) ls (v :: rest))) : W p l e R s m args below meth c H locs cells slots Q (F0 m pc ls (.ref a :: rest)) := b_get CX in_J2 rfl 1 (by decide) q154 (Or.inl rfl) hP hv hdg kk
set_option maxHeartbeats 2000000 in
set_option maxRecDepth 100000 in
theorem m_J2_elementData (l : Launch) {G : b_G} {B0 : Nat} {H : Heap} {τ : b_T} {a : Nat} {ta : Nat} {mc : Int32} {ra : Nat} {tr : Nat} {n : Nat} {f : Nat → Nat} {i : Nat} (hc_th : b_tt G B0 τ H a (ta) (.inr (2, [.int mc, .ref ra, .int (nI n)]))) (hc_arr : b_tt G B0 τ H ra (tr) (.inl (G.2.1 2, q_refs 10 ((fun j => if j < n then some (f j) else none))))) (hi : i < n) (hn : n ≤ 10) : Met l yJ2_elementData (ws_ yJ2_elementData cJ2_elementData 2 (Option.some (Jvm.ClassFile.FieldType.object "java/lang/Object"))) ({ frames := 0, cells := 0, slots := 0, locals := 0 } : Room) (b_Pc G B0 H [.ref a, .int (nI i)]) (b_Qq B0 (fun r H1 => r = some (f i) ∧ H1 = H)) 0 0 (b_A B0) := by
  refine b_of (by decide) (Nat.le_of_ble_eq_true rfl) ?_
  intro p e s m below meth c CX hr hlk hnm hS ls hl
  have CX : b_Cx p s m _ c cJ2_elementData 2 RJ2 G B0 := CX
  have hx := CX.hx
  have hb := CX.hb
  have hl : lv_has ls 2 [(0, .ref a), (1, .int (nI i))] := hl
  generalize hQ : MQ below (b_Qq B0 (fun r H1 => r = some (f i) ∧ H1 = H)) ([.ref a, .int (nI i)] : List Value).toArray s 0 0 (b_A B0) = Q
  refine lv_aload_n hx hb dJ2_elementData_0 rfl (lv_at hl 0 rfl) ?_
  refine gf_J2_9_2 CX hc_th.at rfl dJ2_elementData_1 ?_
  refine lv_iload_n hx hb dJ2_elementData_4 rfl (lv_at hl 1 rfl) ?_
  refine b_qld CX hc_arr.at (x := some ((f i))) (vp_in_nI (by omega) (by omega)) (b_at_nQ (f := (fun j => if j < n then some (f j) else none)) (n := i) (by omega) (if_pos (by omega))) dJ2_elementData_5 ?_
  rw [← hQ]
  exact b_aret (v := some ((f i))) CX hr (Or.inl ⟨_, rfl⟩) hlk hS (Nat.le_of_ble_eq_true rfl) (Nat.le_of_ble_eq_true rfl) dJ2_elementData_6 (⟨rfl, rfl⟩)
theorem cs_J2_118 {p : Program} {l : Launch} {e : Env} {R : Room} {s : State} {m : MethodId} {args : Array Value} {below : List Frame} {meth : Method} {c : Code} {H : Heap} {locs : List Loc} {cells slots : Nat} {cc : ByteArray} {pc nL : Nat} {ls : Array Slot} {rest : List Value} {G : b_G} {B0 : Nat} (CX : b_Cx p s m args c cc nL RJ2 G B0) (hls : ls.size = nL) {rm : Room} {mc ms : Nat} {As st0 : List Value} {Qc : Array Value → State → Outcome → State → Prop} (hM : Met l yJ12_checkIndex (ws_ yJ12_checkIndex cJ12_checkIndex 2 (Option.some Jvm.ClassFile.FieldType.int)) rm (b_Pc G B0 H As) Qc mc ms (b_A B0)) (hn : As.length = 2) (hS : va_S (b_A B0) s.heap H locs) (hst : st0 = As.reverse ++ rest) (hr : rm.cells = mc ∧ rm.slots = ms ∧ rm.frames + 1 ≤ R.frames ∧ 8 + (2 + 11) + rm.locals ≤ R.locals) (hw : (rest.map fun v => v.category).sum ≤ 8) (hdg : decode cc pc = .ok (.invokestatic 118, 3)) (hf : cells + mc ≤ R.cells ∧ slots + ms ≤ R.slots) : va_Run p l e R s m args below meth c H locs cells slots mc ms (F0 m pc ls st0) rest (Qc As.toArray) (b_A B0) := va_runS CX.fix hM (va_cwS 2 CX.ts (lw_S q799 q800 q94 q801) rfl hr.1 hr.2.1 (by decide +kernel) ⟨hr.2.2.1, hr.2.2.2⟩) ⟨b_blind G B0 H _, b_pre _ CX.K hS⟩ rfl hn hls hst (lv_room hw) hdg hf
theorem cs_J2_123 {p : Program} {l : Launch} {e : Env} {R : Room} {s : State} {m : MethodId} {args : Array Value} {below : List Frame} {meth : Method} {c : Code} {H : Heap} {locs : List Loc} {cells slots : Nat} {cc : ByteArray} {pc nL a : Nat} {ls : Array Slot} {rest : List Value} {G : b_G} {B0 : Nat} (CX : b_Cx p s m args c cc nL RJ2 G B0) (hls : ls.size = nL) {rm : Room} {mc ms : Nat} {As st0 : List Value} {Qc : Array Value → State → Outcome → State → Prop} (hM : Met l yJ2_elementData (ws_ yJ2_elementData cJ2_elementData 2 (Option.some (Jvm.ClassFile.FieldType.object "java/lang/Object"))) rm (b_Pc G B0 H (.ref a :: As)) Qc mc ms (b_A B0)) (hn : As.length = 1) {fs : List Value} {ci : Nat} {qc : vw_C} (hc : b_cl[ci]? = some qc) (hq : qc.1 = RJ2) (hP : b_at G a (.inr (ci, fs)) H) (hS : va_S (b_A B0) s.heap H locs) (hst : st0 = As.reverse ++ .ref a :: rest) (hr : rm.cells = mc ∧ rm.slots = ms ∧ rm.frames + 1 ≤ R.frames ∧ 8 + (2 + 11) + rm.locals ≤ R.locals) (hw : (rest.map fun v => v.category).sum ≤ 8) (hdg : decode cc pc = .ok (.invokevirtual 123, 3)) (hf : cells + mc ≤ R.cells ∧ slots + ms ≤ R.slots) : va_Run p l e R s m args below meth c H locs cells slots mc ms (F0 m pc ls st0) rest (Qc (Value.ref a :: As).toArray) (b_A B0) := va_runV CX.fix hM (cwV 1 CX.ts (lw_V q803 q804 q805 q83 q806) rfl hr.1 hr.2.1 (by decide +kernel) ⟨hr.2.2.1, hr.2.2.2⟩) ⟨b_blind G B0 H _, by have h9 := b_recv CX.K hc hP; rw [hq] at h9; exact h9, b_pre _ CX.K hS⟩ rfl hn hls hst (lv_room hw) hdg hf
set_option maxHeartbeats 2000000 in
set_option maxRecDepth 100000 in
theorem m_J2_get (l : Launch) {G : b_G} {B0 : Nat} {H : Heap} {τ : b_T} {a : Nat} {ta : Nat} {mc : Int32} {ra : Nat} {tr : Nat} {n : Nat} {f : Nat → Nat} {i : Nat} (hc_th : b_tt G B0 τ H a (ta) (.inr (2, [.int mc, .ref ra, .int (nI n)]))) (hc_arr : b_tt G B0 τ H ra (tr) (.inl (G.2.1 2, q_refs 10 ((fun j => if j < n then some (f j) else none))))) (hi : i < n) (hn : n ≤ 10) : Met l yJ2_get (ws_ yJ2_get cJ2_get 2 (Option.some (Jvm.ClassFile.FieldType.object "java/lang/Object"))) ({ frames := 2, cells := 0, slots := 0, locals := 43 } : Room) (b_Pc G B0 H [.ref a, .int (nI i)]) (b_Qq B0 (fun r H1 => r = some (f i) ∧ H1 = H)) 0 0 (b_A B0) := by
  refine b_of (by decide) (Nat.le_of_ble_eq_true rfl) ?_
  intro p e s m below meth c CX hr hlk hnm hS ls hl
  have CX : b_Cx p s m _ c cJ2_get 2 RJ2 G B0 := CX
  have hx := CX.hx
  have hb := CX.hb
  have hl : lv_has ls 2 [(0, .ref a), (1, .int (nI i))] := hl
  generalize hQ : MQ below (b_Qq B0 (fun r H1 => r = some (f i) ∧ H1 = H)) ([.ref a, .int (nI i)] : List Value).toArray s 0 0 (b_A B0) = Q
  refine lv_iload_n hx hb dJ2_get_0 rfl (lv_at hl 1 rfl) ?_
  refine lv_aload_n hx hb dJ2_get_1 rfl (lv_at hl 0 rfl) ?_
  refine gf_J2_48_2 CX hc_th.at rfl dJ2_get_2 ?_
  refine b_ci0 (cs_J2_118 (rest := []) CX hl.1 (m_J12_checkIndex l (i := i) (n := n) (by omega) (by omega)) rfl hS rfl ⟨rfl, rfl, Nat.le_of_ble_eq_true rfl, Nat.le_of_ble_eq_true rfl⟩ (Nat.le_of_ble_eq_true rfl) dJ2_get_5 ⟨Nat.le_of_ble_eq_true rfl, Nat.le_of_ble_eq_true rfl⟩) hS (fun locs hS => ?_)
  refine lv_pop hx hb dJ2_get_8 rfl ?_
  refine lv_aload_n hx hb dJ2_get_9 rfl (lv_at hl 0 rfl) ?_
  refine lv_iload_n hx hb dJ2_get_10 rfl (lv_at hl 1 rfl) ?_
  refine b_cq0 (cs_J2_123 (rest := []) CX hl.1 (m_J2_elementData l (a := a) (ta := ta) (mc := mc) (ra := ra) (tr := tr) (n := n) (i := i) hc_th hc_arr (by omega) (by omega)) rfl rfl rfl hc_th.at hS rfl ⟨rfl, rfl, Nat.le_of_ble_eq_true rfl, Nat.le_of_ble_eq_true rfl⟩ (Nat.le_of_ble_eq_true rfl) dJ2_get_11 ⟨Nat.le_of_ble_eq_true rfl, Nat.le_of_ble_eq_true rfl⟩) hS (fun locs hS => ?_)
  rw [← hQ]
  exact b_aret (v := some (f i)) CX hr (Or.inl ⟨_, rfl⟩) hlk hS (Nat.le_of_ble_eq_true rfl) (Nat.le_of_ble_eq_true rfl) dJ2_get_14 (⟨rfl, rfl⟩)
set_option maxHeartbeats 2000000 in
set_option maxRecDepth 100000 in
theorem m_J2_isEmpty (l : Launch) {G : b_G} {B0 : Nat} {H : Heap} {τ : b_T} {a : Nat} {ta : Nat} {mc : Int32} {ra : Nat} {n : Nat} (hc_th : b_tt G B0 τ H a (ta) (.inr (2, [.int mc, .ref ra, .int (nI n)]))) (hn : n ≤ 10) : Met l yJ2_isEmpty (ws_ yJ2_isEmpty cJ2_isEmpty 1 (Option.some Jvm.ClassFile.FieldType.boolean)) ({ frames := 0, cells := 0, slots := 0, locals := 0 } : Room) (b_Pc G B0 H [.ref a]) (b_Qi B0 (fun r H1 => r = bI (n = 0) ∧ H1 = H)) 0 0 (b_A B0) := by
  refine b_of (by decide) (Nat.le_of_ble_eq_true rfl) ?_
  intro p e s m below meth c CX hr hlk hnm hS ls hl
  have CX : b_Cx p s m _ c cJ2_isEmpty 1 RJ2 G B0 := CX
  have hx := CX.hx
  have hb := CX.hb
  have hl : lv_has ls 1 [(0, .ref a)] := hl
  generalize hQ : MQ below (b_Qi B0 (fun r H1 => r = bI (n = 0) ∧ H1 = H)) ([.ref a] : List Value).toArray s 0 0 (b_A B0) = Q
  refine lv_aload_n hx hb dJ2_isEmpty_0 rfl (lv_at hl 0 rfl) ?_
  refine gf_J2_48_2 CX hc_th.at rfl dJ2_isEmpty_1 ?_
  refine b_if_neN (tgt := 11) CX (by omega) dJ2_isEmpty_4 (by decide) (fun c_4 => ?_) (fun c_4 => ?_)
  · refine lv_iconst (v := nI 0) hx hb dJ2_isEmpty_11 rfl ?_
    rw [← hQ]
    exact b_zret CX hr hlk hS (Nat.le_of_ble_eq_true rfl) (Nat.le_of_ble_eq_true rfl) rfl dJ2_isEmpty_12 (⟨(by first | exact (bI_t c_4).symm | exact (bI_f (by omega)).symm), rfl⟩)
  · refine lv_iconst (v := nI 1) hx hb dJ2_isEmpty_7 rfl ?_
    refine lv_goto (tgt := 12) hx hb dJ2_isEmpty_8 (by decide) ?_
    rw [← hQ]
    exact b_zret CX hr hlk hS (Nat.le_of_ble_eq_true rfl) (Nat.le_of_ble_eq_true rfl) rfl dJ2_isEmpty_12 (⟨(by first | exact (bI_t c_4).symm | exact (bI_f (by omega)).symm), rfl⟩)
set_option maxHeartbeats 2000000 in
set_option maxRecDepth 100000 in
theorem m_J2_grow_2 (l : Launch) {G : b_G} {B0 : Nat} {H : Heap} {τ : b_T} {a : Nat} {ta : Nat} {mc : Int32} {tr : Nat} (hc_th : b_tt G B0 τ H a (ta) (.inr (2, [.int mc, .ref ((G.2.2 0)), .int (nI 0)]))) (hne : ¬ ta = tr) : Met l yJ2_grow_2 (ws_ yJ2_grow_2 cJ2_grow_2 4 (Option.some (Jvm.ClassFile.FieldType.array (Jvm.ClassFile.FieldType.object "java/lang/Object")))) ({ frames := 1, cells := 1, slots := 10, locals := 21 } : Room) (b_Pc G B0 H [.ref a, .int (nI 1)]) (b_Qq B0 (fun r H1 => ∃ (τ1 : b_T) (q : Nat), r = some q ∧ b_Ag τ τ1 H ∧ b_Fr τ (fun t => t = ta) H H1 ∧ H.size ≤ q ∧ b_tt G B0 τ1 H1 a (ta) (.inr (2, [.int mc, .ref q, .int (nI 0)])) ∧ b_tt G B0 τ1 H1 q (tr) (.inl (G.2.1 2, q_refs 10 ((fun _ => none)))))) 1 10 (b_A B0) := by
  refine b_of (by decide) (Nat.le_of_ble_eq_true rfl) ?_
  intro p e s m below meth c CX hr hlk hnm hS ls hl
  have CX : b_Cx p s m _ c cJ2_grow_2 4 RJ2 G B0 := CX
  have hx := CX.hx
  have hb := CX.hb
  have hl : lv_has ls 4 [(0, .ref a), (1, .int (nI 1))] := hl
  generalize hQ : MQ below (b_Qq B0 (fun r H1 => ∃ (τ1 : b_T) (q : Nat), r = some q ∧ b_Ag τ τ1 H ∧ b_Fr τ (fun t => t = ta) H H1 ∧ H.size ≤ q ∧ b_tt G B0 τ1 H1 a (ta) (.inr (2, [.int mc, .ref q, .int (nI 0)])) ∧ b_tt G B0 τ1 H1 q (tr) (.inl (G.2.1 2, q_refs 10 ((fun _ => none)))))) ([.ref a, .int (nI 1)] : List Value).toArray s 1 10 (b_A B0) = Q
  have hF : b_Fr τ (fun t => t = ta) H H := b_Fr.rf
  have hA : b_Ag τ τ H := b_Ag.rf
  refine lv_aload_n hx hb dJ2_grow_2_0 rfl (lv_at hl 0 rfl) ?_
  refine gf_J2_9_2 CX hc_th.at rfl dJ2_grow_2_1 ?_
  refine va_tlen hx hb CX.K.2.2.2.2.1.2.1 hS (v := nI 0) rfl dJ2_grow_2_4 ?_
  refine lv_istore_n (lv' := [(2, .int (nI 0)), (0, .ref a), (1, .int (nI 1))]) hx hb dJ2_grow_2_5 rfl hl (Nat.le_of_ble_eq_true rfl) rfl (fun ls hl => ?_)
  refine lv_iload_n hx hb dJ2_grow_2_6 rfl (lv_at hl 0 rfl) ?_
  refine lv_if_gt (tgt := 20) hx hb dJ2_grow_2_7 (by decide) (fun c_7 => ?_) (fun c_7 => ?_)
  · exact absurd c_7 (by decide)
  · refine lv_aload_n hx hb dJ2_grow_2_10 rfl (lv_at hl 1 rfl) ?_
    refine gf_J2_9_2 CX hc_th.at rfl dJ2_grow_2_11 ?_
    refine b_gets (v := .ref ((G.2.2 0))) CX CX.K.2.2.2.2.1.1 hS q152 dJ2_grow_2_14 ?_
    refine lv_acmp_eq (rx := some ((G.2.2 0))) (ry := some ((G.2.2 0))) (tgt := 45) hx hb dJ2_grow_2_17 (by decide) (fun c_17 => ?_) (fun c_17 => ?_)
    · refine lv_aload_n hx hb dJ2_grow_2_45 rfl (lv_at hl 1 rfl) ?_
      refine lv_bipush (v := nI 10) hx hb dJ2_grow_2_46 rfl ?_
      refine lv_iload_n hx hb dJ2_grow_2_48 rfl (lv_at hl 2 rfl) ?_
      refine va_mmax hx hb (by rw [CX.ml, hl.1]) CX.ow (CX.ts _ q781) (CX.ts _ q326) (CX.ts _ q99) (CX.ts _ q327) (Nat.le_of_ble_eq_true rfl) (Nat.le_of_ble_eq_true rfl) (Nat.le_of_ble_eq_true rfl) (Nat.le_of_ble_eq_true rfl) dJ2_grow_2_49 ?_
      refine b_top (x := if (nI 10) < (nI 1) then (nI 1) else (nI 10)) (y := p_max (nI 10) (nI 1)) rfl ?_
      refine b_top (x := p_max (nI 10) (nI 1)) (y := nI 10) ((by decide)) ?_
      refine b_newq CX q782 (N' := 10) (nI_pos (by decide)) (nI_cl (by decide)) (by decide) hS (Nat.le_of_ble_eq_true rfl) (Nat.le_of_ble_eq_true rfl) dJ2_grow_2_52 (fun q1 H1 hq hB hat hsz hE hS => ?_)
      have hc_th := hc_th.new (tb := tr) hE hq
      have fr_arr : H.size ≤ q1 := by rw [hq]; exact hF.1
      have hA := hA.tr (b_Ag.new (t := tr) hq) hF.1
      have hF := hF.ext hE
      have hc_arr : b_tt G B0 ((upT τ q1 (tr))) H1 q1 (tr) (.inl (G.2.1 2, q_refs 10 ((fun _ => none)))) := b_tt.mk hat hB
      refine lv_dup_x1 hx hb dJ2_grow_2_55 rfl rfl ?_
      refine pf_J2_9_2 CX hc_th.at hS hc_th.B rfl rfl (Nat.le_of_ble_eq_true rfl) dJ2_grow_2_56 (fun H2 locs hat hu hS => ?_)
      have hc_arr := hc_arr.up hu hc_th.tag (by omega)
      have hF := hF.up hA hu hc_th.tag (fun _ => show (ta) = ta by omega)
      have hc_th : b_tt G B0 ((upT τ q1 (tr))) H2 a (ta) (.inr (2, [.int mc, .ref q1, .int (nI 0)])) := hc_th.set hat
      rw [← hQ]
      exact b_aret (v := some q1) CX hr (Or.inr ⟨_, rfl⟩) hlk hS (Nat.le_of_ble_eq_true rfl) (Nat.le_of_ble_eq_true rfl) dJ2_grow_2_59 (⟨_, _, rfl, hA, hF, fr_arr, hc_th, hc_arr⟩)
    · first | exact absurd c_17 (by decide) | exact absurd rfl c_17
theorem cs_J2_69 {p : Program} {l : Launch} {e : Env} {R : Room} {s : State} {m : MethodId} {args : Array Value} {below : List Frame} {meth : Method} {c : Code} {H : Heap} {locs : List Loc} {cells slots : Nat} {cc : ByteArray} {pc nL a : Nat} {ls : Array Slot} {rest : List Value} {G : b_G} {B0 : Nat} (CX : b_Cx p s m args c cc nL RJ2 G B0) (hls : ls.size = nL) {rm : Room} {mc ms : Nat} {As st0 : List Value} {Qc : Array Value → State → Outcome → State → Prop} (hM : Met l yJ2_grow_2 (ws_ yJ2_grow_2 cJ2_grow_2 4 (Option.some (Jvm.ClassFile.FieldType.array (Jvm.ClassFile.FieldType.object "java/lang/Object")))) rm (b_Pc G B0 H (.ref a :: As)) Qc mc ms (b_A B0)) (hn : As.length = 1) {fs : List Value} {ci : Nat} {qc : vw_C} (hc : b_cl[ci]? = some qc) (hq : qc.1 = RJ2) (hP : b_at G a (.inr (ci, fs)) H) (hS : va_S (b_A B0) s.heap H locs) (hst : st0 = As.reverse ++ .ref a :: rest) (hr : rm.cells = mc ∧ rm.slots = ms ∧ rm.frames + 1 ≤ R.frames ∧ 8 + (4 + 11) + rm.locals ≤ R.locals) (hw : (rest.map fun v => v.category).sum ≤ 8) (hdg : decode cc pc = .ok (.invokevirtual 69, 3)) (hf : cells + mc ≤ R.cells ∧ slots + ms ≤ R.slots) : va_Run p l e R s m args below meth c H locs cells slots mc ms (F0 m pc ls st0) rest (Qc (Value.ref a :: As).toArray) (b_A B0) := va_runV CX.fix hM (cwV 1 CX.ts (lw_V q735 q737 qs9 q83 q738) rfl hr.1 hr.2.1 (by decide +kernel) ⟨hr.2.2.1, hr.2.2.2⟩) ⟨b_blind G B0 H _, by have h9 := b_recv CX.K hc hP; rw [hq] at h9; exact h9, b_pre _ CX.K hS⟩ rfl hn hls hst (lv_room hw) hdg hf
set_option maxHeartbeats 2000000 in
set_option maxRecDepth 100000 in
theorem m_J2_grow (l : Launch) {G : b_G} {B0 : Nat} {H : Heap} {τ : b_T} {a : Nat} {ta : Nat} {mc : Int32} {tr : Nat} (hc_th : b_tt G B0 τ H a (ta) (.inr (2, [.int mc, .ref ((G.2.2 0)), .int (nI 0)]))) (hne : ¬ ta = tr) : Met l yJ2_grow (ws_ yJ2_grow cJ2_grow 1 (Option.some (Jvm.ClassFile.FieldType.array (Jvm.ClassFile.FieldType.object "java/lang/Object")))) ({ frames := 2, cells := 1, slots := 10, locals := 44 } : Room) (b_Pc G B0 H [.ref a]) (b_Qq B0 (fun r H1 => ∃ (τ1 : b_T) (q : Nat), r = some q ∧ b_Ag τ τ1 H ∧ b_Fr τ (fun t => t = ta) H H1 ∧ H.size ≤ q ∧ b_tt G B0 τ1 H1 a (ta) (.inr (2, [.int mc, .ref q, .int (nI 0)])) ∧ b_tt G B0 τ1 H1 q (tr) (.inl (G.2.1 2, q_refs 10 ((fun _ => none)))))) 1 10 (b_A B0) := by
  refine b_of (by decide) (Nat.le_of_ble_eq_true rfl) ?_
  intro p e s m below meth c CX hr hlk hnm hS ls hl
  have CX : b_Cx p s m _ c cJ2_grow 1 RJ2 G B0 := CX
  have hx := CX.hx
  have hb := CX.hb
  have hl : lv_has ls 1 [(0, .ref a)] := hl
  generalize hQ : MQ below (b_Qq B0 (fun r H1 => ∃ (τ1 : b_T) (q : Nat), r = some q ∧ b_Ag τ τ1 H ∧ b_Fr τ (fun t => t = ta) H H1 ∧ H.size ≤ q ∧ b_tt G B0 τ1 H1 a (ta) (.inr (2, [.int mc, .ref q, .int (nI 0)])) ∧ b_tt G B0 τ1 H1 q (tr) (.inl (G.2.1 2, q_refs 10 ((fun _ => none)))))) ([.ref a] : List Value).toArray s 1 10 (b_A B0) = Q
  have hF : b_Fr τ (fun t => t = ta) H H := b_Fr.rf
  have hA : b_Ag τ τ H := b_Ag.rf
  refine lv_aload_n hx hb dJ2_grow_0 rfl (lv_at hl 0 rfl) ?_
  refine lv_aload_n hx hb dJ2_grow_1 rfl (lv_at hl 0 rfl) ?_
  refine gf_J2_48_2 CX hc_th.at rfl dJ2_grow_2 ?_
  refine lv_iconst (v := nI 1) hx hb dJ2_grow_5 rfl ?_
  refine b_iaddN CX dJ2_grow_6 ?_
  refine b_cq (cs_J2_69 (rest := []) CX hl.1 (m_J2_grow_2 l (a := a) (ta := ta) (mc := mc) hc_th (by omega)) rfl rfl rfl hc_th.at hS rfl ⟨rfl, rfl, Nat.le_of_ble_eq_true rfl, Nat.le_of_ble_eq_true rfl⟩ (Nat.le_of_ble_eq_true rfl) dJ2_grow_7 ⟨Nat.le_of_ble_eq_true rfl, Nat.le_of_ble_eq_true rfl⟩) hS (fun r H1 locs hp hS => ?_)
  obtain ⟨τ1, q1, rfl, hA9, hF9, hr0, hx0, hx1⟩ := hp
  have hz9 := hF.1
  have hF0 := hF.tr hA hF9 (fun q9 hq9 x9 => by have x8 : τ q9 = ta := x9; show τ q9 = ta; omega)
  have hA := hA.tr hA9 hF.1
  have hF := hF0
  have hc_th : b_tt G B0 τ1 H1 a (ta) (.inr (2, [.int mc, .ref q1, .int (nI 0)])) := hx0
  have hc_arr1 : b_tt G B0 τ1 H1 q1 (tr) (.inl (G.2.1 2, q_refs 10 ((fun _ => none)))) := hx1
  have fr_arr1 : H.size ≤ q1 := Nat.le_trans hz9 hr0
  rw [← hQ]
  exact b_aret (v := some q1) CX hr (Or.inr ⟨_, rfl⟩) hlk hS (Nat.le_of_ble_eq_true rfl) (Nat.le_of_ble_eq_true rfl) dJ2_grow_10 (⟨_, _, rfl, hA, hF, fr_arr1, hc_th, hc_arr1⟩)
theorem cs_J2_129 {p : Program} {l : Launch} {e : Env} {R : Room} {s : State} {m : MethodId} {args : Array Value} {below : List Frame} {meth : Method} {c : Code} {H : Heap} {locs : List Loc} {cells slots : Nat} {cc : ByteArray} {pc nL a : Nat} {ls : Array Slot} {rest : List Value} {G : b_G} {B0 : Nat} (CX : b_Cx p s m args c cc nL RJ2 G B0) (hls : ls.size = nL) {rm : Room} {mc ms : Nat} {As st0 : List Value} {Qc : Array Value → State → Outcome → State → Prop} (hM : Met l yJ2_grow (ws_ yJ2_grow cJ2_grow 1 (Option.some (Jvm.ClassFile.FieldType.array (Jvm.ClassFile.FieldType.object "java/lang/Object")))) rm (b_Pc G B0 H (.ref a :: As)) Qc mc ms (b_A B0)) (hn : As.length = 0) {fs : List Value} {ci : Nat} {qc : vw_C} (hc : b_cl[ci]? = some qc) (hq : qc.1 = RJ2) (hP : b_at G a (.inr (ci, fs)) H) (hS : va_S (b_A B0) s.heap H locs) (hst : st0 = As.reverse ++ .ref a :: rest) (hr : rm.cells = mc ∧ rm.slots = ms ∧ rm.frames + 1 ≤ R.frames ∧ 8 + (1 + 11) + rm.locals ≤ R.locals) (hw : (rest.map fun v => v.category).sum ≤ 8) (hdg : decode cc pc = .ok (.invokevirtual 129, 3)) (hf : cells + mc ≤ R.cells ∧ slots + ms ≤ R.slots) : va_Run p l e R s m args below meth c H locs cells slots mc ms (F0 m pc ls st0) rest (Qc (Value.ref a :: As).toArray) (b_A B0) := va_runV CX.fix hM (cwV 0 CX.ts (lw_V q731 q733 qs8 q83 q734) rfl hr.1 hr.2.1 (by decide +kernel) ⟨hr.2.2.1, hr.2.2.2⟩) ⟨b_blind G B0 H _, by have h9 := b_recv CX.K hc hP; rw [hq] at h9; exact h9, b_pre _ CX.K hS⟩ rfl hn hls hst (lv_room hw) hdg hf
theorem pf_J2_48_2 {p : Program} {l : Launch} {e : Env} {R : Room} {s : State} {m : MethodId} {args : Array Value} {below : List Frame} {meth : Method} {c : Code} {H : Heap} {locs : List Loc} {cells slots : Nat} {Q : State → Prop} {cc : ByteArray} {pc nL a : Nat} {ls : Array Slot} {rest : List Value} {G : b_G} {B0 : Nat} (CX : b_Cx p s m args c cc nL RJ2 G B0) {fs : List Value} (hP : b_at G a (.inr (2, fs)) H) (hS : va_S (b_A B0) s.heap H locs) (ha : B0 ≤ a) {v : Value} (hn : narrow (tyJ2 2) v = v) (hfit : fits (tyJ2 2) v = true) (hl : 2 < fs.length) (hdg : decode cc pc = .ok (.putfield 48, 3)) (kk : ∀ (H1 : Heap) (locs1 : List Loc), b_at G a (.inr (2, fs.set 2 v)) H1 → b_Up a H H1 → va_S (b_A B0) s.heap H1 locs1 → W p l e R s m args below meth c H1 locs1 cells slots Q (F0 m (pc + 3) ls rest)) : W p l e R s m args below meth c H locs cells slots Q (F0 m pc ls (v :: .ref a :: rest)) := b_put CX in_J2 tyJ2 tyJ2_ok rfl 2 (by decide) (by decide +kernel) q155 (Or.inl rfl) rfl hP hS ha hn hfit hl hdg kk
set_option maxHeartbeats 2000000 in
set_option maxRecDepth 100000 in
theorem m_J2_add_2_s (l : Launch) {G : b_G} {B0 : Nat} {H : Heap} {τ : b_T} {a : Nat} {ta : Nat} {mc : Int32} {tr : Nat} {v : Nat} {tv : Nat} {ci : Nat} {fs : List Value} (hc_th : b_tt G B0 τ H a (ta) (.inr (2, [.int mc, .ref ((G.2.2 0)), .int (nI 0)]))) (hc_el : b_tt G B0 τ H v (tv) (.inr (ci, fs))) (hC : ∃ qv : vw_C, b_cl[ci]? = some qv ∧ Cond.castable qv.1 "java/lang/Object" ∈ lw_tbl) (hne : ¬ ta = tr) (hva : ¬ tv = ta) (hvr : ¬ tv = tr) : Met l yJ2_add_2 (ws_ yJ2_add_2 cJ2_add_2 4 (Option.none)) ({ frames := 3, cells := 1, slots := 10, locals := 64 } : Room) (b_Pc G B0 H [.ref a, .ref v, .ref ((G.2.2 0)), .int (nI 0)]) (b_Qv B0 (fun H1 => ∃ (τ1 : b_T) (q : Nat), b_Ag τ τ1 H ∧ b_Fr τ (fun t => t = ta ∨ t = tr) H H1 ∧ H.size ≤ q ∧ b_tt G B0 τ1 H1 a (ta) (.inr (2, [.int mc, .ref q, .int (nI 1)])) ∧ b_tt G B0 τ1 H1 q (tr) (.inl (G.2.1 2, q_refs 10 ((fun j => if j < 1 then some v else none)))))) 1 10 (b_A B0) := by
  refine b_of (by decide) (Nat.le_of_ble_eq_true rfl) ?_
  intro p e s m below meth c CX hr hlk hnm hS ls hl
  have CX : b_Cx p s m _ c cJ2_add_2 4 RJ2 G B0 := CX
  have hx := CX.hx
  have hb := CX.hb
  have hl : lv_has ls 4 [(0, .ref a), (1, .ref v), (2, .ref ((G.2.2 0))), (3, .int (nI 0))] := hl
  generalize hQ : MQ below (b_Qv B0 (fun H1 => ∃ (τ1 : b_T) (q : Nat), b_Ag τ τ1 H ∧ b_Fr τ (fun t => t = ta ∨ t = tr) H H1 ∧ H.size ≤ q ∧ b_tt G B0 τ1 H1 a (ta) (.inr (2, [.int mc, .ref q, .int (nI 1)])) ∧ b_tt G B0 τ1 H1 q (tr) (.inl (G.2.1 2, q_refs 10 ((fun j => if j < 1 then some v else none)))))) ([.ref a, .ref v, .ref ((G.2.2 0)), .int (nI 0)] : List Value).toArray s 1 10 (b_A B0) = Q
  have hF : b_Fr τ (fun t => t = ta ∨ t = tr) H H := b_Fr.rf
  have hA : b_Ag τ τ H := b_Ag.rf
  obtain ⟨qv, hq1, hq2⟩ := hC
  refine lv_iload_n hx hb dJ2_add_2_0 rfl (lv_at hl 3 rfl) ?_
  refine lv_aload_n hx hb dJ2_add_2_1 rfl (lv_at hl 2 rfl) ?_
  refine va_tlen hx hb CX.K.2.2.2.2.1.2.1 hS (v := nI 0) rfl dJ2_add_2_2 ?_
  refine b_icmp_neN (tgt := 11) CX (by omega) (by omega) dJ2_add_2_3 (by decide) (fun c_3 => ?_) (fun c_3 => ?_)
  · exact absurd c_3 (by decide)
  · refine lv_aload_n hx hb dJ2_add_2_6 rfl (lv_at hl 0 rfl) ?_
    refine b_cq (cs_J2_129 (rest := []) CX hl.1 (m_J2_grow l (a := a) (ta := ta) (mc := mc) hc_th (by omega)) rfl rfl rfl hc_th.at hS rfl ⟨rfl, rfl, Nat.le_of_ble_eq_true rfl, Nat.le_of_ble_eq_true rfl⟩ (Nat.le_of_ble_eq_true rfl) dJ2_add_2_7 ⟨Nat.le_of_ble_eq_true rfl, Nat.le_of_ble_eq_true rfl⟩) hS (fun r H1 locs hp hS => ?_)
    obtain ⟨τ1, q1, rfl, hA9, hF9, hr0, hx0, hx1⟩ := hp
    have hc_el := hc_el.ca hF9 hA9 (show ¬ ((tv) = ta) by omega)
    have hz9 := hF.1
    have hF0 := hF.tr hA hF9 (fun q9 hq9 x9 => by have x8 : τ q9 = ta := x9; show τ q9 = ta ∨ τ q9 = tr; omega)
    have hA := hA.tr hA9 hF.1
    have hF := hF0
    have hc_th : b_tt G B0 τ1 H1 a (ta) (.inr (2, [.int mc, .ref q1, .int (nI 0)])) := hx0
    have hc_arr1 : b_tt G B0 τ1 H1 q1 (tr) (.inl (G.2.1 2, q_refs 10 ((fun _ => none)))) := hx1
    have fr_arr1 : H.size ≤ q1 := Nat.le_trans hz9 hr0
    refine lv_astore_n (lv' := [(2, .ref q1), (0, .ref a), (1, .ref v), (3, .int (nI 0))]) hx hb dJ2_add_2_10 rfl hl (Nat.le_of_ble_eq_true rfl) rfl (fun ls hl => ?_)
    refine lv_aload_n hx hb dJ2_add_2_11 rfl (lv_at hl 0 rfl) ?_
    refine lv_iload_n hx hb dJ2_add_2_12 rfl (lv_at hl 3 rfl) ?_
    refine lv_aload_n hx hb dJ2_add_2_13 rfl (lv_at hl 2 rfl) ?_
    refine b_qst CX hc_arr1.at hS hc_arr1.B (b_recv CX.K hq1 hc_el.at) (CX.K.2.1 _ hq2 rfl) (vp_in_nI (by omega) (by omega)) dJ2_add_2_14 (fun H2 locs hat hu hS => ?_)
    rw [nI_cl (by omega), show va_up ((fun _ => none)) 0 (some v) = (fun j => if j < 1 then some v else none) from q_one v] at hat
    have hc_th := hc_th.up hu hc_arr1.tag (by omega)
    have hc_el := hc_el.up hu hc_arr1.tag (by omega)
    have hF := hF.up hA hu hc_arr1.tag (fun q9 => absurd q9 (Nat.not_lt.mpr fr_arr1))
    have hc_arr1 : b_tt G B0 τ1 H2 q1 (tr) (.inl (G.2.1 2, q_refs 10 ((fun j => if j < 1 then some v else none)))) := hc_arr1.set hat
    refine lv_aload_n hx hb dJ2_add_2_15 rfl (lv_at hl 1 rfl) ?_
    refine lv_iload_n hx hb dJ2_add_2_16 rfl (lv_at hl 3 rfl) ?_
    refine lv_iconst (v := nI 1) hx hb dJ2_add_2_17 rfl ?_
    refine b_iaddN CX dJ2_add_2_18 ?_
    refine pf_J2_48_2 CX hc_th.at hS hc_th.B rfl rfl (Nat.le_of_ble_eq_true rfl) dJ2_add_2_19 (fun H3 locs hat hu hS => ?_)
    have hc_el := hc_el.up hu hc_th.tag (by omega)
    have hc_arr1 := hc_arr1.up hu hc_th.tag (by omega)
    have hF := hF.up hA hu hc_th.tag (fun _ => show (ta) = ta ∨ (ta) = tr by omega)
    have hc_th : b_tt G B0 τ1 H3 a (ta) (.inr (2, [.int mc, .ref q1, .int (nI 1)])) := hc_th.set hat
    rw [← hQ]
    exact b_vret CX hr hlk hS (Nat.le_of_ble_eq_true rfl) (Nat.le_of_ble_eq_true rfl) dJ2_add_2_22 (⟨_, _, hA, hF, fr_arr1, hc_th, hc_arr1⟩)
theorem gf_J2_63_2 {p : Program} {l : Launch} {e : Env} {R : Room} {s : State} {m : MethodId} {args : Array Value} {below : List Frame} {meth : Method} {c : Code} {H : Heap} {locs : List Loc} {cells slots : Nat} {Q : State → Prop} {cc : ByteArray} {pc nL a : Nat} {ls : Array Slot} {rest : List Value} {G : b_G} {B0 : Nat} (CX : b_Cx p s m args c cc nL RJ2 G B0) {fs : List Value} (hP : b_at G a (.inr (2, fs)) H) {v : Value} (hv : fs[0]? = some v) (hdg : decode cc pc = .ok (.getfield 63, 3)) (kk : W p l e R s m args below meth c H locs cells slots Q (F0 m (pc + 3) ls (v :: rest))) : W p l e R s m args below meth c H locs cells slots Q (F0 m pc ls (.ref a :: rest)) := b_get CX in_J2 rfl 0 (by decide) q157 (Or.inr q158) hP hv hdg kk
theorem pf_J2_63_2 {p : Program} {l : Launch} {e : Env} {R : Room} {s : State} {m : MethodId} {args : Array Value} {below : List Frame} {meth : Method} {c : Code} {H : Heap} {locs : List Loc} {cells slots : Nat} {Q : State → Prop} {cc : ByteArray} {pc nL a : Nat} {ls : Array Slot} {rest : List Value} {G : b_G} {B0 : Nat} (CX : b_Cx p s m args c cc nL RJ2 G B0) {fs : List Value} (hP : b_at G a (.inr (2, fs)) H) (hS : va_S (b_A B0) s.heap H locs) (ha : B0 ≤ a) {v : Value} (hn : narrow (tyJ2 0) v = v) (hfit : fits (tyJ2 0) v = true) (hl : 0 < fs.length) (hdg : decode cc pc = .ok (.putfield 63, 3)) (kk : ∀ (H1 : Heap) (locs1 : List Loc), b_at G a (.inr (2, fs.set 0 v)) H1 → b_Up a H H1 → va_S (b_A B0) s.heap H1 locs1 → W p l e R s m args below meth c H1 locs1 cells slots Q (F0 m (pc + 3) ls rest)) : W p l e R s m args below meth c H locs cells slots Q (F0 m pc ls (v :: .ref a :: rest)) := b_put CX in_J2 tyJ2 tyJ2_ok rfl 0 (by decide) (by decide +kernel) q157 (Or.inr q158) rfl hP hS ha hn hfit hl hdg kk
theorem cs_J2_131 {p : Program} {l : Launch} {e : Env} {R : Room} {s : State} {m : MethodId} {args : Array Value} {below : List Frame} {meth : Method} {c : Code} {H : Heap} {locs : List Loc} {cells slots : Nat} {cc : ByteArray} {pc nL a : Nat} {ls : Array Slot} {rest : List Value} {G : b_G} {B0 : Nat} (CX : b_Cx p s m args c cc nL RJ2 G B0) (hls : ls.size = nL) {rm : Room} {mc ms : Nat} {As st0 : List Value} {Qc : Array Value → State → Outcome → State → Prop} (hM : Met l yJ2_add_2 (ws_ yJ2_add_2 cJ2_add_2 4 (Option.none)) rm (b_Pc G B0 H (.ref a :: As)) Qc mc ms (b_A B0)) (hn : As.length = 3) {fs : List Value} {ci : Nat} {qc : vw_C} (hc : b_cl[ci]? = some qc) (hq : qc.1 = RJ2) (hP : b_at G a (.inr (ci, fs)) H) (hS : va_S (b_A B0) s.heap H locs) (hst : st0 = As.reverse ++ .ref a :: rest) (hr : rm.cells = mc ∧ rm.slots = ms ∧ rm.frames + 1 ≤ R.frames ∧ 8 + (4 + 11) + rm.locals ≤ R.locals) (hw : (rest.map fun v => v.category).sum ≤ 8) (hdg : decode cc pc = .ok (.invokevirtual 131, 3)) (hf : cells + mc ≤ R.cells ∧ slots + ms ≤ R.slots) : va_Run p l e R s m args below meth c H locs cells slots mc ms (F0 m pc ls st0) rest (Qc (Value.ref a :: As).toArray) (b_A B0) := va_runV CX.fix hM (cwV 3 CX.ts (lw_V q727 q729 qs7 q83 q730) rfl hr.1 hr.2.1 (by decide +kernel) ⟨hr.2.2.1, hr.2.2.2⟩) ⟨b_blind G B0 H _, by have h9 := b_recv CX.K hc hP; rw [hq] at h9; exact h9, b_pre _ CX.K hS⟩ rfl hn hls hst (lv_room hw) hdg hf
set_option maxHeartbeats 2000000 in
set_option maxRecDepth 100000 in
theorem m_J2_add_s (l : Launch) {G : b_G} {B0 : Nat} {H : Heap} {τ : b_T} {a : Nat} {ta : Nat} {mc : Int32} {tr : Nat} {v : Nat} {tv : Nat} {ci : Nat} {fs : List Value} (hc_th : b_tt G B0 τ H a (ta) (.inr (2, [.int mc, .ref ((G.2.2 0)), .int (nI 0)]))) (hc_el : b_tt G B0 τ H v (tv) (.inr (ci, fs))) (hC : ∃ qv : vw_C, b_cl[ci]? = some qv ∧ Cond.castable qv.1 "java/lang/Object" ∈ lw_tbl) (hne : ¬ ta = tr) (hva : ¬ tv = ta) (hvr : ¬ tv = tr) : Met l yJ2_add (ws_ yJ2_add cJ2_add 2 (Option.some Jvm.ClassFile.FieldType.boolean)) ({ frames := 4, cells := 1, slots := 10, locals := 87 } : Room) (b_Pc G B0 H [.ref a, .ref v]) (b_Qi B0 (fun r H1 => ∃ (τ1 : b_T) (q : Nat), r = nI 1 ∧ b_Ag τ τ1 H ∧ b_Fr τ (fun t => t = ta ∨ t = tr) H H1 ∧ H.size ≤ q ∧ b_tt G B0 τ1 H1 a (ta) (.inr (2, [.int (mc + 1), .ref q, .int (nI 1)])) ∧ b_tt G B0 τ1 H1 q (tr) (.inl (G.2.1 2, q_refs 10 ((fun j => if j < 1 then some v else none)))))) 1 10 (b_A B0) := by
  refine b_of (by decide) (Nat.le_of_ble_eq_true rfl) ?_
  intro p e s m below meth c CX hr hlk hnm hS ls hl
  have CX : b_Cx p s m _ c cJ2_add 2 RJ2 G B0 := CX
  have hx := CX.hx
  have hb := CX.hb
  have hl : lv_has ls 2 [(0, .ref a), (1, .ref v)] := hl
  generalize hQ : MQ below (b_Qi B0 (fun r H1 => ∃ (τ1 : b_T) (q : Nat), r = nI 1 ∧ b_Ag τ τ1 H ∧ b_Fr τ (fun t => t = ta ∨ t = tr) H H1 ∧ H.size ≤ q ∧ b_tt G B0 τ1 H1 a (ta) (.inr (2, [.int (mc + 1), .ref q, .int (nI 1)])) ∧ b_tt G B0 τ1 H1 q (tr) (.inl (G.2.1 2, q_refs 10 ((fun j => if j < 1 then some v else none)))))) ([.ref a, .ref v] : List Value).toArray s 1 10 (b_A B0) = Q
  have hF : b_Fr τ (fun t => t = ta ∨ t = tr) H H := b_Fr.rf
  have hA : b_Ag τ τ H := b_Ag.rf
  obtain ⟨qv, hq1, hq2⟩ := hC
  refine lv_aload_n hx hb dJ2_add_0 rfl (lv_at hl 0 rfl) ?_
  refine lv_dup hx hb dJ2_add_1 rfl ?_
  refine gf_J2_63_2 CX hc_th.at rfl dJ2_add_2 ?_
  refine lv_iconst (v := nI 1) hx hb dJ2_add_5 rfl ?_
  refine lv_iadd hx hb dJ2_add_6 ?_
  refine pf_J2_63_2 CX hc_th.at hS hc_th.B rfl rfl (Nat.le_of_ble_eq_true rfl) dJ2_add_7 (fun H1 locs hat hu hS => ?_)
  have hc_el := hc_el.up hu hc_th.tag (by omega)
  have hF := hF.up hA hu hc_th.tag (fun _ => show (ta) = ta ∨ (ta) = tr by omega)
  have hc_th : b_tt G B0 τ H1 a (ta) (.inr (2, [.int (mc + (nI 1)), .ref ((G.2.2 0)), .int (nI 0)])) := hc_th.set hat
  refine lv_aload_n hx hb dJ2_add_10 rfl (lv_at hl 0 rfl) ?_
  refine lv_aload_n hx hb dJ2_add_11 rfl (lv_at hl 1 rfl) ?_
  refine lv_aload_n hx hb dJ2_add_12 rfl (lv_at hl 0 rfl) ?_
  refine gf_J2_9_2 CX hc_th.at rfl dJ2_add_13 ?_
  refine lv_aload_n hx hb dJ2_add_16 rfl (lv_at hl 0 rfl) ?_
  refine gf_J2_48_2 CX hc_th.at rfl dJ2_add_17 ?_
  refine b_cv (cs_J2_131 (rest := []) CX hl.1 (m_J2_add_2_s l (a := a) (ta := ta) (mc := mc + (nI 1)) (v := v) (tv := tv) (ci := ci) (fs := fs) hc_th hc_el ⟨_, hq1, hq2⟩ (by omega) (by omega) (by omega)) rfl rfl rfl hc_th.at hS rfl ⟨rfl, rfl, Nat.le_of_ble_eq_true rfl, Nat.le_of_ble_eq_true rfl⟩ (Nat.le_of_ble_eq_true rfl) dJ2_add_20 ⟨Nat.le_of_ble_eq_true rfl, Nat.le_of_ble_eq_true rfl⟩) hS (fun H2 locs hp hS => ?_)
  obtain ⟨τ2, q2, hA9, hF9, hr0, hx0, hx1⟩ := hp
  have hc_el := hc_el.ca hF9 hA9 (show ¬ ((tv) = ta ∨ (tv) = tr) by omega)
  have hz9 := hF.1
  have hF0 := hF.tr hA hF9 (fun q9 hq9 x9 => by have x8 : τ q9 = ta ∨ τ q9 = tr := x9; show τ q9 = ta ∨ τ q9 = tr; omega)
  have hA := hA.tr hA9 hF.1
  have hF := hF0
  have hc_th : b_tt G B0 τ2 H2 a (ta) (.inr (2, [.int ((mc + (nI 1))), .ref q2, .int (nI 1)])) := hx0
  have hc_arr2 : b_tt G B0 τ2 H2 q2 (tr) (.inl (G.2.1 2, q_refs 10 ((fun j => if j < 1 then some v else none)))) := hx1
  have fr_arr2 : H.size ≤ q2 := Nat.le_trans hz9 hr0
  refine lv_iconst (v := nI 1) hx hb dJ2_add_23 rfl ?_
  rw [← hQ]
  exact b_zret CX hr hlk hS (Nat.le_of_ble_eq_true rfl) (Nat.le_of_ble_eq_true rfl) rfl dJ2_add_24 (⟨_, _, rfl, hA, hF, fr_arr2, hc_th, hc_arr2⟩)
set_option maxHeartbeats 2000000 in
set_option maxRecDepth 100000 in
theorem m_J2_add_2_d (l : Launch) {G : b_G} {B0 : Nat} {H : Heap} {τ : b_T} {a : Nat} {ta : Nat} {mc : Int32} {ra : Nat} {tr : Nat} {n : Nat} {f : Nat → Nat} {v : Nat} {tv : Nat} {ci : Nat} {fs : List Value} (hc_th : b_tt G B0 τ H a (ta) (.inr (2, [.int mc, .ref ra, .int (nI n)]))) (hc_arr : b_tt G B0 τ H ra (tr) (.inl (G.2.1 2, q_refs 10 ((fun j => if j < n then some (f j) else none))))) (hc_el : b_tt G B0 τ H v (tv) (.inr (ci, fs))) (hC : ∃ qv : vw_C, b_cl[ci]? = some qv ∧ Cond.castable qv.1 "java/lang/Object" ∈ lw_tbl) (hne : ¬ ta = tr) (hva : ¬ tv = ta) (hvr : ¬ tv = tr) (hn : n < 10) : Met l yJ2_add_2 (ws_ yJ2_add_2 cJ2_add_2 4 (Option.none)) ({ frames := 0, cells := 0, slots := 0, locals := 0 } : Room) (b_Pc G B0 H [.ref a, .ref v, .ref ra, .int (nI n)]) (b_Qv B0 (fun H1 => b_Fr τ (fun t => t = ta ∨ t = tr) H H1 ∧ b_tt G B0 τ H1 a (ta) (.inr (2, [.int mc, .ref ra, .int (nI (n + 1))])) ∧ b_tt G B0 τ H1 ra (tr) (.inl (G.2.1 2, q_refs 10 ((fun j => if j < n + 1 then some (if j = n then v else f j) else none)))))) 0 0 (b_A B0) := by
  refine b_of (by decide) (Nat.le_of_ble_eq_true rfl) ?_
  intro p e s m below meth c CX hr hlk hnm hS ls hl
  have CX : b_Cx p s m _ c cJ2_add_2 4 RJ2 G B0 := CX
  have hx := CX.hx
  have hb := CX.hb
  have hl : lv_has ls 4 [(0, .ref a), (1, .ref v), (2, .ref ra), (3, .int (nI n))] := hl
  generalize hQ : MQ below (b_Qv B0 (fun H1 => b_Fr τ (fun t => t = ta ∨ t = tr) H H1 ∧ b_tt G B0 τ H1 a (ta) (.inr (2, [.int mc, .ref ra, .int (nI (n + 1))])) ∧ b_tt G B0 τ H1 ra (tr) (.inl (G.2.1 2, q_refs 10 ((fun j => if j < n + 1 then some (if j = n then v else f j) else none)))))) ([.ref a, .ref v, .ref ra, .int (nI n)] : List Value).toArray s 0 0 (b_A B0) = Q
  have hF : b_Fr τ (fun t => t = ta ∨ t = tr) H H := b_Fr.rf
  have hA : b_Ag τ τ H := b_Ag.rf
  obtain ⟨qv, hq1, hq2⟩ := hC
  refine lv_iload_n hx hb dJ2_add_2_0 rfl (lv_at hl 3 rfl) ?_
  refine lv_aload_n hx hb dJ2_add_2_1 rfl (lv_at hl 2 rfl) ?_
  refine b_alen CX hc_arr.at (K := 2) rfl (v := nI 10) rfl dJ2_add_2_2 ?_
  refine b_icmp_neN (tgt := 11) CX (by omega) (by omega) dJ2_add_2_3 (by decide) (fun c_3 => ?_) (fun c_3 => ?_)
  · refine lv_aload_n hx hb dJ2_add_2_11 rfl (lv_at hl 2 rfl) ?_
    refine lv_iload_n hx hb dJ2_add_2_12 rfl (lv_at hl 3 rfl) ?_
    refine lv_aload_n hx hb dJ2_add_2_13 rfl (lv_at hl 1 rfl) ?_
    refine b_qst CX hc_arr.at hS hc_arr.B (b_recv CX.K hq1 hc_el.at) (CX.K.2.1 _ hq2 rfl) (vp_in_nI (by omega) (by omega)) dJ2_add_2_14 (fun H1 locs hat hu hS => ?_)
    rw [nI_cl (by omega), show va_up ((fun j => if j < n then some (f j) else none)) n (some v) = (fun j => if j < n + 1 then some (if j = n then v else f j) else none) from q_more n v f] at hat
    have hc_th := hc_th.up hu hc_arr.tag (by omega)
    have hc_el := hc_el.up hu hc_arr.tag (by omega)
    have hF := hF.up hA hu hc_arr.tag (fun _ => show (tr) = ta ∨ (tr) = tr by omega)
    have hc_arr : b_tt G B0 τ H1 ra (tr) (.inl (G.2.1 2, q_refs 10 ((fun j => if j < n + 1 then some (if j = n then v else f j) else none)))) := hc_arr.set hat
    refine lv_aload_n hx hb dJ2_add_2_15 rfl (lv_at hl 0 rfl) ?_
    refine lv_iload_n hx hb dJ2_add_2_16 rfl (lv_at hl 3 rfl) ?_
    refine lv_iconst (v := nI 1) hx hb dJ2_add_2_17 rfl ?_
    refine b_iaddN CX dJ2_add_2_18 ?_
    refine pf_J2_48_2 CX hc_th.at hS hc_th.B rfl rfl (Nat.le_of_ble_eq_true rfl) dJ2_add_2_19 (fun H2 locs hat hu hS => ?_)
    have hc_arr := hc_arr.up hu hc_th.tag (by omega)
    have hc_el := hc_el.up hu hc_th.tag (by omega)
    have hF := hF.up hA hu hc_th.tag (fun _ => show (ta) = ta ∨ (ta) = tr by omega)
    have hc_th : b_tt G B0 τ H2 a (ta) (.inr (2, [.int mc, .ref ra, .int (nI (n + 1))])) := hc_th.set hat
    rw [← hQ]
    exact b_vret CX hr hlk hS (Nat.le_of_ble_eq_true rfl) (Nat.le_of_ble_eq_true rfl) dJ2_add_2_22 (⟨hF, hc_th, hc_arr⟩)
  · exfalso; omega
set_option maxHeartbeats 2000000 in
set_option maxRecDepth 100000 in
theorem m_J2_add_d (l : Launch) {G : b_G} {B0 : Nat} {H : Heap} {τ : b_T} {a : Nat} {ta : Nat} {mc : Int32} {ra : Nat} {tr : Nat} {n : Nat} {f : Nat → Nat} {v : Nat} {tv : Nat} {ci : Nat} {fs : List Value} (hc_th : b_tt G B0 τ H a (ta) (.inr (2, [.int mc, .ref ra, .int (nI n)]))) (hc_arr : b_tt G B0 τ H ra (tr) (.inl (G.2.1 2, q_refs 10 ((fun j => if j < n then some (f j) else none))))) (hc_el : b_tt G B0 τ H v (tv) (.inr (ci, fs))) (hC : ∃ qv : vw_C, b_cl[ci]? = some qv ∧ Cond.castable qv.1 "java/lang/Object" ∈ lw_tbl) (hne : ¬ ta = tr) (hva : ¬ tv = ta) (hvr : ¬ tv = tr) (hn : n < 10) : Met l yJ2_add (ws_ yJ2_add cJ2_add 2 (Option.some Jvm.ClassFile.FieldType.boolean)) ({ frames := 1, cells := 0, slots := 0, locals := 23 } : Room) (b_Pc G B0 H [.ref a, .ref v]) (b_Qi B0 (fun r H1 => r = nI 1 ∧ b_Fr τ (fun t => t = ta ∨ t = tr) H H1 ∧ b_tt G B0 τ H1 a (ta) (.inr (2, [.int (mc + 1), .ref ra, .int (nI (n + 1))])) ∧ b_tt G B0 τ H1 ra (tr) (.inl (G.2.1 2, q_refs 10 ((fun j => if j < n + 1 then some (if j = n then v else f j) else none)))))) 0 0 (b_A B0) := by
  refine b_of (by decide) (Nat.le_of_ble_eq_true rfl) ?_
  intro p e s m below meth c CX hr hlk hnm hS ls hl
  have CX : b_Cx p s m _ c cJ2_add 2 RJ2 G B0 := CX
  have hx := CX.hx
  have hb := CX.hb
  have hl : lv_has ls 2 [(0, .ref a), (1, .ref v)] := hl
  generalize hQ : MQ below (b_Qi B0 (fun r H1 => r = nI 1 ∧ b_Fr τ (fun t => t = ta ∨ t = tr) H H1 ∧ b_tt G B0 τ H1 a (ta) (.inr (2, [.int (mc + 1), .ref ra, .int (nI (n + 1))])) ∧ b_tt G B0 τ H1 ra (tr) (.inl (G.2.1 2, q_refs 10 ((fun j => if j < n + 1 then some (if j = n then v else f j) else none)))))) ([.ref a, .ref v] : List Value).toArray s 0 0 (b_A B0) = Q
  have hF : b_Fr τ (fun t => t = ta ∨ t = tr) H H := b_Fr.rf
  have hA : b_Ag τ τ H := b_Ag.rf
  obtain ⟨qv, hq1, hq2⟩ := hC
  refine lv_aload_n hx hb dJ2_add_0 rfl (lv_at hl 0 rfl) ?_
  refine lv_dup hx hb dJ2_add_1 rfl ?_
  refine gf_J2_63_2 CX hc_th.at rfl dJ2_add_2 ?_
  refine lv_iconst (v := nI 1) hx hb dJ2_add_5 rfl ?_
  refine lv_iadd hx hb dJ2_add_6 ?_
  refine pf_J2_63_2 CX hc_th.at hS hc_th.B rfl rfl (Nat.le_of_ble_eq_true rfl) dJ2_add_7 (fun H1 locs hat hu hS => ?_)
  have hc_arr := hc_arr.up hu hc_th.tag (by omega)
  have hc_el := hc_el.up hu hc_th.tag (by omega)
  have hF := hF.up hA hu hc_th.tag (fun _ => show (ta) = ta ∨ (ta) = tr by omega)
  have hc_th : b_tt G B0 τ H1 a (ta) (.inr (2, [.int (mc + (nI 1)), .ref ra, .int (nI n)])) := hc_th.set hat
  refine lv_aload_n hx hb dJ2_add_10 rfl (lv_at hl 0 rfl) ?_
  refine lv_aload_n hx hb dJ2_add_11 rfl (lv_at hl 1 rfl) ?_
  refine lv_aload_n hx hb dJ2_add_12 rfl (lv_at hl 0 rfl) ?_
  refine gf_J2_9_2 CX hc_th.at rfl dJ2_add_13 ?_
  refine lv_aload_n hx hb dJ2_add_16 rfl (lv_at hl 0 rfl) ?_
  refine gf_J2_48_2 CX hc_th.at rfl dJ2_add_17 ?_
  refine b_cv (cs_J2_131 (rest := []) CX hl.1 (m_J2_add_2_d l (a := a) (ta := ta) (mc := mc + (nI 1)) (ra := ra) (tr := tr) (n := n) (v := v) (tv := tv) (ci := ci) (fs := fs) hc_th hc_arr hc_el ⟨_, hq1, hq2⟩ (by omega) (by omega) (by omega) (by omega)) rfl rfl rfl hc_th.at hS rfl ⟨rfl, rfl, Nat.le_of_ble_eq_true rfl, Nat.le_of_ble_eq_true rfl⟩ (Nat.le_of_ble_eq_true rfl) dJ2_add_20 ⟨Nat.le_of_ble_eq_true rfl, Nat.le_of_ble_eq_true rfl⟩) hS (fun H2 locs hp hS => ?_)
  obtain ⟨hF9, hx0, hx1⟩ := hp
  have hc_el := hc_el.fr hF9 (show ¬ ((tv) = ta ∨ (tv) = tr) by omega)
  have hz9 := hF.1
  have hF0 := hF.tr hA hF9 (fun q9 hq9 x9 => by have x8 : τ q9 = ta ∨ τ q9 = tr := x9; show τ q9 = ta ∨ τ q9 = tr; omega)
  have hF := hF0
  have hc_th : b_tt G B0 τ H2 a (ta) (.inr (2, [.int ((mc + (nI 1))), .ref ra, .int (nI (n + 1))])) := hx0
  have hc_arr : b_tt G B0 τ H2 ra (tr) (.inl (G.2.1 2, q_refs 10 ((fun j => if j < n + 1 then some (if j = n then v else f j) else none)))) := hx1
  refine lv_iconst (v := nI 1) hx hb dJ2_add_23 rfl ?_
  rw [← hQ]
  exact b_zret CX hr hlk hS (Nat.le_of_ble_eq_true rfl) (Nat.le_of_ble_eq_true rfl) rfl dJ2_add_24 (⟨rfl, hF, hc_th, hc_arr⟩)
set_option maxHeartbeats 2000000 in
set_option maxRecDepth 100000 in
theorem m_J2_fastRemove_l (l : Launch) {G : b_G} {B0 : Nat} {H : Heap} {τ : b_T} {a : Nat} {ta : Nat} {mc : Int32} {ra : Nat} {tr : Nat} {n : Nat} {f : Nat → Nat} {i : Nat} (hc_th : b_tt G B0 τ H a (ta) (.inr (2, [.int mc, .ref ra, .int (nI n)]))) (hc_arr : b_tt G B0 τ H ra (tr) (.inl (G.2.1 2, q_refs 10 ((fun j => if j < n then some (f j) else none))))) (hi : i + 1 = n) (hn0 : 0 < n) (hn : n ≤ 10) (hne : ¬ ta = tr) : Met l yJ2_fastRemove (ws_ yJ2_fastRemove cJ2_fastRemove 4 (Option.none)) ({ frames := 0, cells := 0, slots := 0, locals := 0 } : Room) (b_Pc G B0 H [.ref a, .ref ra, .int (nI i)]) (b_Qv B0 (fun H1 => b_Fr τ (fun t => t = ta ∨ t = tr) H H1 ∧ b_tt G B0 τ H1 a (ta) (.inr (2, [.int (mc + 1), .ref ra, .int (nI (n - 1))])) ∧ b_tt G B0 τ H1 ra (tr) (.inl (G.2.1 2, q_refs 10 ((fun j => if j < n - 1 then some (f j) else none)))))) 0 0 (b_A B0) := by
  refine b_of (by decide) (Nat.le_of_ble_eq_true rfl) ?_
  intro p e s m below meth c CX hr hlk hnm hS ls hl
  have CX : b_Cx p s m _ c cJ2_fastRemove 4 RJ2 G B0 := CX
  have hx := CX.hx
  have hb := CX.hb
  have hl : lv_has ls 4 [(0, .ref a), (1, .ref ra), (2, .int (nI i))] := hl
  generalize hQ : MQ below (b_Qv B0 (fun H1 => b_Fr τ (fun t => t = ta ∨ t = tr) H H1 ∧ b_tt G B0 τ H1 a (ta) (.inr (2, [.int (mc + 1), .ref ra, .int (nI (n - 1))])) ∧ b_tt G B0 τ H1 ra (tr) (.inl (G.2.1 2, q_refs 10 ((fun j => if j < n - 1 then some (f j) else none)))))) ([.ref a, .ref ra, .int (nI i)] : List Value).toArray s 0 0 (b_A B0) = Q
  have hF : b_Fr τ (fun t => t = ta ∨ t = tr) H H := b_Fr.rf
  have hA : b_Ag τ τ H := b_Ag.rf
  refine lv_aload_n hx hb dJ2_fastRemove_0 rfl (lv_at hl 0 rfl) ?_
  refine lv_dup hx hb dJ2_fastRemove_1 rfl ?_
  refine gf_J2_63_2 CX hc_th.at rfl dJ2_fastRemove_2 ?_
  refine lv_iconst (v := nI 1) hx hb dJ2_fastRemove_5 rfl ?_
  refine lv_iadd hx hb dJ2_fastRemove_6 ?_
  refine pf_J2_63_2 CX hc_th.at hS hc_th.B rfl rfl (Nat.le_of_ble_eq_true rfl) dJ2_fastRemove_7 (fun H1 locs hat hu hS => ?_)
  have hc_arr := hc_arr.up hu hc_th.tag (by omega)
  have hF := hF.up hA hu hc_th.tag (fun _ => show (ta) = ta ∨ (ta) = tr by omega)
  have hc_th : b_tt G B0 τ H1 a (ta) (.inr (2, [.int (mc + (nI 1)), .ref ra, .int (nI n)])) := hc_th.set hat
  refine lv_aload_n hx hb dJ2_fastRemove_10 rfl (lv_at hl 0 rfl) ?_
  refine gf_J2_48_2 CX hc_th.at rfl dJ2_fastRemove_11 ?_
  refine lv_iconst (v := nI 1) hx hb dJ2_fastRemove_14 rfl ?_
  refine b_isubN CX (by omega) dJ2_fastRemove_15 ?_
  refine lv_dup hx hb dJ2_fastRemove_16 rfl ?_
  refine lv_istore_n (lv' := [(3, .int (nI (n - 1))), (0, .ref a), (1, .ref ra), (2, .int (nI i))]) hx hb dJ2_fastRemove_17 rfl hl (Nat.le_of_ble_eq_true rfl) rfl (fun ls hl => ?_)
  refine lv_iload_n hx hb dJ2_fastRemove_18 rfl (lv_at hl 3 rfl) ?_
  refine b_icmp_leN (tgt := 34) CX (by omega) (by omega) dJ2_fastRemove_19 (by decide) (fun c_19 => ?_) (fun c_19 => ?_)
  · refine lv_aload_n hx hb dJ2_fastRemove_34 rfl (lv_at hl 2 rfl) ?_
    refine lv_aload_n hx hb dJ2_fastRemove_35 rfl (lv_at hl 1 rfl) ?_
    refine lv_iload_n hx hb dJ2_fastRemove_36 rfl (lv_at hl 0 rfl) ?_
    refine lv_dup_x1 hx hb dJ2_fastRemove_37 rfl rfl ?_
    refine pf_J2_48_2 CX hc_th.at hS hc_th.B rfl rfl (Nat.le_of_ble_eq_true rfl) dJ2_fastRemove_38 (fun H2 locs hat hu hS => ?_)
    have hc_arr := hc_arr.up hu hc_th.tag (by omega)
    have hF := hF.up hA hu hc_th.tag (fun _ => show (ta) = ta ∨ (ta) = tr by omega)
    have hc_th : b_tt G B0 τ H2 a (ta) (.inr (2, [.int (mc + (nI 1)), .ref ra, .int (nI (n - 1))])) := hc_th.set hat
    refine lv_null hx hb dJ2_fastRemove_41 ?_
    refine b_qstN CX hc_arr.at hS hc_arr.B (vp_in_nI (by omega) (by omega)) dJ2_fastRemove_42 (fun H3 locs hat hu hS => ?_)
    rw [nI_cl (by omega), show va_up ((fun j => if j < n then some (f j) else none)) (n - 1) (none) = (fun j => if j < n - 1 then some (f j) else none) from q_last hn0 f] at hat
    have hc_th := hc_th.up hu hc_arr.tag (by omega)
    have hF := hF.up hA hu hc_arr.tag (fun _ => show (tr) = ta ∨ (tr) = tr by omega)
    have hc_arr : b_tt G B0 τ H3 ra (tr) (.inl (G.2.1 2, q_refs 10 ((fun j => if j < n - 1 then some (f j) else none)))) := hc_arr.set hat
    rw [← hQ]
    exact b_vret CX hr hlk hS (Nat.le_of_ble_eq_true rfl) (Nat.le_of_ble_eq_true rfl) dJ2_fastRemove_43 (⟨hF, hc_th, hc_arr⟩)
  · exfalso; omega
theorem cs_J2_144 {p : Program} {l : Launch} {e : Env} {R : Room} {s : State} {m : MethodId} {args : Array Value} {below : List Frame} {meth : Method} {c : Code} {H : Heap} {locs : List Loc} {cells slots : Nat} {cc : ByteArray} {pc nL a : Nat} {ls : Array Slot} {rest : List Value} {G : b_G} {B0 : Nat} (CX : b_Cx p s m args c cc nL RJ2 G B0) (hls : ls.size = nL) {rm : Room} {mc ms : Nat} {As st0 : List Value} {Qc : Array Value → State → Outcome → State → Prop} (hM : Met l yJ2_fastRemove (ws_ yJ2_fastRemove cJ2_fastRemove 4 (Option.none)) rm (b_Pc G B0 H (.ref a :: As)) Qc mc ms (b_A B0)) (hn : As.length = 2) {fs : List Value} {ci : Nat} {qc : vw_C} (hc : b_cl[ci]? = some qc) (hq : qc.1 = RJ2) (hP : b_at G a (.inr (ci, fs)) H) (hS : va_S (b_A B0) s.heap H locs) (hst : st0 = As.reverse ++ .ref a :: rest) (hr : rm.cells = mc ∧ rm.slots = ms ∧ rm.frames + 1 ≤ R.frames ∧ 8 + (4 + 11) + rm.locals ≤ R.locals) (hw : (rest.map fun v => v.category).sum ≤ 8) (hdg : decode cc pc = .ok (.invokevirtual 144, 3)) (hf : cells + mc ≤ R.cells ∧ slots + ms ≤ R.slots) : va_Run p l e R s m args below meth c H locs cells slots mc ms (F0 m pc ls st0) rest (Qc (Value.ref a :: As).toArray) (b_A B0) := va_runV CX.fix hM (cwV 2 CX.ts (lw_V q970 q972 qs27 q83 q973) rfl hr.1 hr.2.1 (by decide +kernel) ⟨hr.2.2.1, hr.2.2.2⟩) ⟨b_blind G B0 H _, by have h9 := b_recv CX.K hc hP; rw [hq] at h9; exact h9, b_pre _ CX.K hS⟩ rfl hn hls hst (lv_room hw) hdg hf
set_option maxHeartbeats 2000000 in
set_option maxRecDepth 100000 in
theorem m_J2_remove_l (l : Launch) {G : b_G} {B0 : Nat} {H : Heap} {τ : b_T} {a : Nat} {ta : Nat} {mc : Int32} {ra : Nat} {tr : Nat} {n : Nat} {f : Nat → Nat} {i : Nat} (hc_th : b_tt G B0 τ H a (ta) (.inr (2, [.int mc, .ref ra, .int (nI n)]))) (hc_arr : b_tt G B0 τ H ra (tr) (.inl (G.2.1 2, q_refs 10 ((fun j => if j < n then some (f j) else none))))) (hi : i + 1 = n) (hn0 : 0 < n) (hn : n ≤ 10) (hne : ¬ ta = tr) : Met l yJ2_remove (ws_ yJ2_remove cJ2_remove 4 (Option.some (Jvm.ClassFile.FieldType.object "java/lang/Object"))) ({ frames := 2, cells := 0, slots := 0, locals := 43 } : Room) (b_Pc G B0 H [.ref a, .int (nI i)]) (b_Qq B0 (fun r H1 => r = some (f i) ∧ b_Fr τ (fun t => t = ta ∨ t = tr) H H1 ∧ b_tt G B0 τ H1 a (ta) (.inr (2, [.int (mc + 1), .ref ra, .int (nI (n - 1))])) ∧ b_tt G B0 τ H1 ra (tr) (.inl (G.2.1 2, q_refs 10 ((fun j => if j < n - 1 then some (f j) else none)))))) 0 0 (b_A B0) := by
  refine b_of (by decide) (Nat.le_of_ble_eq_true rfl) ?_
  intro p e s m below meth c CX hr hlk hnm hS ls hl
  have CX : b_Cx p s m _ c cJ2_remove 4 RJ2 G B0 := CX
  have hx := CX.hx
  have hb := CX.hb
  have hl : lv_has ls 4 [(0, .ref a), (1, .int (nI i))] := hl
  generalize hQ : MQ below (b_Qq B0 (fun r H1 => r = some (f i) ∧ b_Fr τ (fun t => t = ta ∨ t = tr) H H1 ∧ b_tt G B0 τ H1 a (ta) (.inr (2, [.int (mc + 1), .ref ra, .int (nI (n - 1))])) ∧ b_tt G B0 τ H1 ra (tr) (.inl (G.2.1 2, q_refs 10 ((fun j => if j < n - 1 then some (f j) else none)))))) ([.ref a, .int (nI i)] : List Value).toArray s 0 0 (b_A B0) = Q
  have hF : b_Fr τ (fun t => t = ta ∨ t = tr) H H := b_Fr.rf
  have hA : b_Ag τ τ H := b_Ag.rf
  refine lv_iload_n hx hb dJ2_remove_0 rfl (lv_at hl 1 rfl) ?_
  refine lv_aload_n hx hb dJ2_remove_1 rfl (lv_at hl 0 rfl) ?_
  refine gf_J2_48_2 CX hc_th.at rfl dJ2_remove_2 ?_
  refine b_ci0 (cs_J2_118 (rest := []) CX hl.1 (m_J12_checkIndex l (i := i) (n := n) (by omega) (by omega)) rfl hS rfl ⟨rfl, rfl, Nat.le_of_ble_eq_true rfl, Nat.le_of_ble_eq_true rfl⟩ (Nat.le_of_ble_eq_true rfl) dJ2_remove_5 ⟨Nat.le_of_ble_eq_true rfl, Nat.le_of_ble_eq_true rfl⟩) hS (fun locs hS => ?_)
  refine lv_pop hx hb dJ2_remove_8 rfl ?_
  refine lv_aload_n hx hb dJ2_remove_9 rfl (lv_at hl 0 rfl) ?_
  refine gf_J2_9_2 CX hc_th.at rfl dJ2_remove_10 ?_
  refine lv_astore_n (lv' := [(2, .ref ra), (0, .ref a), (1, .int (nI i))]) hx hb dJ2_remove_13 rfl hl (Nat.le_of_ble_eq_true rfl) rfl (fun ls hl => ?_)
  refine lv_aload_n hx hb dJ2_remove_14 rfl (lv_at hl 0 rfl) ?_
  refine lv_iload_n hx hb dJ2_remove_15 rfl (lv_at hl 2 rfl) ?_
  refine b_qld CX hc_arr.at (x := some ((f i))) (vp_in_nI (by omega) (by omega)) (b_at_nQ (f := (fun j => if j < n then some (f j) else none)) (n := i) (by omega) (if_pos (by omega))) dJ2_remove_16 ?_
  refine lv_astore_n (lv' := [(3, .ref ((f i))), (2, .ref ra), (0, .ref a), (1, .int (nI i))]) hx hb dJ2_remove_17 rfl hl (Nat.le_of_ble_eq_true rfl) rfl (fun ls hl => ?_)
  refine lv_aload_n hx hb dJ2_remove_18 rfl (lv_at hl 2 rfl) ?_
  refine lv_aload_n hx hb dJ2_remove_19 rfl (lv_at hl 1 rfl) ?_
  refine lv_iload_n hx hb dJ2_remove_20 rfl (lv_at hl 3 rfl) ?_
  refine b_cv (cs_J2_144 (rest := []) CX hl.1 (m_J2_fastRemove_l l (a := a) (ta := ta) (mc := mc) (ra := ra) (tr := tr) (n := n) (i := i) hc_th hc_arr (by omega) (by omega) (by omega) (by omega)) rfl rfl rfl hc_th.at hS rfl ⟨rfl, rfl, Nat.le_of_ble_eq_true rfl, Nat.le_of_ble_eq_true rfl⟩ (Nat.le_of_ble_eq_true rfl) dJ2_remove_21 ⟨Nat.le_of_ble_eq_true rfl, Nat.le_of_ble_eq_true rfl⟩) hS (fun H1 locs hp hS => ?_)
  obtain ⟨hF9, hx0, hx1⟩ := hp
  have hz9 := hF.1
  have hF0 := hF.tr hA hF9 (fun q9 hq9 x9 => by have x8 : τ q9 = ta ∨ τ q9 = tr := x9; show τ q9 = ta ∨ τ q9 = tr; omega)
  have hF := hF0
  have hc_th : b_tt G B0 τ H1 a (ta) (.inr (2, [.int (mc + 1), .ref ra, .int (nI (n - 1))])) := hx0
  have hc_arr : b_tt G B0 τ H1 ra (tr) (.inl (G.2.1 2, q_refs 10 ((fun j => if j < n - 1 then some (f j) else none)))) := hx1
  refine lv_aload_n hx hb dJ2_remove_24 rfl (lv_at hl 0 rfl) ?_
  rw [← hQ]
  exact b_aret (v := some ((f i))) CX hr (Or.inl ⟨_, rfl⟩) hlk hS (Nat.le_of_ble_eq_true rfl) (Nat.le_of_ble_eq_true rfl) dJ2_remove_25 (⟨rfl, hF, hc_th, hc_arr⟩)
set_option maxHeartbeats 2000000 in
set_option maxRecDepth 100000 in
theorem m_J2_fastRemove_s (l : Launch) {G : b_G} {B0 : Nat} {H : Heap} {τ : b_T} {a : Nat} {ta : Nat} {mc : Int32} {ra : Nat} {tr : Nat} {n : Nat} {f : Nat → Nat} {i : Nat} (hc_th : b_tt G B0 τ H a (ta) (.inr (2, [.int mc, .ref ra, .int (nI n)]))) (hc_arr : b_tt G B0 τ H ra (tr) (.inl (G.2.1 2, q_refs 10 ((fun j => if j < n then some (f j) else none))))) (hi : i + 1 < n) (hm : ∀ j, j < n → ∃ (t : Nat) (fs : List Value), b_tt G B0 τ H (f j) t (.inr (1, fs)) ∧ ¬ (t = ta ∨ t = tr)) (hn0 : 0 < n) (hn : n ≤ 10) (hne : ¬ ta = tr) : Met l yJ2_fastRemove (ws_ yJ2_fastRemove cJ2_fastRemove 4 (Option.none)) ({ frames := 1, cells := 0, slots := 0, locals := 48 } : Room) (b_Pc G B0 H [.ref a, .ref ra, .int (nI i)]) (b_Qv B0 (fun H1 => b_Fr τ (fun t => t = ta ∨ t = tr) H H1 ∧ b_tt G B0 τ H1 a (ta) (.inr (2, [.int (mc + 1), .ref ra, .int (nI (n - 1))])) ∧ b_tt G B0 τ H1 ra (tr) (.inl (G.2.1 2, q_refs 10 ((fun j => if j < n - 1 then some (if j < i then f j else f (j + 1)) else none)))))) 0 0 (b_A B0) := by
  refine b_of (by decide) (Nat.le_of_ble_eq_true rfl) ?_
  intro p e s m below meth c CX hr hlk hnm hS ls hl
  have CX : b_Cx p s m _ c cJ2_fastRemove 4 RJ2 G B0 := CX
  have hx := CX.hx
  have hb := CX.hb
  have hl : lv_has ls 4 [(0, .ref a), (1, .ref ra), (2, .int (nI i))] := hl
  generalize hQ : MQ below (b_Qv B0 (fun H1 => b_Fr τ (fun t => t = ta ∨ t = tr) H H1 ∧ b_tt G B0 τ H1 a (ta) (.inr (2, [.int (mc + 1), .ref ra, .int (nI (n - 1))])) ∧ b_tt G B0 τ H1 ra (tr) (.inl (G.2.1 2, q_refs 10 ((fun j => if j < n - 1 then some (if j < i then f j else f (j + 1)) else none)))))) ([.ref a, .ref ra, .int (nI i)] : List Value).toArray s 0 0 (b_A B0) = Q
  have hF : b_Fr τ (fun t => t = ta ∨ t = tr) H H := b_Fr.rf
  have hA : b_Ag τ τ H := b_Ag.rf
  refine lv_aload_n hx hb dJ2_fastRemove_0 rfl (lv_at hl 0 rfl) ?_
  refine lv_dup hx hb dJ2_fastRemove_1 rfl ?_
  refine gf_J2_63_2 CX hc_th.at rfl dJ2_fastRemove_2 ?_
  refine lv_iconst (v := nI 1) hx hb dJ2_fastRemove_5 rfl ?_
  refine lv_iadd hx hb dJ2_fastRemove_6 ?_
  refine pf_J2_63_2 CX hc_th.at hS hc_th.B rfl rfl (Nat.le_of_ble_eq_true rfl) dJ2_fastRemove_7 (fun H1 locs hat hu hS => ?_)
  have hc_arr := hc_arr.up hu hc_th.tag (by omega)
  have hm := fun j hj => (let ⟨t9, fs9, h9, hn9⟩ := hm j hj; (⟨t9, fs9, h9.up hu hc_th.tag (by omega), hn9⟩ : ∃ (t : Nat) (fs : List Value), b_tt G B0 τ H1 (f j) t (.inr (1, fs)) ∧ ¬ (t = ta ∨ t = tr)))
  have hF := hF.up hA hu hc_th.tag (fun _ => show (ta) = ta ∨ (ta) = tr by omega)
  have hc_th : b_tt G B0 τ H1 a (ta) (.inr (2, [.int (mc + (nI 1)), .ref ra, .int (nI n)])) := hc_th.set hat
  refine lv_aload_n hx hb dJ2_fastRemove_10 rfl (lv_at hl 0 rfl) ?_
  refine gf_J2_48_2 CX hc_th.at rfl dJ2_fastRemove_11 ?_
  refine lv_iconst (v := nI 1) hx hb dJ2_fastRemove_14 rfl ?_
  refine b_isubN CX (by omega) dJ2_fastRemove_15 ?_
  refine lv_dup hx hb dJ2_fastRemove_16 rfl ?_
  refine lv_istore_n (lv' := [(3, .int (nI (n - 1))), (0, .ref a), (1, .ref ra), (2, .int (nI i))]) hx hb dJ2_fastRemove_17 rfl hl (Nat.le_of_ble_eq_true rfl) rfl (fun ls hl => ?_)
  refine lv_iload_n hx hb dJ2_fastRemove_18 rfl (lv_at hl 3 rfl) ?_
  refine b_icmp_leN (tgt := 34) CX (by omega) (by omega) dJ2_fastRemove_19 (by decide) (fun c_19 => ?_) (fun c_19 => ?_)
  · exfalso; omega
  · refine lv_aload_n hx hb dJ2_fastRemove_22 rfl (lv_at hl 2 rfl) ?_
    refine lv_iload_n hx hb dJ2_fastRemove_23 rfl (lv_at hl 3 rfl) ?_
    refine lv_iconst (v := nI 1) hx hb dJ2_fastRemove_24 rfl ?_
    refine b_iaddN CX dJ2_fastRemove_25 ?_
    refine lv_aload_n hx hb dJ2_fastRemove_26 rfl (lv_at hl 2 rfl) ?_
    refine lv_iload_n hx hb dJ2_fastRemove_27 rfl (lv_at hl 3 rfl) ?_
    refine lv_iload_n hx hb dJ2_fastRemove_28 rfl (lv_at hl 0 rfl) ?_
    refine lv_iload_n hx hb dJ2_fastRemove_29 rfl (lv_at hl 3 rfl) ?_
    refine b_isubN CX (by omega) dJ2_fastRemove_30 ?_
    refine b_copyq CX hl.1 q974 q348 q347 q96 (C := RX2) hc_arr.at hc_arr.at hS hc_arr.B (nI_pos (by omega)) (nI_pos (by omega)) (nI_pos (by omega)) (by rw [nI_cl (by omega), nI_cl (by omega)]; omega) (by rw [nI_cl (by omega), nI_cl (by omega)]; omega) ?_ (CX.K.2.1 _ q2231 rfl) (Nat.le_of_ble_eq_true rfl) (Nat.le_of_ble_eq_true rfl) dJ2_fastRemove_31 (fun H2 locs hat hu hS => ?_)
    · intro j hj y hy
      rw [nI_cl (by omega)] at hj hy
      rw [if_pos (by omega)] at hy
      cases hy
      obtain ⟨t9, fs9, h9, -⟩ := hm (i + 1 + j) (by omega)
      exact b_recv CX.K (ci := 1) rfl h9.at
    rw [nI_cl (by omega), nI_cl (by omega), nI_cl (by omega)] at hat
    have hc_th := hc_th.up hu hc_arr.tag (by omega)
    have hm := fun j hj => (let ⟨t9, fs9, h9, hn9⟩ := hm j hj; (⟨t9, fs9, h9.up hu hc_arr.tag (by omega), hn9⟩ : ∃ (t : Nat) (fs : List Value), b_tt G B0 τ H2 (f j) t (.inr (1, fs)) ∧ ¬ (t = ta ∨ t = tr)))
    have hF := hF.up hA hu hc_arr.tag (fun _ => show (tr) = ta ∨ (tr) = tr by omega)
    have hc_arr : b_tt G B0 τ H2 ra (tr) (.inl (G.2.1 2, q_refs 10 ((va_cpy (fun j => if j < n then some (f j) else none) (fun j => if j < n then some (f j) else none) (i + 1) i (n - 1 - i))))) := hc_arr.set hat
    refine lv_aload_n hx hb dJ2_fastRemove_34 rfl (lv_at hl 2 rfl) ?_
    refine lv_aload_n hx hb dJ2_fastRemove_35 rfl (lv_at hl 1 rfl) ?_
    refine lv_iload_n hx hb dJ2_fastRemove_36 rfl (lv_at hl 0 rfl) ?_
    refine lv_dup_x1 hx hb dJ2_fastRemove_37 rfl rfl ?_
    refine pf_J2_48_2 CX hc_th.at hS hc_th.B rfl rfl (Nat.le_of_ble_eq_true rfl) dJ2_fastRemove_38 (fun H3 locs hat hu hS => ?_)
    have hc_arr := hc_arr.up hu hc_th.tag (by omega)
    have hm := fun j hj => (let ⟨t9, fs9, h9, hn9⟩ := hm j hj; (⟨t9, fs9, h9.up hu hc_th.tag (by omega), hn9⟩ : ∃ (t : Nat) (fs : List Value), b_tt G B0 τ H3 (f j) t (.inr (1, fs)) ∧ ¬ (t = ta ∨ t = tr)))
    have hF := hF.up hA hu hc_th.tag (fun _ => show (ta) = ta ∨ (ta) = tr by omega)
    have hc_th : b_tt G B0 τ H3 a (ta) (.inr (2, [.int (mc + (nI 1)), .ref ra, .int (nI (n - 1))])) := hc_th.set hat
    refine lv_null hx hb dJ2_fastRemove_41 ?_
    refine b_qstN CX hc_arr.at hS hc_arr.B (vp_in_nI (by omega) (by omega)) dJ2_fastRemove_42 (fun H4 locs hat hu hS => ?_)
    rw [nI_cl (by omega), show va_up ((va_cpy (fun j => if j < n then some (f j) else none) (fun j => if j < n then some (f j) else none) (i + 1) i (n - 1 - i))) (n - 1) (none) = (fun j => if j < n - 1 then some (if j < i then f j else f (j + 1)) else none) from q_rem hi f] at hat
    have hc_th := hc_th.up hu hc_arr.tag (by omega)
    have hm := fun j hj => (let ⟨t9, fs9, h9, hn9⟩ := hm j hj; (⟨t9, fs9, h9.up hu hc_arr.tag (by omega), hn9⟩ : ∃ (t : Nat) (fs : List Value), b_tt G B0 τ H4 (f j) t (.inr (1, fs)) ∧ ¬ (t = ta ∨ t = tr)))
    have hF := hF.up hA hu hc_arr.tag (fun _ => show (tr) = ta ∨ (tr) = tr by omega)
    have hc_arr : b_tt G B0 τ H4 ra (tr) (.inl (G.2.1 2, q_refs 10 ((fun j => if j < n - 1 then some (if j < i then f j else f (j + 1)) else none)))) := hc_arr.set hat
    rw [← hQ]
    exact b_vret CX hr hlk hS (Nat.le_of_ble_eq_true rfl) (Nat.le_of_ble_eq_true rfl) dJ2_fastRemove_43 (⟨hF, hc_th, hc_arr⟩)
set_option maxHeartbeats 2000000 in
set_option maxRecDepth 100000 in
theorem m_J2_remove_s (l : Launch) {G : b_G} {B0 : Nat} {H : Heap} {τ : b_T} {a : Nat} {ta : Nat} {mc : Int32} {ra : Nat} {tr : Nat} {n : Nat} {f : Nat → Nat} {i : Nat} (hc_th : b_tt G B0 τ H a (ta) (.inr (2, [.int mc, .ref ra, .int (nI n)]))) (hc_arr : b_tt G B0 τ H ra (tr) (.inl (G.2.1 2, q_refs 10 ((fun j => if j < n then some (f j) else none))))) (hi : i + 1 < n) (hm : ∀ j, j < n → ∃ (t : Nat) (fs : List Value), b_tt G B0 τ H (f j) t (.inr (1, fs)) ∧ ¬ (t = ta ∨ t = tr)) (hn0 : 0 < n) (hn : n ≤ 10) (hne : ¬ ta = tr) : Met l yJ2_remove (ws_ yJ2_remove cJ2_remove 4 (Option.some (Jvm.ClassFile.FieldType.object "java/lang/Object"))) ({ frames := 2, cells := 0, slots := 0, locals := 71 } : Room) (b_Pc G B0 H [.ref a, .int (nI i)]) (b_Qq B0 (fun r H1 => r = some (f i) ∧ b_Fr τ (fun t => t = ta ∨ t = tr) H H1 ∧ b_tt G B0 τ H1 a (ta) (.inr (2, [.int (mc + 1), .ref ra, .int (nI (n - 1))])) ∧ b_tt G B0 τ H1 ra (tr) (.inl (G.2.1 2, q_refs 10 ((fun j => if j < n - 1 then some (if j < i then f j else f (j + 1)) else none)))))) 0 0 (b_A B0) := by
  refine b_of (by decide) (Nat.le_of_ble_eq_true rfl) ?_
  intro p e s m below meth c CX hr hlk hnm hS ls hl
  have CX : b_Cx p s m _ c cJ2_remove 4 RJ2 G B0 := CX
  have hx := CX.hx
  have hb := CX.hb
  have hl : lv_has ls 4 [(0, .ref a), (1, .int (nI i))] := hl
  generalize hQ : MQ below (b_Qq B0 (fun r H1 => r = some (f i) ∧ b_Fr τ (fun t => t = ta ∨ t = tr) H H1 ∧ b_tt G B0 τ H1 a (ta) (.inr (2, [.int (mc + 1), .ref ra, .int (nI (n - 1))])) ∧ b_tt G B0 τ H1 ra (tr) (.inl (G.2.1 2, q_refs 10 ((fun j => if j < n - 1 then some (if j < i then f j else f (j + 1)) else none)))))) ([.ref a, .int (nI i)] : List Value).toArray s 0 0 (b_A B0) = Q
  have hF : b_Fr τ (fun t => t = ta ∨ t = tr) H H := b_Fr.rf
  have hA : b_Ag τ τ H := b_Ag.rf
  refine lv_iload_n hx hb dJ2_remove_0 rfl (lv_at hl 1 rfl) ?_
  refine lv_aload_n hx hb dJ2_remove_1 rfl (lv_at hl 0 rfl) ?_
  refine gf_J2_48_2 CX hc_th.at rfl dJ2_remove_2 ?_
  refine b_ci0 (cs_J2_118 (rest := []) CX hl.1 (m_J12_checkIndex l (i := i) (n := n) (by omega) (by omega)) rfl hS rfl ⟨rfl, rfl, Nat.le_of_ble_eq_true rfl, Nat.le_of_ble_eq_true rfl⟩ (Nat.le_of_ble_eq_true rfl) dJ2_remove_5 ⟨Nat.le_of_ble_eq_true rfl, Nat.le_of_ble_eq_true rfl⟩) hS (fun locs hS => ?_)
  refine lv_pop hx hb dJ2_remove_8 rfl ?_
  refine lv_aload_n hx hb dJ2_remove_9 rfl (lv_at hl 0 rfl) ?_
  refine gf_J2_9_2 CX hc_th.at rfl dJ2_remove_10 ?_
  refine lv_astore_n (lv' := [(2, .ref ra), (0, .ref a), (1, .int (nI i))]) hx hb dJ2_remove_13 rfl hl (Nat.le_of_ble_eq_true rfl) rfl (fun ls hl => ?_)
  refine lv_aload_n hx hb dJ2_remove_14 rfl (lv_at hl 0 rfl) ?_
  refine lv_iload_n hx hb dJ2_remove_15 rfl (lv_at hl 2 rfl) ?_
  refine b_qld CX hc_arr.at (x := some ((f i))) (vp_in_nI (by omega) (by omega)) (b_at_nQ (f := (fun j => if j < n then some (f j) else none)) (n := i) (by omega) (if_pos (by omega))) dJ2_remove_16 ?_
  refine lv_astore_n (lv' := [(3, .ref ((f i))), (2, .ref ra), (0, .ref a), (1, .int (nI i))]) hx hb dJ2_remove_17 rfl hl (Nat.le_of_ble_eq_true rfl) rfl (fun ls hl => ?_)
  refine lv_aload_n hx hb dJ2_remove_18 rfl (lv_at hl 2 rfl) ?_
  refine lv_aload_n hx hb dJ2_remove_19 rfl (lv_at hl 1 rfl) ?_
  refine lv_iload_n hx hb dJ2_remove_20 rfl (lv_at hl 3 rfl) ?_
  refine b_cv (cs_J2_144 (rest := []) CX hl.1 (m_J2_fastRemove_s l (a := a) (ta := ta) (mc := mc) (ra := ra) (tr := tr) (n := n) (i := i) hc_th hc_arr (by omega) hm (by omega) (by omega) (by omega)) rfl rfl rfl hc_th.at hS rfl ⟨rfl, rfl, Nat.le_of_ble_eq_true rfl, Nat.le_of_ble_eq_true rfl⟩ (Nat.le_of_ble_eq_true rfl) dJ2_remove_21 ⟨Nat.le_of_ble_eq_true rfl, Nat.le_of_ble_eq_true rfl⟩) hS (fun H1 locs hp hS => ?_)
  obtain ⟨hF9, hx0, hx1⟩ := hp
  have hz9 := hF.1
  have hF0 := hF.tr hA hF9 (fun q9 hq9 x9 => by have x8 : τ q9 = ta ∨ τ q9 = tr := x9; show τ q9 = ta ∨ τ q9 = tr; omega)
  have hF := hF0
  have hc_th : b_tt G B0 τ H1 a (ta) (.inr (2, [.int (mc + 1), .ref ra, .int (nI (n - 1))])) := hx0
  have hc_arr : b_tt G B0 τ H1 ra (tr) (.inl (G.2.1 2, q_refs 10 ((fun j => if j < n - 1 then some (if j < i then f j else f (j + 1)) else none)))) := hx1
  refine lv_aload_n hx hb dJ2_remove_24 rfl (lv_at hl 0 rfl) ?_
  rw [← hQ]
  exact b_aret (v := some ((f i))) CX hr (Or.inl ⟨_, rfl⟩) hlk hS (Nat.le_of_ble_eq_true rfl) (Nat.le_of_ble_eq_true rfl) dJ2_remove_25 (⟨rfl, hF, hc_th, hc_arr⟩)
theorem pf_J3_15_3 {p : Program} {l : Launch} {e : Env} {R : Room} {s : State} {m : MethodId} {args : Array Value} {below : List Frame} {meth : Method} {c : Code} {H : Heap} {locs : List Loc} {cells slots : Nat} {Q : State → Prop} {cc : ByteArray} {pc nL a : Nat} {ls : Array Slot} {rest : List Value} {G : b_G} {B0 : Nat} (CX : b_Cx p s m args c cc nL RJ3 G B0) {fs : List Value} (hP : b_at G a (.inr (3, fs)) H) (hS : va_S (b_A B0) s.heap H locs) (ha : B0 ≤ a) {v : Value} (hn : narrow (tyJ4 0) v = v) (hfit : fits (tyJ4 0) v = true) (hl : 0 < fs.length) (hdg : decode cc pc = .ok (.putfield 15, 3)) (kk : ∀ (H1 : Heap) (locs1 : List Loc), b_at G a (.inr (3, fs.set 0 v)) H1 → b_Up a H H1 → va_S (b_A B0) s.heap H1 locs1 → W p l e R s m args below meth c H1 locs1 cells slots Q (F0 m (pc + 3) ls rest)) : W p l e R s m args below meth c H locs cells slots Q (F0 m pc ls (v :: .ref a :: rest)) := b_put CX in_J4 tyJ4 tyJ4_ok rfl 0 (by decide) (by decide +kernel) q233 (Or.inl rfl) rfl hP hS ha hn hfit hl hdg kk
theorem pf_J3_22_3 {p : Program} {l : Launch} {e : Env} {R : Room} {s : State} {m : MethodId} {args : Array Value} {below : List Frame} {meth : Method} {c : Code} {H : Heap} {locs : List Loc} {cells slots : Nat} {Q : State → Prop} {cc : ByteArray} {pc nL a : Nat} {ls : Array Slot} {rest : List Value} {G : b_G} {B0 : Nat} (CX : b_Cx p s m args c cc nL RJ3 G B0) {fs : List Value} (hP : b_at G a (.inr (3, fs)) H) (hS : va_S (b_A B0) s.heap H locs) (ha : B0 ≤ a) {v : Value} (hn : narrow (tyJ4 1) v = v) (hfit : fits (tyJ4 1) v = true) (hl : 1 < fs.length) (hdg : decode cc pc = .ok (.putfield 22, 3)) (kk : ∀ (H1 : Heap) (locs1 : List Loc), b_at G a (.inr (3, fs.set 1 v)) H1 → b_Up a H H1 → va_S (b_A B0) s.heap H1 locs1 → W p l e R s m args below meth c H1 locs1 cells slots Q (F0 m (pc + 3) ls rest)) : W p l e R s m args below meth c H locs cells slots Q (F0 m pc ls (v :: .ref a :: rest)) := b_put CX in_J4 tyJ4 tyJ4_ok rfl 1 (by decide) (by decide +kernel) q234 (Or.inl rfl) rfl hP hS ha hn hfit hl hdg kk
set_option maxHeartbeats 2000000 in
set_option maxRecDepth 100000 in
theorem m_J3_init (l : Launch) {G : b_G} {B0 : Nat} {H : Heap} {τ : b_T} {a : Nat} {ta : Nat} {tv : Nat} (hc_th : b_tt G B0 τ H a (ta) (.inr (3, [.null, .int (nI 0), .int (nI 0), .int (nI 0)]))) (hne : ¬ ta = tv) : Met l yJ3_init (ws_ yJ3_init cJ3_init 2 (Option.none)) ({ frames := 1, cells := 1, slots := 60, locals := 20 } : Room) (b_Pc G B0 H [.ref a, .int (nI 60)]) (b_Qv B0 (fun H1 => ∃ (τ1 : b_T) (q : Nat), b_Ag τ τ1 H ∧ b_Fr τ (fun t => t = ta) H H1 ∧ H.size ≤ q ∧ b_tt G B0 τ1 H1 a (ta) (.inr (3, [.ref q, .int (nI 0), .int (nI 0), .int (nI 0)])) ∧ b_tt G B0 τ1 H1 q (tv) (.inl (G.2.1 1, 60, .inl ((fun _ => nI 0)))))) 1 60 (b_A B0) := by
  refine b_of (by decide) (Nat.le_of_ble_eq_true rfl) ?_
  intro p e s m below meth c CX hr hlk hnm hS ls hl
  have CX : b_Cx p s m _ c cJ3_init 2 RJ3 G B0 := CX
  have hx := CX.hx
  have hb := CX.hb
  have hl : lv_has ls 2 [(0, .ref a), (1, .int (nI 60))] := hl
  generalize hQ : MQ below (b_Qv B0 (fun H1 => ∃ (τ1 : b_T) (q : Nat), b_Ag τ τ1 H ∧ b_Fr τ (fun t => t = ta) H H1 ∧ H.size ≤ q ∧ b_tt G B0 τ1 H1 a (ta) (.inr (3, [.ref q, .int (nI 0), .int (nI 0), .int (nI 0)])) ∧ b_tt G B0 τ1 H1 q (tv) (.inl (G.2.1 1, 60, .inl ((fun _ => nI 0)))))) ([.ref a, .int (nI 60)] : List Value).toArray s 1 60 (b_A B0) = Q
  have hF : b_Fr τ (fun t => t = ta) H H := b_Fr.rf
  have hA : b_Ag τ τ H := b_Ag.rf
  refine lv_aload_n hx hb dJ3_init_0 rfl (lv_at hl 0 rfl) ?_
  refine W.objInit hx hb CX.ow (CX.ts _ q223) (CX.ts _ q132) (CX.ts _ q133) rfl (by rw [CX.ml]; exact hl.1) rfl dJ3_init_1 (Nat.le_of_ble_eq_true rfl) (Nat.le_of_ble_eq_true rfl) ?_
  refine W.eq (g2 := F0 m 4 ls []) rfl ?_
  refine b_gets (v := .int (nI 1)) CX CX.K.2.2.2.2.1.2.2.2.2.2.2.1 hS q224 dJ3_init_4 ?_
  refine lv_if_eq (tgt := 25) hx hb dJ3_init_7 (by decide) (fun c_7 => ?_) (fun c_7 => ?_)
  · exact absurd c_7 (by decide)
  · refine lv_aload_n hx hb dJ3_init_10 rfl (lv_at hl 0 rfl) ?_
    refine lv_iload_n hx hb dJ3_init_11 rfl (lv_at hl 1 rfl) ?_
    refine b_newa CX (atype := .byte) rfl q247 (K := 1) rfl (fun h => h) (N' := 60) (a0 := (60, .inl (fun _ => nI 0))) rfl (nI_pos (by decide)) (nI_cl (by decide)) (by decide) hS (Nat.le_of_ble_eq_true rfl) (Nat.le_of_ble_eq_true rfl) dJ3_init_12 (fun q1 H1 hq hB hat hsz hE hS => ?_)
    have hc_th := hc_th.new (tb := tv) hE hq
    have fr_val : H.size ≤ q1 := by rw [hq]; exact hF.1
    have hA := hA.tr (b_Ag.new (t := tv) hq) hF.1
    have hF := hF.ext hE
    have hc_val : b_tt G B0 ((upT τ q1 (tv))) H1 q1 (tv) (.inl (G.2.1 1, 60, .inl ((fun _ => nI 0)))) := b_tt.mk hat hB
    refine pf_J3_15_3 CX hc_th.at hS hc_th.B rfl rfl (Nat.le_of_ble_eq_true rfl) dJ3_init_14 (fun H2 locs hat hu hS => ?_)
    have hc_val := hc_val.up hu hc_th.tag (by omega)
    have hF := hF.up hA hu hc_th.tag (fun _ => show (ta) = ta by omega)
    have hc_th : b_tt G B0 ((upT τ q1 (tv))) H2 a (ta) (.inr (3, [.ref q1, .int (nI 0), .int (nI 0), .int (nI 0)])) := hc_th.set hat
    refine lv_aload_n hx hb dJ3_init_17 rfl (lv_at hl 0 rfl) ?_
    refine lv_iconst (v := nI 0) hx hb dJ3_init_18 rfl ?_
    refine pf_J3_22_3 CX hc_th.at hS hc_th.B rfl rfl (Nat.le_of_ble_eq_true rfl) dJ3_init_19 (fun H3 locs hat hu hS => ?_)
    have hc_val := hc_val.up hu hc_th.tag (by omega)
    have hF := hF.up hA hu hc_th.tag (fun _ => show (ta) = ta by omega)
    have hc_th : b_tt G B0 ((upT τ q1 (tv))) H3 a (ta) (.inr (3, [.ref q1, .int (nI 0), .int (nI 0), .int (nI 0)])) := hc_th.set hat
    refine lv_goto (tgt := 38) hx hb dJ3_init_22 (by decide) ?_
    rw [← hQ]
    exact b_vret CX hr hlk hS (Nat.le_of_ble_eq_true rfl) (Nat.le_of_ble_eq_true rfl) dJ3_init_38 (⟨_, _, hA, hF, fr_val, hc_th, hc_val⟩)
theorem cs_J4_1 {p : Program} {l : Launch} {e : Env} {R : Room} {s : State} {m : MethodId} {args : Array Value} {below : List Frame} {meth : Method} {c : Code} {H : Heap} {locs : List Loc} {cells slots : Nat} {cc : ByteArray} {pc nL a : Nat} {ls : Array Slot} {rest : List Value} {G : b_G} {B0 : Nat} (CX : b_Cx p s m args c cc nL RJ4 G B0) (hls : ls.size = nL) {rm : Room} {mc ms : Nat} {As st0 : List Value} {Qc : Array Value → State → Outcome → State → Prop} (hM : Met l yJ3_init (ws_ yJ3_init cJ3_init 2 (Option.none)) rm (b_Pc G B0 H (.ref a :: As)) Qc mc ms (b_A B0)) (hn : As.length = 1) (hS : va_S (b_A B0) s.heap H locs) (hst : st0 = As.reverse ++ .ref a :: rest) (hr : rm.cells = mc ∧ rm.slots = ms ∧ rm.frames + 1 ≤ R.frames ∧ 8 + (2 + 11) + rm.locals ≤ R.locals) (hw : (rest.map fun v => v.category).sum ≤ 8) (hdg : decode cc pc = .ok (.invokespecial 1, 3)) (hf : cells + mc ≤ R.cells ∧ slots + ms ≤ R.slots) : va_Run p l e R s m args below meth c H locs cells slots mc ms (F0 m pc ls st0) rest (Qc (Value.ref a :: As).toArray) (b_A B0) := va_runI CX.fix hM (cwI 1 CX.ts (lw_meth q222) rfl hr.1 hr.2.1 (CX.ts _ q84) (CX.ts _ q220) (CX.ts _ q221) rfl (by decide +kernel) ⟨hr.2.2.1, hr.2.2.2⟩) ⟨b_blind G B0 H _, b_pre _ CX.K hS⟩ rfl hn hls hst (lv_room hw) hdg hf
set_option maxHeartbeats 2000000 in
set_option maxRecDepth 100000 in
theorem m_J4_init (l : Launch) {G : b_G} {B0 : Nat} {H : Heap} {τ : b_T} {a : Nat} {ta : Nat} {tv : Nat} (hc_th : b_tt G B0 τ H a (ta) (.inr (3, [.null, .int (nI 0), .int (nI 0), .int (nI 0)]))) (hne : ¬ ta = tv) : Met l yJ4_init (ws_ yJ4_init cJ4_init 2 (Option.none)) ({ frames := 2, cells := 1, slots := 60, locals := 41 } : Room) (b_Pc G B0 H [.ref a, .int (nI 60)]) (b_Qv B0 (fun H1 => ∃ (τ1 : b_T) (q : Nat), b_Ag τ τ1 H ∧ b_Fr τ (fun t => t = ta) H H1 ∧ H.size ≤ q ∧ b_tt G B0 τ1 H1 a (ta) (.inr (3, [.ref q, .int (nI 0), .int (nI 0), .int (nI 0)])) ∧ b_tt G B0 τ1 H1 q (tv) (.inl (G.2.1 1, 60, .inl ((fun _ => nI 0)))))) 1 60 (b_A B0) := by
  refine b_of (by decide) (Nat.le_of_ble_eq_true rfl) ?_
  intro p e s m below meth c CX hr hlk hnm hS ls hl
  have CX : b_Cx p s m _ c cJ4_init 2 RJ4 G B0 := CX
  have hx := CX.hx
  have hb := CX.hb
  have hl : lv_has ls 2 [(0, .ref a), (1, .int (nI 60))] := hl
  generalize hQ : MQ below (b_Qv B0 (fun H1 => ∃ (τ1 : b_T) (q : Nat), b_Ag τ τ1 H ∧ b_Fr τ (fun t => t = ta) H H1 ∧ H.size ≤ q ∧ b_tt G B0 τ1 H1 a (ta) (.inr (3, [.ref q, .int (nI 0), .int (nI 0), .int (nI 0)])) ∧ b_tt G B0 τ1 H1 q (tv) (.inl (G.2.1 1, 60, .inl ((fun _ => nI 0)))))) ([.ref a, .int (nI 60)] : List Value).toArray s 1 60 (b_A B0) = Q
  have hF : b_Fr τ (fun t => t = ta) H H := b_Fr.rf
  have hA : b_Ag τ τ H := b_Ag.rf
  refine lv_aload_n hx hb dJ4_init_0 rfl (lv_at hl 0 rfl) ?_
  refine lv_iload_n hx hb dJ4_init_1 rfl (lv_at hl 1 rfl) ?_
  refine b_cv (cs_J4_1 (rest := []) CX hl.1 (m_J3_init l (a := a) (ta := ta) hc_th (by omega)) rfl hS rfl ⟨rfl, rfl, Nat.le_of_ble_eq_true rfl, Nat.le_of_ble_eq_true rfl⟩ (Nat.le_of_ble_eq_true rfl) dJ4_init_2 ⟨Nat.le_of_ble_eq_true rfl, Nat.le_of_ble_eq_true rfl⟩) hS (fun H1 locs hp hS => ?_)
  obtain ⟨τ1, q1, hA9, hF9, hr0, hx0, hx1⟩ := hp
  have hz9 := hF.1
  have hF0 := hF.tr hA hF9 (fun q9 hq9 x9 => by have x8 : τ q9 = ta := x9; show τ q9 = ta; omega)
  have hA := hA.tr hA9 hF.1
  have hF := hF0
  have hc_th : b_tt G B0 τ1 H1 a (ta) (.inr (3, [.ref q1, .int (nI 0), .int (nI 0), .int (nI 0)])) := hx0
  have hc_val1 : b_tt G B0 τ1 H1 q1 (tv) (.inl (G.2.1 1, 60, .inl ((fun _ => nI 0)))) := hx1
  have fr_val1 : H.size ≤ q1 := Nat.le_trans hz9 hr0
  rw [← hQ]
  exact b_vret CX hr hlk hS (Nat.le_of_ble_eq_true rfl) (Nat.le_of_ble_eq_true rfl) dJ4_init_5 (⟨_, _, hA, hF, fr_val1, hc_th, hc_val1⟩)
theorem gf_J3_79_3 {p : Program} {l : Launch} {e : Env} {R : Room} {s : State} {m : MethodId} {args : Array Value} {below : List Frame} {meth : Method} {c : Code} {H : Heap} {locs : List Loc} {cells slots : Nat} {Q : State → Prop} {cc : ByteArray} {pc nL a : Nat} {ls : Array Slot} {rest : List Value} {G : b_G} {B0 : Nat} (CX : b_Cx p s m args c cc nL RJ3 G B0) {fs : List Value} (hP : b_at G a (.inr (3, fs)) H) {v : Value} (hv : fs[3]? = some v) (hdg : decode cc pc = .ok (.getfield 79, 3)) (kk : W p l e R s m args below meth c H locs cells slots Q (F0 m (pc + 3) ls (v :: rest))) : W p l e R s m args below meth c H locs cells slots Q (F0 m pc ls (.ref a :: rest)) := b_get CX in_J4 rfl 3 (by decide) q237 (Or.inl rfl) hP hv hdg kk
set_option maxHeartbeats 2000000 in
set_option maxRecDepth 100000 in
theorem m_J3_length (l : Launch) {G : b_G} {B0 : Nat} {H : Heap} {τ : b_T} {a : Nat} {ta : Nat} {va : Nat} {tv : Nat} {ml : Int32} {n : Nat} {f : Nat → Int32} (hc_th : b_tt G B0 τ H a (ta) (.inr (3, [.ref va, .int (nI 0), .int ml, .int (nI n)]))) (hc_val : b_tt G B0 τ H va (tv) (.inl (G.2.1 1, 60, .inl f))) : Met l yJ3_length (ws_ yJ3_length cJ3_length 1 (Option.some Jvm.ClassFile.FieldType.int)) ({ frames := 0, cells := 0, slots := 0, locals := 0 } : Room) (b_Pc G B0 H [.ref a]) (b_Qi B0 (fun r H1 => r = nI n ∧ H1 = H)) 0 0 (b_A B0) := by
  refine b_of (by decide) (Nat.le_of_ble_eq_true rfl) ?_
  intro p e s m below meth c CX hr hlk hnm hS ls hl
  have CX : b_Cx p s m _ c cJ3_length 1 RJ3 G B0 := CX
  have hx := CX.hx
  have hb := CX.hb
  have hl : lv_has ls 1 [(0, .ref a)] := hl
  generalize hQ : MQ below (b_Qi B0 (fun r H1 => r = nI n ∧ H1 = H)) ([.ref a] : List Value).toArray s 0 0 (b_A B0) = Q
  refine lv_aload_n hx hb dJ3_length_0 rfl (lv_at hl 0 rfl) ?_
  refine gf_J3_79_3 CX hc_th.at rfl dJ3_length_1 ?_
  rw [← hQ]
  exact b_iret CX hr hlk hS (Nat.le_of_ble_eq_true rfl) (Nat.le_of_ble_eq_true rfl) dJ3_length_4 (⟨rfl, rfl⟩)
theorem cs_J4_343_3 {p : Program} {l : Launch} {e : Env} {R : Room} {s : State} {m : MethodId} {args : Array Value} {below : List Frame} {meth : Method} {c : Code} {H : Heap} {locs : List Loc} {cells slots : Nat} {cc : ByteArray} {pc nL a : Nat} {ls : Array Slot} {rest : List Value} {G : b_G} {B0 : Nat} (CX : b_Cx p s m args c cc nL RJ4 G B0) (hls : ls.size = nL) {rm : Room} {mc ms : Nat} {As st0 : List Value} {Qc : Array Value → State → Outcome → State → Prop} (hM : Met l yJ3_length (ws_ yJ3_length cJ3_length 1 (Option.some Jvm.ClassFile.FieldType.int)) rm (b_Pc G B0 H (.ref a :: As)) Qc mc ms (b_A B0)) (hn : As.length = 0) {fs : List Value} (hP : b_at G a (.inr (3, fs)) H) (hS : va_S (b_A B0) s.heap H locs) (hst : st0 = As.reverse ++ .ref a :: rest) (hr : rm.cells = mc ∧ rm.slots = ms ∧ rm.frames + 1 ≤ R.frames ∧ 8 + (1 + 11) + rm.locals ≤ R.locals) (hw : (rest.map fun v => v.category).sum ≤ 8) (hdg : decode cc pc = .ok (.invokespecial 343, 3)) (hf : cells + mc ≤ R.cells ∧ slots + ms ≤ R.slots) : va_Run p l e R s m args below meth c H locs cells slots mc ms (F0 m pc ls st0) rest (Qc (Value.ref a :: As).toArray) (b_A B0) := va_runSU (C := RJ4) (CX.K.1.1 3 _ rfl).2 CX.fix hM (va_cwSU 0 CX.ts (lw_SU q283 q2200 q246 q284 q84 q285) rfl hr.1 hr.2.1 ⟨by decide, by decide +kernel⟩ ⟨hr.2.2.1, hr.2.2.2⟩) ⟨b_blind G B0 H _, b_recv CX.K (ci := 3) rfl hP, b_pre _ CX.K hS⟩ rfl hn hls hst (lv_room hw) hdg hf
set_option maxHeartbeats 2000000 in
set_option maxRecDepth 100000 in
theorem m_J4_length (l : Launch) {G : b_G} {B0 : Nat} {H : Heap} {τ : b_T} {a : Nat} {ta : Nat} {va : Nat} {tv : Nat} {ml : Int32} {n : Nat} {f : Nat → Int32} (hc_th : b_tt G B0 τ H a (ta) (.inr (3, [.ref va, .int (nI 0), .int ml, .int (nI n)]))) (hc_val : b_tt G B0 τ H va (tv) (.inl (G.2.1 1, 60, .inl f))) : Met l yJ4_length (ws_ yJ4_length cJ4_length 1 (Option.some Jvm.ClassFile.FieldType.int)) ({ frames := 1, cells := 0, slots := 0, locals := 20 } : Room) (b_Pc G B0 H [.ref a]) (b_Qi B0 (fun r H1 => r = nI n ∧ H1 = H)) 0 0 (b_A B0) := by
  refine b_of (by decide) (Nat.le_of_ble_eq_true rfl) ?_
  intro p e s m below meth c CX hr hlk hnm hS ls hl
  have CX : b_Cx p s m _ c cJ4_length 1 RJ4 G B0 := CX
  have hx := CX.hx
  have hb := CX.hb
  have hl : lv_has ls 1 [(0, .ref a)] := hl
  generalize hQ : MQ below (b_Qi B0 (fun r H1 => r = nI n ∧ H1 = H)) ([.ref a] : List Value).toArray s 0 0 (b_A B0) = Q
  refine lv_aload_n hx hb dJ4_length_0 rfl (lv_at hl 0 rfl) ?_
  refine b_ci0 (cs_J4_343_3 (rest := []) CX hl.1 (m_J3_length l (a := a) (ta := ta) (va := va) (tv := tv) (f := f) (ml := ml) (n := n) hc_th hc_val) rfl hc_th.at hS rfl ⟨rfl, rfl, Nat.le_of_ble_eq_true rfl, Nat.le_of_ble_eq_true rfl⟩ (Nat.le_of_ble_eq_true rfl) dJ4_length_1 ⟨Nat.le_of_ble_eq_true rfl, Nat.le_of_ble_eq_true rfl⟩) hS (fun locs hS => ?_)
  rw [← hQ]
  exact b_iret CX hr hlk hS (Nat.le_of_ble_eq_true rfl) (Nat.le_of_ble_eq_true rfl) dJ4_length_4 (⟨rfl, rfl⟩)
theorem gf_J3_22_3 {p : Program} {l : Launch} {e : Env} {R : Room} {s : State} {m : MethodId} {args : Array Value} {below : List Frame} {meth : Method} {c : Code} {H : Heap} {locs : List Loc} {cells slots : Nat} {Q : State → Prop} {cc : ByteArray} {pc nL a : Nat} {ls : Array Slot} {rest : List Value} {G : b_G} {B0 : Nat} (CX : b_Cx p s m args c cc nL RJ3 G B0) {fs : List Value} (hP : b_at G a (.inr (3, fs)) H) {v : Value} (hv : fs[1]? = some v) (hdg : decode cc pc = .ok (.getfield 22, 3)) (kk : W p l e R s m args below meth c H locs cells slots Q (F0 m (pc + 3) ls (v :: rest))) : W p l e R s m args below meth c H locs cells slots Q (F0 m pc ls (.ref a :: rest)) := b_get CX in_J4 rfl 1 (by decide) q234 (Or.inl rfl) hP hv hdg kk
set_option maxHeartbeats 2000000 in
set_option maxRecDepth 100000 in
theorem m_J3_isLatin1 (l : Launch) {G : b_G} {B0 : Nat} {H : Heap} {τ : b_T} {a : Nat} {ta : Nat} {va : Nat} {tv : Nat} {ml : Int32} {n : Nat} {f : Nat → Int32} (hc_th : b_tt G B0 τ H a (ta) (.inr (3, [.ref va, .int (nI 0), .int ml, .int (nI n)]))) (hc_val : b_tt G B0 τ H va (tv) (.inl (G.2.1 1, 60, .inl f))) : Met l yJ3_isLatin1 (ws_ yJ3_isLatin1 cJ3_isLatin1 1 (Option.some Jvm.ClassFile.FieldType.boolean)) ({ frames := 0, cells := 0, slots := 0, locals := 0 } : Room) (b_Pc G B0 H [.ref a]) (b_Qi B0 (fun r H1 => r = nI 1 ∧ H1 = H)) 0 0 (b_A B0) := by
  refine b_of (by decide) (Nat.le_of_ble_eq_true rfl) ?_
  intro p e s m below meth c CX hr hlk hnm hS ls hl
  have CX : b_Cx p s m _ c cJ3_isLatin1 1 RJ3 G B0 := CX
  have hx := CX.hx
  have hb := CX.hb
  have hl : lv_has ls 1 [(0, .ref a)] := hl
  generalize hQ : MQ below (b_Qi B0 (fun r H1 => r = nI 1 ∧ H1 = H)) ([.ref a] : List Value).toArray s 0 0 (b_A B0) = Q
  refine b_gets (v := .int (nI 1)) CX CX.K.2.2.2.2.1.2.2.2.2.2.2.1 hS q224 dJ3_isLatin1_0 ?_
  refine lv_if_eq (tgt := 17) hx hb dJ3_isLatin1_3 (by decide) (fun c_3 => ?_) (fun c_3 => ?_)
  · exact absurd c_3 (by decide)
  · refine lv_aload_n hx hb dJ3_isLatin1_6 rfl (lv_at hl 0 rfl) ?_
    refine gf_J3_22_3 CX hc_th.at rfl dJ3_isLatin1_7 ?_
    refine lv_if_ne (tgt := 17) hx hb dJ3_isLatin1_10 (by decide) (fun c_10 => ?_) (fun c_10 => ?_)
    · exact absurd c_10 (by decide)
    · refine lv_iconst (v := nI 1) hx hb dJ3_isLatin1_13 rfl ?_
      refine lv_goto (tgt := 18) hx hb dJ3_isLatin1_14 (by decide) ?_
      rw [← hQ]
      exact b_zret CX hr hlk hS (Nat.le_of_ble_eq_true rfl) (Nat.le_of_ble_eq_true rfl) rfl dJ3_isLatin1_18 (⟨rfl, rfl⟩)
theorem gf_J3_15_3 {p : Program} {l : Launch} {e : Env} {R : Room} {s : State} {m : MethodId} {args : Array Value} {below : List Frame} {meth : Method} {c : Code} {H : Heap} {locs : List Loc} {cells slots : Nat} {Q : State → Prop} {cc : ByteArray} {pc nL a : Nat} {ls : Array Slot} {rest : List Value} {G : b_G} {B0 : Nat} (CX : b_Cx p s m args c cc nL RJ3 G B0) {fs : List Value} (hP : b_at G a (.inr (3, fs)) H) {v : Value} (hv : fs[0]? = some v) (hdg : decode cc pc = .ok (.getfield 15, 3)) (kk : W p l e R s m args below meth c H locs cells slots Q (F0 m (pc + 3) ls (v :: rest))) : W p l e R s m args below meth c H locs cells slots Q (F0 m pc ls (.ref a :: rest)) := b_get CX in_J4 rfl 0 (by decide) q233 (Or.inl rfl) hP hv hdg kk
set_option maxHeartbeats 2000000 in
set_option maxRecDepth 100000 in
theorem m_J3_ensureCapacityInternal (l : Launch) {G : b_G} {B0 : Nat} {H : Heap} {τ : b_T} {a : Nat} {ta : Nat} {va : Nat} {tv : Nat} {ml : Int32} {n : Nat} {f : Nat → Int32} {k : Nat} (hc_th : b_tt G B0 τ H a (ta) (.inr (3, [.ref va, .int (nI 0), .int ml, .int (nI n)]))) (hc_val : b_tt G B0 τ H va (tv) (.inl (G.2.1 1, 60, .inl f))) (hk : k ≤ 60) : Met l yJ3_ensureCapacityInternal (ws_ yJ3_ensureCapacityInternal cJ3_ensureCapacityInternal 3 (Option.none)) ({ frames := 0, cells := 0, slots := 0, locals := 0 } : Room) (b_Pc G B0 H [.ref a, .int (nI k)]) (b_Qv B0 (fun H1 => H1 = H)) 0 0 (b_A B0) := by
  refine b_of (by decide) (Nat.le_of_ble_eq_true rfl) ?_
  intro p e s m below meth c CX hr hlk hnm hS ls hl
  have CX : b_Cx p s m _ c cJ3_ensureCapacityInternal 3 RJ3 G B0 := CX
  have hx := CX.hx
  have hb := CX.hb
  have hl : lv_has ls 3 [(0, .ref a), (1, .int (nI k))] := hl
  generalize hQ : MQ below (b_Qv B0 (fun H1 => H1 = H)) ([.ref a, .int (nI k)] : List Value).toArray s 0 0 (b_A B0) = Q
  refine lv_aload_n hx hb dJ3_ensureCapacityInternal_0 rfl (lv_at hl 0 rfl) ?_
  refine gf_J3_15_3 CX hc_th.at rfl dJ3_ensureCapacityInternal_1 ?_
  refine b_alen CX hc_val.at (K := 1) rfl (v := nI 60) rfl dJ3_ensureCapacityInternal_4 ?_
  refine lv_aload_n hx hb dJ3_ensureCapacityInternal_5 rfl (lv_at hl 0 rfl) ?_
  refine gf_J3_22_3 CX hc_th.at rfl dJ3_ensureCapacityInternal_6 ?_
  refine lv_ishr hx hb dJ3_ensureCapacityInternal_9 ?_
  refine b_top (x := (nI 60) >>> ((nI 0) &&& 31)) (y := nI 60) (by decide) ?_
  refine lv_istore_n (lv' := [(2, .int (nI 60)), (0, .ref a), (1, .int (nI k))]) hx hb dJ3_ensureCapacityInternal_10 rfl hl (Nat.le_of_ble_eq_true rfl) rfl (fun ls hl => ?_)
  refine lv_iload_n hx hb dJ3_ensureCapacityInternal_11 rfl (lv_at hl 2 rfl) ?_
  refine lv_iload_n hx hb dJ3_ensureCapacityInternal_12 rfl (lv_at hl 0 rfl) ?_
  refine lv_isub hx hb dJ3_ensureCapacityInternal_13 ?_
  refine lv_if_le (tgt := 38) hx hb dJ3_ensureCapacityInternal_14 (by decide) (fun c_14 => ?_) (fun c_14 => ?_)
  · rw [← hQ]
    exact b_vret CX hr hlk hS (Nat.le_of_ble_eq_true rfl) (Nat.le_of_ble_eq_true rfl) dJ3_ensureCapacityInternal_38 (rfl)
  · exact absurd c_14 (by exact fun q => q (p_cap hk))
set_option maxHeartbeats 2000000 in
set_option maxRecDepth 100000 in
theorem m_J19_canEncode (l : Launch) {G : b_G} {B0 : Nat} {H : Heap} {k : Nat} (hk : k < 128) : Met l yJ19_canEncode (ws_ yJ19_canEncode cJ19_canEncode 1 (Option.some Jvm.ClassFile.FieldType.boolean)) ({ frames := 0, cells := 0, slots := 0, locals := 0 } : Room) (b_Pc G B0 H [.int (nI k)]) (b_Qi B0 (fun r H1 => r = nI 1 ∧ H1 = H)) 0 0 (b_A B0) := by
  refine b_of (by decide) (Nat.le_of_ble_eq_true rfl) ?_
  intro p e s m below meth c CX hr hlk hnm hS ls hl
  have CX : b_Cx p s m _ c cJ19_canEncode 1 RJ19 G B0 := CX
  have hx := CX.hx
  have hb := CX.hb
  have hl : lv_has ls 1 [(0, .int (nI k))] := hl
  generalize hQ : MQ below (b_Qi B0 (fun r H1 => r = nI 1 ∧ H1 = H)) ([.int (nI k)] : List Value).toArray s 0 0 (b_A B0) = Q
  refine lv_iload_n hx hb dJ19_canEncode_0 rfl (lv_at hl 0 rfl) ?_
  refine lv_sipush (v := nI 255) hx hb dJ19_canEncode_1 rfl ?_
  refine b_icmp_gtN (tgt := 11) CX (by omega) (by omega) dJ19_canEncode_4 (by decide) (fun c_4 => ?_) (fun c_4 => ?_)
  · exfalso; omega
  · refine lv_iconst (v := nI 1) hx hb dJ19_canEncode_7 rfl ?_
    refine lv_goto (tgt := 12) hx hb dJ19_canEncode_8 (by decide) ?_
    rw [← hQ]
    exact b_zret CX hr hlk hS (Nat.le_of_ble_eq_true rfl) (Nat.le_of_ble_eq_true rfl) rfl dJ19_canEncode_12 (⟨rfl, rfl⟩)
set_option maxHeartbeats 2000000 in
set_option maxRecDepth 100000 in
theorem m_J13_checkIndex_r (l : Launch) {G : b_G} {B0 : Nat} {H : Heap} {i : Nat} {n : Nat} {b : Nat} (hi : i < n) (hn : n < 2147483648) : Met l yJ13_checkIndex (ws_ yJ13_checkIndex cJ13_checkIndex 3 (Option.some Jvm.ClassFile.FieldType.int)) ({ frames := 0, cells := 0, slots := 0, locals := 0 } : Room) (b_Pc G B0 H [.int (nI i), .int (nI n), .ref b]) (b_Qi B0 (fun r H1 => r = nI i ∧ H1 = H)) 0 0 (b_A B0) := by
  refine b_of (by decide) (Nat.le_of_ble_eq_true rfl) ?_
  intro p e s m below meth c CX hr hlk hnm hS ls hl
  have CX : b_Cx p s m _ c cJ13_checkIndex 3 RJ13 G B0 := CX
  have hx := CX.hx
  have hb := CX.hb
  have hl : lv_has ls 3 [(0, .int (nI i)), (1, .int (nI n)), (2, .ref b)] := hl
  generalize hQ : MQ below (b_Qi B0 (fun r H1 => r = nI i ∧ H1 = H)) ([.int (nI i), .int (nI n), .ref b] : List Value).toArray s 0 0 (b_A B0) = Q
  refine lv_iload_n hx hb dJ13_checkIndex_0 rfl (lv_at hl 0 rfl) ?_
  refine lv_if_lt (tgt := 9) hx hb dJ13_checkIndex_1 (by decide) (fun c_1 => ?_) (fun c_1 => ?_)
  · exact absurd c_1 (by exact nI_pos (by omega))
  · refine lv_iload_n hx hb dJ13_checkIndex_4 rfl (lv_at hl 0 rfl) ?_
    refine lv_iload_n hx hb dJ13_checkIndex_5 rfl (lv_at hl 1 rfl) ?_
    refine b_icmp_ltN (tgt := 16) CX (by omega) (by omega) dJ13_checkIndex_6 (by decide) (fun c_6 => ?_) (fun c_6 => ?_)
    · refine lv_iload_n hx hb dJ13_checkIndex_16 rfl (lv_at hl 0 rfl) ?_
      rw [← hQ]
      exact b_iret CX hr hlk hS (Nat.le_of_ble_eq_true rfl) (Nat.le_of_ble_eq_true rfl) dJ13_checkIndex_17 (⟨rfl, rfl⟩)
    · exfalso; omega
theorem cs_J5_1059 {p : Program} {l : Launch} {e : Env} {R : Room} {s : State} {m : MethodId} {args : Array Value} {below : List Frame} {meth : Method} {c : Code} {H : Heap} {locs : List Loc} {cells slots : Nat} {cc : ByteArray} {pc nL : Nat} {ls : Array Slot} {rest : List Value} {G : b_G} {B0 : Nat} (CX : b_Cx p s m args c cc nL RJ5 G B0) (hls : ls.size = nL) {rm : Room} {mc ms : Nat} {As st0 : List Value} {Qc : Array Value → State → Outcome → State → Prop} (hM : Met l yJ13_checkIndex (ws_ yJ13_checkIndex cJ13_checkIndex 3 (Option.some Jvm.ClassFile.FieldType.int)) rm (b_Pc G B0 H As) Qc mc ms (b_A B0)) (hn : As.length = 3) (hS : va_S (b_A B0) s.heap H locs) (hst : st0 = As.reverse ++ rest) (hr : rm.cells = mc ∧ rm.slots = ms ∧ rm.frames + 1 ≤ R.frames ∧ 8 + (3 + 11) + rm.locals ≤ R.locals) (hw : (rest.map fun v => v.category).sum ≤ 8) (hdg : decode cc pc = .ok (.invokestatic 1059, 3)) (hf : cells + mc ≤ R.cells ∧ slots + ms ≤ R.slots) : va_Run p l e R s m args below meth c H locs cells slots mc ms (F0 m pc ls st0) rest (Qc As.toArray) (b_A B0) := va_runS CX.fix hM (va_cwS 3 CX.ts (lw_S q677 q678 q95 q679) rfl hr.1 hr.2.1 (by decide +kernel) ⟨hr.2.2.1, hr.2.2.2⟩) ⟨b_blind G B0 H _, b_pre _ CX.K hS⟩ rfl hn hls hst (lv_room hw) hdg hf
set_option maxHeartbeats 2000000 in
set_option maxRecDepth 100000 in
theorem m_J5_checkIndex (l : Launch) {G : b_G} {B0 : Nat} {H : Heap} {i : Nat} {n : Nat} (hi : i < n) (hn : n < 2147483648) : Met l yJ5_checkIndex (ws_ yJ5_checkIndex cJ5_checkIndex 2 (Option.none)) ({ frames := 1, cells := 0, slots := 0, locals := 22 } : Room) (b_Pc G B0 H [.int (nI i), .int (nI n)]) (b_Qv B0 (fun H1 => H1 = H)) 0 0 (b_A B0) := by
  refine b_of (by decide) (Nat.le_of_ble_eq_true rfl) ?_
  intro p e s m below meth c CX hr hlk hnm hS ls hl
  have CX : b_Cx p s m _ c cJ5_checkIndex 2 RJ5 G B0 := CX
  have hx := CX.hx
  have hb := CX.hb
  have hl : lv_has ls 2 [(0, .int (nI i)), (1, .int (nI n))] := hl
  generalize hQ : MQ below (b_Qv B0 (fun H1 => H1 = H)) ([.int (nI i), .int (nI n)] : List Value).toArray s 0 0 (b_A B0) = Q
  refine lv_iload_n hx hb dJ5_checkIndex_0 rfl (lv_at hl 0 rfl) ?_
  refine lv_iload_n hx hb dJ5_checkIndex_1 rfl (lv_at hl 1 rfl) ?_
  rcases CX.K.2.2.2.2.1.2.2.2.2.2.2.2.2.2 with hz | ⟨b9, hz⟩
  · refine b_gets (v := .null) CX hz hS q366 dJ5_checkIndex_2 ?_
    refine b_ci0 (cs_J5_1059 (rest := []) CX hl.1 (m_J13_checkIndex l (i := i) (n := n) (by omega) (by omega)) rfl hS rfl ⟨rfl, rfl, Nat.le_of_ble_eq_true rfl, Nat.le_of_ble_eq_true rfl⟩ (Nat.le_of_ble_eq_true rfl) dJ5_checkIndex_5 ⟨Nat.le_of_ble_eq_true rfl, Nat.le_of_ble_eq_true rfl⟩) hS (fun locs hS => ?_)
    refine lv_pop hx hb dJ5_checkIndex_8 rfl ?_
    rw [← hQ]
    exact b_vret CX hr hlk hS (Nat.le_of_ble_eq_true rfl) (Nat.le_of_ble_eq_true rfl) dJ5_checkIndex_9 (rfl)
  · refine b_gets (v := .ref b9) CX hz hS q366 dJ5_checkIndex_2 ?_
    refine b_ci0 (cs_J5_1059 (rest := []) CX hl.1 (m_J13_checkIndex_r l (i := i) (n := n) (b := b9) (by omega) (by omega)) rfl hS rfl ⟨rfl, rfl, Nat.le_of_ble_eq_true rfl, Nat.le_of_ble_eq_true rfl⟩ (Nat.le_of_ble_eq_true rfl) dJ5_checkIndex_5 ⟨Nat.le_of_ble_eq_true rfl, Nat.le_of_ble_eq_true rfl⟩) hS (fun locs hS => ?_)
    refine lv_pop hx hb dJ5_checkIndex_8 rfl ?_
    rw [← hQ]
    exact b_vret CX hr hlk hS (Nat.le_of_ble_eq_true rfl) (Nat.le_of_ble_eq_true rfl) dJ5_checkIndex_9 (rfl)
theorem cs_J3_144 {p : Program} {l : Launch} {e : Env} {R : Room} {s : State} {m : MethodId} {args : Array Value} {below : List Frame} {meth : Method} {c : Code} {H : Heap} {locs : List Loc} {cells slots : Nat} {cc : ByteArray} {pc nL : Nat} {ls : Array Slot} {rest : List Value} {G : b_G} {B0 : Nat} (CX : b_Cx p s m args c cc nL RJ3 G B0) (hls : ls.size = nL) {rm : Room} {mc ms : Nat} {As st0 : List Value} {Qc : Array Value → State → Outcome → State → Prop} (hM : Met l yJ5_checkIndex (ws_ yJ5_checkIndex cJ5_checkIndex 2 (Option.none)) rm (b_Pc G B0 H As) Qc mc ms (b_A B0)) (hn : As.length = 2) (hS : va_S (b_A B0) s.heap H locs) (hst : st0 = As.reverse ++ rest) (hr : rm.cells = mc ∧ rm.slots = ms ∧ rm.frames + 1 ≤ R.frames ∧ 8 + (2 + 11) + rm.locals ≤ R.locals) (hw : (rest.map fun v => v.category).sum ≤ 8) (hdg : decode cc pc = .ok (.invokestatic 144, 3)) (hf : cells + mc ≤ R.cells ∧ slots + ms ≤ R.slots) : va_Run p l e R s m args below meth c H locs cells slots mc ms (F0 m pc ls st0) rest (Qc As.toArray) (b_A B0) := va_runS CX.fix hM (va_cwS 2 CX.ts (lw_S q674 q675 q86 q676) rfl hr.1 hr.2.1 (by decide +kernel) ⟨hr.2.2.1, hr.2.2.2⟩) ⟨b_blind G B0 H _, b_pre _ CX.K hS⟩ rfl hn hls hst (lv_room hw) hdg hf
set_option maxHeartbeats 2000000 in
set_option maxRecDepth 100000 in
theorem m_J3_charAt (l : Launch) {G : b_G} {B0 : Nat} {H : Heap} {τ : b_T} {a : Nat} {ta : Nat} {va : Nat} {tv : Nat} {ml : Int32} {n : Nat} {f : Nat → Int32} {i : Nat} {k : Nat} (hc_th : b_tt G B0 τ H a (ta) (.inr (3, [.ref va, .int (nI 0), .int ml, .int (nI n)]))) (hc_val : b_tt G B0 τ H va (tv) (.inl (G.2.1 1, 60, .inl f))) (hi : i < n) (hn : n ≤ 60) (hf : f i = nI k) (hk : k < 128) : Met l yJ3_charAt (ws_ yJ3_charAt cJ3_charAt 5 (Option.some Jvm.ClassFile.FieldType.char)) ({ frames := 2, cells := 0, slots := 0, locals := 43 } : Room) (b_Pc G B0 H [.ref a, .int (nI i)]) (b_Qi B0 (fun r H1 => r = nI k ∧ H1 = H)) 0 0 (b_A B0) := by
  refine b_of (by decide) (Nat.le_of_ble_eq_true rfl) ?_
  intro p e s m below meth c CX hr hlk hnm hS ls hl
  have CX : b_Cx p s m _ c cJ3_charAt 5 RJ3 G B0 := CX
  have hx := CX.hx
  have hb := CX.hb
  have hl : lv_has ls 5 [(0, .ref a), (1, .int (nI i))] := hl
  generalize hQ : MQ below (b_Qi B0 (fun r H1 => r = nI k ∧ H1 = H)) ([.ref a, .int (nI i)] : List Value).toArray s 0 0 (b_A B0) = Q
  refine lv_aload_n hx hb dJ3_charAt_0 rfl (lv_at hl 0 rfl) ?_
  refine gf_J3_22_3 CX hc_th.at rfl dJ3_charAt_1 ?_
  refine lv_istore_n (lv' := [(2, .int (nI 0)), (0, .ref a), (1, .int (nI i))]) hx hb dJ3_charAt_4 rfl hl (Nat.le_of_ble_eq_true rfl) rfl (fun ls hl => ?_)
  refine lv_aload_n hx hb dJ3_charAt_5 rfl (lv_at hl 1 rfl) ?_
  refine gf_J3_15_3 CX hc_th.at rfl dJ3_charAt_6 ?_
  refine lv_astore_n (lv' := [(3, .ref va), (2, .int (nI 0)), (0, .ref a), (1, .int (nI i))]) hx hb dJ3_charAt_9 rfl hl (Nat.le_of_ble_eq_true rfl) rfl (fun ls hl => ?_)
  refine lv_aload_n hx hb dJ3_charAt_10 rfl (lv_at hl 2 rfl) ?_
  refine gf_J3_79_3 CX hc_th.at rfl dJ3_charAt_11 ?_
  refine lv_aload_n hx hb dJ3_charAt_14 rfl (lv_at hl 0 rfl) ?_
  refine b_alen CX hc_val.at (K := 1) rfl (v := nI 60) rfl dJ3_charAt_15 ?_
  refine lv_iload_n hx hb dJ3_charAt_16 rfl (lv_at hl 1 rfl) ?_
  refine lv_ishr hx hb dJ3_charAt_17 ?_
  refine b_top (x := (nI 60) >>> ((nI 0) &&& 31)) (y := nI 60) (by decide) ?_
  refine va_mmin hx hb (by rw [CX.ml, hl.1]) CX.ow (CX.ts _ q673) (CX.ts _ q344) (CX.ts _ q99) (CX.ts _ q345) (Nat.le_of_ble_eq_true rfl) (Nat.le_of_ble_eq_true rfl) (Nat.le_of_ble_eq_true rfl) (Nat.le_of_ble_eq_true rfl) dJ3_charAt_18 ?_
  refine b_top (x := if (nI 60) < (nI n) then (nI 60) else (nI n)) (y := p_least (nI n) (nI 60)) p_minE ?_
  refine b_top (x := p_least (nI n) (nI 60)) (y := nI n) (by first | exact (p_min1 (nI_lt (by omega) (by omega))).symm | exact p_minN (by omega)) ?_
  refine lv_istore (lv' := [(4, .int (nI n)), (3, .ref va), (2, .int (nI 0)), (0, .ref a), (1, .int (nI i))]) hx hb dJ3_charAt_21 hl (Nat.le_of_ble_eq_true rfl) rfl (fun ls hl => ?_)
  refine lv_iload_n hx hb dJ3_charAt_23 rfl (lv_at hl 4 rfl) ?_
  refine lv_iload hx hb dJ3_charAt_24 (lv_at hl 0 rfl) ?_
  refine b_cv0 (cs_J3_144 (rest := []) CX hl.1 (m_J5_checkIndex l (i := i) (n := n) (by omega) (by omega)) rfl hS rfl ⟨rfl, rfl, Nat.le_of_ble_eq_true rfl, Nat.le_of_ble_eq_true rfl⟩ (Nat.le_of_ble_eq_true rfl) dJ3_charAt_26 ⟨Nat.le_of_ble_eq_true rfl, Nat.le_of_ble_eq_true rfl⟩) hS (fun locs hS => ?_)
  refine lv_iload_n hx hb dJ3_charAt_29 rfl (lv_at hl 2 rfl) ?_
  refine lv_if_ne (tgt := 42) hx hb dJ3_charAt_30 (by decide) (fun c_30 => ?_) (fun c_30 => ?_)
  · exact absurd c_30 (by decide)
  · refine lv_aload_n hx hb dJ3_charAt_33 rfl (lv_at hl 1 rfl) ?_
    refine lv_iload_n hx hb dJ3_charAt_34 rfl (lv_at hl 4 rfl) ?_
    refine b_bld CX hc_val.at (x := f i) (vp_in_nI (by omega) (by omega)) (b_at_nI (f := f) (n := i) (by omega) rfl) dJ3_charAt_35 ?_
    refine b_top (x := f i) (y := nI k) (hf) ?_
    refine lv_sipush (v := nI 255) hx hb dJ3_charAt_36 rfl ?_
    refine lv_iand hx hb dJ3_charAt_39 ?_
    refine b_top (x := (nI k) &&& (nI 255)) (y := nI k) (p_and255 hk) ?_
    refine lv_i2c (v := nI k) hx hb dJ3_charAt_40 (p_i2c hk) ?_
    rw [← hQ]
    exact b_zret CX hr hlk hS (Nat.le_of_ble_eq_true rfl) (Nat.le_of_ble_eq_true rfl) (pk_charN (by omega)).1 dJ3_charAt_41 (⟨rfl, rfl⟩)
theorem cs_J4_329_3 {p : Program} {l : Launch} {e : Env} {R : Room} {s : State} {m : MethodId} {args : Array Value} {below : List Frame} {meth : Method} {c : Code} {H : Heap} {locs : List Loc} {cells slots : Nat} {cc : ByteArray} {pc nL a : Nat} {ls : Array Slot} {rest : List Value} {G : b_G} {B0 : Nat} (CX : b_Cx p s m args c cc nL RJ4 G B0) (hls : ls.size = nL) {rm : Room} {mc ms : Nat} {As st0 : List Value} {Qc : Array Value → State → Outcome → State → Prop} (hM : Met l yJ3_charAt (ws_ yJ3_charAt cJ3_charAt 5 (Option.some Jvm.ClassFile.FieldType.char)) rm (b_Pc G B0 H (.ref a :: As)) Qc mc ms (b_A B0)) (hn : As.length = 1) {fs : List Value} (hP : b_at G a (.inr (3, fs)) H) (hS : va_S (b_A B0) s.heap H locs) (hst : st0 = As.reverse ++ .ref a :: rest) (hr : rm.cells = mc ∧ rm.slots = ms ∧ rm.frames + 1 ≤ R.frames ∧ 8 + (5 + 11) + rm.locals ≤ R.locals) (hw : (rest.map fun v => v.category).sum ≤ 8) (hdg : decode cc pc = .ok (.invokespecial 329, 3)) (hf : cells + mc ≤ R.cells ∧ slots + ms ≤ R.slots) : va_Run p l e R s m args below meth c H locs cells slots mc ms (F0 m pc ls st0) rest (Qc (Value.ref a :: As).toArray) (b_A B0) := va_runSU (C := RJ4) (CX.K.1.1 3 _ rfl).2 CX.fix hM (va_cwSU 1 CX.ts (lw_SU q670 q2212 q246 q671 q84 q672) rfl hr.1 hr.2.1 ⟨by decide, by decide +kernel⟩ ⟨hr.2.2.1, hr.2.2.2⟩) ⟨b_blind G B0 H _, b_recv CX.K (ci := 3) rfl hP, b_pre _ CX.K hS⟩ rfl hn hls hst (lv_room hw) hdg hf
set_option maxHeartbeats 2000000 in
set_option maxRecDepth 100000 in
theorem m_J4_charAt (l : Launch) {G : b_G} {B0 : Nat} {H : Heap} {τ : b_T} {a : Nat} {ta : Nat} {va : Nat} {tv : Nat} {ml : Int32} {n : Nat} {f : Nat → Int32} {i : Nat} {k : Nat} (hc_th : b_tt G B0 τ H a (ta) (.inr (3, [.ref va, .int (nI 0), .int ml, .int (nI n)]))) (hc_val : b_tt G B0 τ H va (tv) (.inl (G.2.1 1, 60, .inl f))) (hi : i < n) (hn : n ≤ 60) (hf : f i = nI k) (hk : k < 128) : Met l yJ4_charAt (ws_ yJ4_charAt cJ4_charAt 2 (Option.some Jvm.ClassFile.FieldType.char)) ({ frames := 3, cells := 0, slots := 0, locals := 67 } : Room) (b_Pc G B0 H [.ref a, .int (nI i)]) (b_Qi B0 (fun r H1 => r = nI k ∧ H1 = H)) 0 0 (b_A B0) := by
  refine b_of (by decide) (Nat.le_of_ble_eq_true rfl) ?_
  intro p e s m below meth c CX hr hlk hnm hS ls hl
  have CX : b_Cx p s m _ c cJ4_charAt 2 RJ4 G B0 := CX
  have hx := CX.hx
  have hb := CX.hb
  have hl : lv_has ls 2 [(0, .ref a), (1, .int (nI i))] := hl
  generalize hQ : MQ below (b_Qi B0 (fun r H1 => r = nI k ∧ H1 = H)) ([.ref a, .int (nI i)] : List Value).toArray s 0 0 (b_A B0) = Q
  refine lv_aload_n hx hb dJ4_charAt_0 rfl (lv_at hl 0 rfl) ?_
  refine lv_iload_n hx hb dJ4_charAt_1 rfl (lv_at hl 1 rfl) ?_
  refine b_ci0 (cs_J4_329_3 (rest := []) CX hl.1 (m_J3_charAt l (a := a) (ta := ta) (va := va) (tv := tv) (f := f) (ml := ml) (n := n) (i := i) hc_th hc_val (by omega) (by omega) hf (by omega)) rfl hc_th.at hS rfl ⟨rfl, rfl, Nat.le_of_ble_eq_true rfl, Nat.le_of_ble_eq_true rfl⟩ (Nat.le_of_ble_eq_true rfl) dJ4_charAt_2 ⟨Nat.le_of_ble_eq_true rfl, Nat.le_of_ble_eq_true rfl⟩) hS (fun locs hS => ?_)
  rw [← hQ]
  exact b_zret CX hr hlk hS (Nat.le_of_ble_eq_true rfl) (Nat.le_of_ble_eq_true rfl) (pk_charN (by omega)).1 dJ4_charAt_5 (⟨rfl, rfl⟩)
theorem cs_J3_100_3 {p : Program} {l : Launch} {e : Env} {R : Room} {s : State} {m : MethodId} {args : Array Value} {below : List Frame} {meth : Method} {c : Code} {H : Heap} {locs : List Loc} {cells slots : Nat} {cc : ByteArray} {pc nL a : Nat} {ls : Array Slot} {rest : List Value} {G : b_G} {B0 : Nat} (CX : b_Cx p s m args c cc nL RJ3 G B0) (hls : ls.size = nL) {rm : Room} {mc ms : Nat} {As st0 : List Value} {Qc : Array Value → State → Outcome → State → Prop} (hM : Met l yJ3_ensureCapacityInternal (ws_ yJ3_ensureCapacityInternal cJ3_ensureCapacityInternal 3 (Option.none)) rm (b_Pc G B0 H (.ref a :: As)) Qc mc ms (b_A B0)) (hn : As.length = 1) {fs : List Value} (hP : b_at G a (.inr (3, fs)) H) (hS : va_S (b_A B0) s.heap H locs) (hst : st0 = As.reverse ++ .ref a :: rest) (hr : rm.cells = mc ∧ rm.slots = ms ∧ rm.frames + 1 ≤ R.frames ∧ 8 + (3 + 11) + rm.locals ≤ R.locals) (hw : (rest.map fun v => v.category).sum ≤ 8) (hdg : decode cc pc = .ok (.invokevirtual 100, 3)) (hf : cells + mc ≤ R.cells ∧ slots + ms ≤ R.slots) : va_Run p l e R s m args below meth c H locs cells slots mc ms (F0 m pc ls st0) rest (Qc (Value.ref a :: As).toArray) (b_A B0) := b_runP (C := RJ4) CX.fix hM (b_cwP 1 CX.ts q314 q2204 (CX.nw q315 rfl rfl) q316 q84 q317 hr.1 hr.2.1 ⟨⟨by decide, by decide⟩, by decide +kernel⟩ ⟨hr.2.2.1, hr.2.2.2⟩) ⟨b_blind G B0 H _, b_recv CX.K (ci := 3) rfl hP, b_pre _ CX.K hS⟩ rfl hn hls hst (lv_room hw) hdg hf
theorem cs_J3_83_3 {p : Program} {l : Launch} {e : Env} {R : Room} {s : State} {m : MethodId} {args : Array Value} {below : List Frame} {meth : Method} {c : Code} {H : Heap} {locs : List Loc} {cells slots : Nat} {cc : ByteArray} {pc nL a : Nat} {ls : Array Slot} {rest : List Value} {G : b_G} {B0 : Nat} (CX : b_Cx p s m args c cc nL RJ3 G B0) (hls : ls.size = nL) {rm : Room} {mc ms : Nat} {As st0 : List Value} {Qc : Array Value → State → Outcome → State → Prop} (hM : Met l yJ3_isLatin1 (ws_ yJ3_isLatin1 cJ3_isLatin1 1 (Option.some Jvm.ClassFile.FieldType.boolean)) rm (b_Pc G B0 H (.ref a :: As)) Qc mc ms (b_A B0)) (hn : As.length = 0) {fs : List Value} (hP : b_at G a (.inr (3, fs)) H) (hS : va_S (b_A B0) s.heap H locs) (hst : st0 = As.reverse ++ .ref a :: rest) (hr : rm.cells = mc ∧ rm.slots = ms ∧ rm.frames + 1 ≤ R.frames ∧ 8 + (1 + 11) + rm.locals ≤ R.locals) (hw : (rest.map fun v => v.category).sum ≤ 8) (hdg : decode cc pc = .ok (.invokevirtual 83, 3)) (hf : cells + mc ≤ R.cells ∧ slots + ms ≤ R.slots) : va_Run p l e R s m args below meth c H locs cells slots mc ms (F0 m pc ls st0) rest (Qc (Value.ref a :: As).toArray) (b_A B0) := va_runU CX.fix hM (va_cwU (C := RJ4) (owner := RJ3) 0 CX.ts (lw_U q349 q351 q352 q350 q84 q353) rfl hr.1 hr.2.1 rfl ⟨by decide, by decide, by decide +kernel⟩ ⟨hr.2.2.1, hr.2.2.2⟩) ⟨b_blind G B0 H _, b_recv CX.K (ci := 3) rfl hP, b_pre _ CX.K hS⟩ rfl hn hls hst (lv_room hw) hdg hf
theorem cs_J3_191 {p : Program} {l : Launch} {e : Env} {R : Room} {s : State} {m : MethodId} {args : Array Value} {below : List Frame} {meth : Method} {c : Code} {H : Heap} {locs : List Loc} {cells slots : Nat} {cc : ByteArray} {pc nL : Nat} {ls : Array Slot} {rest : List Value} {G : b_G} {B0 : Nat} (CX : b_Cx p s m args c cc nL RJ3 G B0) (hls : ls.size = nL) {rm : Room} {mc ms : Nat} {As st0 : List Value} {Qc : Array Value → State → Outcome → State → Prop} (hM : Met l yJ19_canEncode (ws_ yJ19_canEncode cJ19_canEncode 1 (Option.some Jvm.ClassFile.FieldType.boolean)) rm (b_Pc G B0 H As) Qc mc ms (b_A B0)) (hn : As.length = 1) (hS : va_S (b_A B0) s.heap H locs) (hst : st0 = As.reverse ++ rest) (hr : rm.cells = mc ∧ rm.slots = ms ∧ rm.frames + 1 ≤ R.frames ∧ 8 + (1 + 11) + rm.locals ≤ R.locals) (hw : (rest.map fun v => v.category).sum ≤ 8) (hdg : decode cc pc = .ok (.invokestatic 191, 3)) (hf : cells + mc ≤ R.cells ∧ slots + ms ≤ R.slots) : va_Run p l e R s m args below meth c H locs cells slots mc ms (F0 m pc ls st0) rest (Qc As.toArray) (b_A B0) := va_runS CX.fix hM (va_cwS 1 CX.ts (lw_S q1694 q1695 q118 q1696) rfl hr.1 hr.2.1 (by decide +kernel) ⟨hr.2.2.1, hr.2.2.2⟩) ⟨b_blind G B0 H _, b_pre _ CX.K hS⟩ rfl hn hls hst (lv_room hw) hdg hf
theorem pf_J3_79_3 {p : Program} {l : Launch} {e : Env} {R : Room} {s : State} {m : MethodId} {args : Array Value} {below : List Frame} {meth : Method} {c : Code} {H : Heap} {locs : List Loc} {cells slots : Nat} {Q : State → Prop} {cc : ByteArray} {pc nL a : Nat} {ls : Array Slot} {rest : List Value} {G : b_G} {B0 : Nat} (CX : b_Cx p s m args c cc nL RJ3 G B0) {fs : List Value} (hP : b_at G a (.inr (3, fs)) H) (hS : va_S (b_A B0) s.heap H locs) (ha : B0 ≤ a) {v : Value} (hn : narrow (tyJ4 3) v = v) (hfit : fits (tyJ4 3) v = true) (hl : 3 < fs.length) (hdg : decode cc pc = .ok (.putfield 79, 3)) (kk : ∀ (H1 : Heap) (locs1 : List Loc), b_at G a (.inr (3, fs.set 3 v)) H1 → b_Up a H H1 → va_S (b_A B0) s.heap H1 locs1 → W p l e R s m args below meth c H1 locs1 cells slots Q (F0 m (pc + 3) ls rest)) : W p l e R s m args below meth c H locs cells slots Q (F0 m pc ls (v :: .ref a :: rest)) := b_put CX in_J4 tyJ4 tyJ4_ok rfl 3 (by decide) (by decide +kernel) q237 (Or.inl rfl) rfl hP hS ha hn hfit hl hdg kk
set_option maxHeartbeats 2000000 in
set_option maxRecDepth 100000 in
theorem m_J3_append_3 (l : Launch) {G : b_G} {B0 : Nat} {H : Heap} {τ : b_T} {a : Nat} {ta : Nat} {va : Nat} {tv : Nat} {ml : Int32} {n : Nat} {f : Nat → Int32} {k : Nat} (hc_th : b_tt G B0 τ H a (ta) (.inr (3, [.ref va, .int (nI 0), .int ml, .int (nI n)]))) (hc_val : b_tt G B0 τ H va (tv) (.inl (G.2.1 1, 60, .inl f))) (hn : n < 60) (hk : k < 128) (hne : ¬ ta = tv) : Met l yJ3_append_3 (ws_ yJ3_append_3 cJ3_append_3 2 (Option.some (Jvm.ClassFile.FieldType.object "java/lang/AbstractStringBuilder"))) ({ frames := 1, cells := 0, slots := 0, locals := 22 } : Room) (b_Pc G B0 H [.ref a, .int (nI k)]) (b_Qq B0 (fun r H1 => r = some a ∧ b_Fr τ (fun t => t = ta ∨ t = tv) H H1 ∧ b_tt G B0 τ H1 a (ta) (.inr (3, [.ref va, .int (nI 0), .int ml, .int (nI (n + 1))])) ∧ b_tt G B0 τ H1 va (tv) (.inl (G.2.1 1, 60, .inl ((upd f n (nI k))))))) 0 0 (b_A B0) := by
  refine b_of (by decide) (Nat.le_of_ble_eq_true rfl) ?_
  intro p e s m below meth c CX hr hlk hnm hS ls hl
  have CX : b_Cx p s m _ c cJ3_append_3 2 RJ3 G B0 := CX
  have hx := CX.hx
  have hb := CX.hb
  have hl : lv_has ls 2 [(0, .ref a), (1, .int (nI k))] := hl
  generalize hQ : MQ below (b_Qq B0 (fun r H1 => r = some a ∧ b_Fr τ (fun t => t = ta ∨ t = tv) H H1 ∧ b_tt G B0 τ H1 a (ta) (.inr (3, [.ref va, .int (nI 0), .int ml, .int (nI (n + 1))])) ∧ b_tt G B0 τ H1 va (tv) (.inl (G.2.1 1, 60, .inl ((upd f n (nI k))))))) ([.ref a, .int (nI k)] : List Value).toArray s 0 0 (b_A B0) = Q
  have hF : b_Fr τ (fun t => t = ta ∨ t = tv) H H := b_Fr.rf
  have hA : b_Ag τ τ H := b_Ag.rf
  refine lv_aload_n hx hb dJ3_append_3_0 rfl (lv_at hl 0 rfl) ?_
  refine lv_aload_n hx hb dJ3_append_3_1 rfl (lv_at hl 0 rfl) ?_
  refine gf_J3_79_3 CX hc_th.at rfl dJ3_append_3_2 ?_
  refine lv_iconst (v := nI 1) hx hb dJ3_append_3_5 rfl ?_
  refine b_iaddN CX dJ3_append_3_6 ?_
  refine b_cv0 (cs_J3_100_3 (rest := []) CX hl.1 (m_J3_ensureCapacityInternal l (a := a) (ta := ta) (va := va) (tv := tv) (f := f) (ml := ml) (n := n) (k := n + 1) hc_th hc_val (by omega)) rfl hc_th.at hS rfl ⟨rfl, rfl, Nat.le_of_ble_eq_true rfl, Nat.le_of_ble_eq_true rfl⟩ (Nat.le_of_ble_eq_true rfl) dJ3_append_3_7 ⟨Nat.le_of_ble_eq_true rfl, Nat.le_of_ble_eq_true rfl⟩) hS (fun locs hS => ?_)
  refine lv_aload_n hx hb dJ3_append_3_10 rfl (lv_at hl 0 rfl) ?_
  refine b_ci0 (cs_J3_83_3 (rest := []) CX hl.1 (m_J3_isLatin1 l (a := a) (ta := ta) (va := va) (tv := tv) (f := f) (ml := ml) (n := n) hc_th hc_val) rfl hc_th.at hS rfl ⟨rfl, rfl, Nat.le_of_ble_eq_true rfl, Nat.le_of_ble_eq_true rfl⟩ (Nat.le_of_ble_eq_true rfl) dJ3_append_3_11 ⟨Nat.le_of_ble_eq_true rfl, Nat.le_of_ble_eq_true rfl⟩) hS (fun locs hS => ?_)
  refine lv_if_eq (tgt := 45) hx hb dJ3_append_3_14 (by decide) (fun c_14 => ?_) (fun c_14 => ?_)
  · exact absurd c_14 (by decide)
  · refine lv_iload_n hx hb dJ3_append_3_17 rfl (lv_at hl 1 rfl) ?_
    refine b_ci0 (cs_J3_191 (rest := []) CX hl.1 (m_J19_canEncode l (k := k) (by omega)) rfl hS rfl ⟨rfl, rfl, Nat.le_of_ble_eq_true rfl, Nat.le_of_ble_eq_true rfl⟩ (Nat.le_of_ble_eq_true rfl) dJ3_append_3_18 ⟨Nat.le_of_ble_eq_true rfl, Nat.le_of_ble_eq_true rfl⟩) hS (fun locs hS => ?_)
    refine lv_if_eq (tgt := 45) hx hb dJ3_append_3_21 (by decide) (fun c_21 => ?_) (fun c_21 => ?_)
    · exact absurd c_21 (by decide)
    · refine lv_aload_n hx hb dJ3_append_3_24 rfl (lv_at hl 0 rfl) ?_
      refine gf_J3_15_3 CX hc_th.at rfl dJ3_append_3_25 ?_
      refine lv_aload_n hx hb dJ3_append_3_28 rfl (lv_at hl 0 rfl) ?_
      refine lv_dup hx hb dJ3_append_3_29 rfl ?_
      refine gf_J3_79_3 CX hc_th.at rfl dJ3_append_3_30 ?_
      refine lv_dup_x1 hx hb dJ3_append_3_33 rfl rfl ?_
      refine lv_iconst (v := nI 1) hx hb dJ3_append_3_34 rfl ?_
      refine b_iaddN CX dJ3_append_3_35 ?_
      refine pf_J3_79_3 CX hc_th.at hS hc_th.B rfl rfl (Nat.le_of_ble_eq_true rfl) dJ3_append_3_36 (fun H1 locs hat hu hS => ?_)
      have hc_val := hc_val.up hu hc_th.tag (by omega)
      have hF := hF.up hA hu hc_th.tag (fun _ => show (ta) = ta ∨ (ta) = tv by omega)
      have hc_th : b_tt G B0 τ H1 a (ta) (.inr (3, [.ref va, .int (nI 0), .int ml, .int (nI (n + 1))])) := hc_th.set hat
      refine lv_iload_n hx hb dJ3_append_3_39 rfl (lv_at hl 1 rfl) ?_
      refine lv_i2b (v := nI k) hx hb dJ3_append_3_40 (p_i2b hk) ?_
      refine b_bst CX hc_val.at hS hc_val.B (vp_in_nI (by omega) (by omega)) dJ3_append_3_41 (fun H2 locs hat hu hS => ?_)
      rw [b_up_nI (by omega) (by rw [p_narb hk])] at hat
      have hc_th := hc_th.up hu hc_val.tag (by omega)
      have hF := hF.up hA hu hc_val.tag (fun _ => show (tv) = ta ∨ (tv) = tv by omega)
      have hc_val : b_tt G B0 τ H2 va (tv) (.inl (G.2.1 1, 60, .inl (upd f n (nI k)))) := hc_val.set hat
      refine lv_goto (tgt := 75) hx hb dJ3_append_3_42 (by decide) ?_
      refine lv_aload_n hx hb dJ3_append_3_75 rfl (lv_at hl 0 rfl) ?_
      rw [← hQ]
      exact b_aret (v := some a) CX hr (Or.inl ⟨_, rfl⟩) hlk hS (Nat.le_of_ble_eq_true rfl) (Nat.le_of_ble_eq_true rfl) dJ3_append_3_76 (⟨rfl, hF, hc_th, hc_val⟩)
theorem cs_J4_50_3 {p : Program} {l : Launch} {e : Env} {R : Room} {s : State} {m : MethodId} {args : Array Value} {below : List Frame} {meth : Method} {c : Code} {H : Heap} {locs : List Loc} {cells slots : Nat} {cc : ByteArray} {pc nL a : Nat} {ls : Array Slot} {rest : List Value} {G : b_G} {B0 : Nat} (CX : b_Cx p s m args c cc nL RJ4 G B0) (hls : ls.size = nL) {rm : Room} {mc ms : Nat} {As st0 : List Value} {Qc : Array Value → State → Outcome → State → Prop} (hM : Met l yJ3_append_3 (ws_ yJ3_append_3 cJ3_append_3 2 (Option.some (Jvm.ClassFile.FieldType.object "java/lang/AbstractStringBuilder"))) rm (b_Pc G B0 H (.ref a :: As)) Qc mc ms (b_A B0)) (hn : As.length = 1) {fs : List Value} (hP : b_at G a (.inr (3, fs)) H) (hS : va_S (b_A B0) s.heap H locs) (hst : st0 = As.reverse ++ .ref a :: rest) (hr : rm.cells = mc ∧ rm.slots = ms ∧ rm.frames + 1 ≤ R.frames ∧ 8 + (2 + 11) + rm.locals ≤ R.locals) (hw : (rest.map fun v => v.category).sum ≤ 8) (hdg : decode cc pc = .ok (.invokespecial 50, 3)) (hf : cells + mc ≤ R.cells ∧ slots + ms ≤ R.slots) : va_Run p l e R s m args below meth c H locs cells slots mc ms (F0 m pc ls st0) rest (Qc (Value.ref a :: As).toArray) (b_A B0) := va_runSU (C := RJ4) (CX.K.1.1 3 _ rfl).2 CX.fix hM (va_cwSU 1 CX.ts (lw_SU q1691 q2223 q246 q1692 q84 q1693) rfl hr.1 hr.2.1 ⟨by decide, by decide +kernel⟩ ⟨hr.2.2.1, hr.2.2.2⟩) ⟨b_blind G B0 H _, b_recv CX.K (ci := 3) rfl hP, b_pre _ CX.K hS⟩ rfl hn hls hst (lv_room hw) hdg hf
set_option maxHeartbeats 2000000 in
set_option maxRecDepth 100000 in
theorem m_J4_append_3 (l : Launch) {G : b_G} {B0 : Nat} {H : Heap} {τ : b_T} {a : Nat} {ta : Nat} {va : Nat} {tv : Nat} {ml : Int32} {n : Nat} {f : Nat → Int32} {k : Nat} (hc_th : b_tt G B0 τ H a (ta) (.inr (3, [.ref va, .int (nI 0), .int ml, .int (nI n)]))) (hc_val : b_tt G B0 τ H va (tv) (.inl (G.2.1 1, 60, .inl f))) (hn : n < 60) (hk : k < 128) (hne : ¬ ta = tv) : Met l yJ4_append_3 (ws_ yJ4_append_3 cJ4_append_3 2 (Option.some (Jvm.ClassFile.FieldType.object "java/lang/StringBuilder"))) ({ frames := 2, cells := 0, slots := 0, locals := 43 } : Room) (b_Pc G B0 H [.ref a, .int (nI k)]) (b_Qq B0 (fun r H1 => r = some a ∧ b_Fr τ (fun t => t = ta ∨ t = tv) H H1 ∧ b_tt G B0 τ H1 a (ta) (.inr (3, [.ref va, .int (nI 0), .int ml, .int (nI (n + 1))])) ∧ b_tt G B0 τ H1 va (tv) (.inl (G.2.1 1, 60, .inl ((upd f n (nI k))))))) 0 0 (b_A B0) := by
  refine b_of (by decide) (Nat.le_of_ble_eq_true rfl) ?_
  intro p e s m below meth c CX hr hlk hnm hS ls hl
  have CX : b_Cx p s m _ c cJ4_append_3 2 RJ4 G B0 := CX
  have hx := CX.hx
  have hb := CX.hb
  have hl : lv_has ls 2 [(0, .ref a), (1, .int (nI k))] := hl
  generalize hQ : MQ below (b_Qq B0 (fun r H1 => r = some a ∧ b_Fr τ (fun t => t = ta ∨ t = tv) H H1 ∧ b_tt G B0 τ H1 a (ta) (.inr (3, [.ref va, .int (nI 0), .int ml, .int (nI (n + 1))])) ∧ b_tt G B0 τ H1 va (tv) (.inl (G.2.1 1, 60, .inl ((upd f n (nI k))))))) ([.ref a, .int (nI k)] : List Value).toArray s 0 0 (b_A B0) = Q
  have hF : b_Fr τ (fun t => t = ta ∨ t = tv) H H := b_Fr.rf
  have hA : b_Ag τ τ H := b_Ag.rf
  refine lv_aload_n hx hb dJ4_append_3_0 rfl (lv_at hl 0 rfl) ?_
  refine lv_iload_n hx hb dJ4_append_3_1 rfl (lv_at hl 1 rfl) ?_
  refine b_cq (cs_J4_50_3 (rest := []) CX hl.1 (m_J3_append_3 l (a := a) (ta := ta) (va := va) (tv := tv) (f := f) (ml := ml) (n := n) (k := k) hc_th hc_val (by omega) (by omega) (by omega)) rfl hc_th.at hS rfl ⟨rfl, rfl, Nat.le_of_ble_eq_true rfl, Nat.le_of_ble_eq_true rfl⟩ (Nat.le_of_ble_eq_true rfl) dJ4_append_3_2 ⟨Nat.le_of_ble_eq_true rfl, Nat.le_of_ble_eq_true rfl⟩) hS (fun r H1 locs hp hS => ?_)
  obtain ⟨rfl, hF9, hx0, hx1⟩ := hp
  have hz9 := hF.1
  have hF0 := hF.tr hA hF9 (fun q9 hq9 x9 => by have x8 : τ q9 = ta ∨ τ q9 = tv := x9; show τ q9 = ta ∨ τ q9 = tv; omega)
  have hF := hF0
  have hc_th : b_tt G B0 τ H1 a (ta) (.inr (3, [.ref va, .int (nI 0), .int ml, .int (nI (n + 1))])) := hx0
  have hc_val : b_tt G B0 τ H1 va (tv) (.inl (G.2.1 1, 60, .inl ((upd f n (nI k))))) := hx1
  refine lv_pop hx hb dJ4_append_3_5 rfl ?_
  refine lv_aload_n hx hb dJ4_append_3_6 rfl (lv_at hl 0 rfl) ?_
  rw [← hQ]
  exact b_aret (v := some a) CX hr (Or.inl ⟨_, rfl⟩) hlk hS (Nat.le_of_ble_eq_true rfl) (Nat.le_of_ble_eq_true rfl) dJ4_append_3_7 (⟨rfl, hF, hc_th, hc_val⟩)
theorem pf_J3_73_3 {p : Program} {l : Launch} {e : Env} {R : Room} {s : State} {m : MethodId} {args : Array Value} {below : List Frame} {meth : Method} {c : Code} {H : Heap} {locs : List Loc} {cells slots : Nat} {Q : State → Prop} {cc : ByteArray} {pc nL a : Nat} {ls : Array Slot} {rest : List Value} {G : b_G} {B0 : Nat} (CX : b_Cx p s m args c cc nL RJ3 G B0) {fs : List Value} (hP : b_at G a (.inr (3, fs)) H) (hS : va_S (b_A B0) s.heap H locs) (ha : B0 ≤ a) {v : Value} (hn : narrow (tyJ4 2) v = v) (hfit : fits (tyJ4 2) v = true) (hl : 2 < fs.length) (hdg : decode cc pc = .ok (.putfield 73, 3)) (kk : ∀ (H1 : Heap) (locs1 : List Loc), b_at G a (.inr (3, fs.set 2 v)) H1 → b_Up a H H1 → va_S (b_A B0) s.heap H1 locs1 → W p l e R s m args below meth c H1 locs1 cells slots Q (F0 m (pc + 3) ls rest)) : W p l e R s m args below meth c H locs cells slots Q (F0 m pc ls (v :: .ref a :: rest)) := b_put CX in_J4 tyJ4 tyJ4_ok rfl 2 (by decide) (by decide +kernel) q235 (Or.inl rfl) rfl hP hS ha hn hfit hl hdg kk
set_option maxHeartbeats 2000000 in
set_option maxRecDepth 100000 in
theorem m_J3_setLength (l : Launch) {G : b_G} {B0 : Nat} {H : Heap} {τ : b_T} {a : Nat} {ta : Nat} {va : Nat} {tv : Nat} {ml : Int32} {n : Nat} {f : Nat → Int32} (hc_th : b_tt G B0 τ H a (ta) (.inr (3, [.ref va, .int (nI 0), .int ml, .int (nI n)]))) (hc_val : b_tt G B0 τ H va (tv) (.inl (G.2.1 1, 60, .inl f))) (hn : n ≤ 60) (hne : ¬ ta = tv) : Met l yJ3_setLength (ws_ yJ3_setLength cJ3_setLength 2 (Option.none)) ({ frames := 1, cells := 0, slots := 0, locals := 22 } : Room) (b_Pc G B0 H [.ref a, .int (nI 0)]) (b_Qv B0 (fun H1 => b_Fr τ (fun t => t = ta) H H1 ∧ b_tt G B0 τ H1 a (ta) (.inr (3, [.ref va, .int (nI 0), .int ((if n = 0 then ml else nI 1)), .int (nI 0)])))) 0 0 (b_A B0) := by
  refine b_of (by decide) (Nat.le_of_ble_eq_true rfl) ?_
  intro p e s m below meth c CX hr hlk hnm hS ls hl
  have CX : b_Cx p s m _ c cJ3_setLength 2 RJ3 G B0 := CX
  have hx := CX.hx
  have hb := CX.hb
  have hl : lv_has ls 2 [(0, .ref a), (1, .int (nI 0))] := hl
  generalize hQ : MQ below (b_Qv B0 (fun H1 => b_Fr τ (fun t => t = ta) H H1 ∧ b_tt G B0 τ H1 a (ta) (.inr (3, [.ref va, .int (nI 0), .int ((if n = 0 then ml else nI 1)), .int (nI 0)])))) ([.ref a, .int (nI 0)] : List Value).toArray s 0 0 (b_A B0) = Q
  have hF : b_Fr τ (fun t => t = ta) H H := b_Fr.rf
  have hA : b_Ag τ τ H := b_Ag.rf
  refine lv_iload_n hx hb dJ3_setLength_0 rfl (lv_at hl 1 rfl) ?_
  refine lv_if_ge (tgt := 13) hx hb dJ3_setLength_1 (by decide) (fun c_1 => ?_) (fun c_1 => ?_)
  · refine lv_aload_n hx hb dJ3_setLength_13 rfl (lv_at hl 0 rfl) ?_
    refine lv_iload_n hx hb dJ3_setLength_14 rfl (lv_at hl 1 rfl) ?_
    refine b_cv0 (cs_J3_100_3 (rest := []) CX hl.1 (m_J3_ensureCapacityInternal l (a := a) (ta := ta) (va := va) (tv := tv) (f := f) (ml := ml) (n := n) (k := 0) hc_th hc_val (by omega)) rfl hc_th.at hS rfl ⟨rfl, rfl, Nat.le_of_ble_eq_true rfl, Nat.le_of_ble_eq_true rfl⟩ (Nat.le_of_ble_eq_true rfl) dJ3_setLength_15 ⟨Nat.le_of_ble_eq_true rfl, Nat.le_of_ble_eq_true rfl⟩) hS (fun locs hS => ?_)
    refine lv_aload_n hx hb dJ3_setLength_18 rfl (lv_at hl 0 rfl) ?_
    refine gf_J3_79_3 CX hc_th.at rfl dJ3_setLength_19 ?_
    refine lv_iload_n hx hb dJ3_setLength_22 rfl (lv_at hl 1 rfl) ?_
    refine b_icmp_geN (tgt := 63) CX (by omega) (by omega) dJ3_setLength_23 (by decide) (fun c_23 => ?_) (fun c_23 => ?_)
    · refine lv_aload_n hx hb dJ3_setLength_63 rfl (lv_at hl 0 rfl) ?_
      refine gf_J3_79_3 CX hc_th.at rfl dJ3_setLength_64 ?_
      refine lv_iload_n hx hb dJ3_setLength_67 rfl (lv_at hl 1 rfl) ?_
      refine b_icmp_leN (tgt := 76) CX (by omega) (by omega) dJ3_setLength_68 (by decide) (fun c_68 => ?_) (fun c_68 => ?_)
      · refine lv_aload_n hx hb dJ3_setLength_76 rfl (lv_at hl 0 rfl) ?_
        refine lv_iload_n hx hb dJ3_setLength_77 rfl (lv_at hl 1 rfl) ?_
        refine pf_J3_79_3 CX hc_th.at hS hc_th.B rfl rfl (Nat.le_of_ble_eq_true rfl) dJ3_setLength_78 (fun H1 locs hat hu hS => ?_)
        have hc_val := hc_val.up hu hc_th.tag (by omega)
        have hF := hF.up hA hu hc_th.tag (fun _ => show (ta) = ta by omega)
        have hc_th : b_tt G B0 τ H1 a (ta) (.inr (3, [.ref va, .int (nI 0), .int ml, .int (nI 0)])) := hc_th.set hat
        have hc_th : b_tt G B0 τ H1 a (ta) (.inr (3, [.ref va, .int (nI 0), .int ((if n = 0 then ml else nI 1)), .int (nI 0)])) := hc_th.cg (by rw [if_pos (by omega)])
        rw [← hQ]
        exact b_vret CX hr hlk hS (Nat.le_of_ble_eq_true rfl) (Nat.le_of_ble_eq_true rfl) dJ3_setLength_81 (⟨hF, hc_th⟩)
      · refine lv_aload_n hx hb dJ3_setLength_71 rfl (lv_at hl 0 rfl) ?_
        refine lv_iconst (v := nI 1) hx hb dJ3_setLength_72 rfl ?_
        refine pf_J3_73_3 CX hc_th.at hS hc_th.B rfl rfl (Nat.le_of_ble_eq_true rfl) dJ3_setLength_73 (fun H2 locs hat hu hS => ?_)
        have hc_val := hc_val.up hu hc_th.tag (by omega)
        have hF := hF.up hA hu hc_th.tag (fun _ => show (ta) = ta by omega)
        have hc_th : b_tt G B0 τ H2 a (ta) (.inr (3, [.ref va, .int (nI 0), .int (nI 1), .int (nI n)])) := hc_th.set hat
        refine lv_aload_n hx hb dJ3_setLength_76 rfl (lv_at hl 0 rfl) ?_
        refine lv_iload_n hx hb dJ3_setLength_77 rfl (lv_at hl 1 rfl) ?_
        refine pf_J3_79_3 CX hc_th.at hS hc_th.B rfl rfl (Nat.le_of_ble_eq_true rfl) dJ3_setLength_78 (fun H3 locs hat hu hS => ?_)
        have hc_val := hc_val.up hu hc_th.tag (by omega)
        have hF := hF.up hA hu hc_th.tag (fun _ => show (ta) = ta by omega)
        have hc_th : b_tt G B0 τ H3 a (ta) (.inr (3, [.ref va, .int (nI 0), .int (nI 1), .int (nI 0)])) := hc_th.set hat
        have hc_th : b_tt G B0 τ H3 a (ta) (.inr (3, [.ref va, .int (nI 0), .int ((if n = 0 then ml else nI 1)), .int (nI 0)])) := hc_th.cg (by rw [if_neg (by omega)])
        rw [← hQ]
        exact b_vret CX hr hlk hS (Nat.le_of_ble_eq_true rfl) (Nat.le_of_ble_eq_true rfl) dJ3_setLength_81 (⟨hF, hc_th⟩)
    · exfalso; omega
  · exact absurd c_1 (by decide)
theorem cs_J4_333_3 {p : Program} {l : Launch} {e : Env} {R : Room} {s : State} {m : MethodId} {args : Array Value} {below : List Frame} {meth : Method} {c : Code} {H : Heap} {locs : List Loc} {cells slots : Nat} {cc : ByteArray} {pc nL a : Nat} {ls : Array Slot} {rest : List Value} {G : b_G} {B0 : Nat} (CX : b_Cx p s m args c cc nL RJ4 G B0) (hls : ls.size = nL) {rm : Room} {mc ms : Nat} {As st0 : List Value} {Qc : Array Value → State → Outcome → State → Prop} (hM : Met l yJ3_setLength (ws_ yJ3_setLength cJ3_setLength 2 (Option.none)) rm (b_Pc G B0 H (.ref a :: As)) Qc mc ms (b_A B0)) (hn : As.length = 1) {fs : List Value} (hP : b_at G a (.inr (3, fs)) H) (hS : va_S (b_A B0) s.heap H locs) (hst : st0 = As.reverse ++ .ref a :: rest) (hr : rm.cells = mc ∧ rm.slots = ms ∧ rm.frames + 1 ≤ R.frames ∧ 8 + (2 + 11) + rm.locals ≤ R.locals) (hw : (rest.map fun v => v.category).sum ≤ 8) (hdg : decode cc pc = .ok (.invokespecial 333, 3)) (hf : cells + mc ≤ R.cells ∧ slots + ms ≤ R.slots) : va_Run p l e R s m args below meth c H locs cells slots mc ms (F0 m pc ls st0) rest (Qc (Value.ref a :: As).toArray) (b_A B0) := va_runSU (C := RJ4) (CX.K.1.1 3 _ rfl).2 CX.fix hM (va_cwSU 1 CX.ts (lw_SU q290 q2201 q246 q291 q84 q292) rfl hr.1 hr.2.1 ⟨by decide, by decide +kernel⟩ ⟨hr.2.2.1, hr.2.2.2⟩) ⟨b_blind G B0 H _, b_recv CX.K (ci := 3) rfl hP, b_pre _ CX.K hS⟩ rfl hn hls hst (lv_room hw) hdg hf
set_option maxHeartbeats 2000000 in
set_option maxRecDepth 100000 in
theorem m_J4_setLength (l : Launch) {G : b_G} {B0 : Nat} {H : Heap} {τ : b_T} {a : Nat} {ta : Nat} {va : Nat} {tv : Nat} {ml : Int32} {n : Nat} {f : Nat → Int32} (hc_th : b_tt G B0 τ H a (ta) (.inr (3, [.ref va, .int (nI 0), .int ml, .int (nI n)]))) (hc_val : b_tt G B0 τ H va (tv) (.inl (G.2.1 1, 60, .inl f))) (hn : n ≤ 60) (hne : ¬ ta = tv) : Met l yJ4_setLength (ws_ yJ4_setLength cJ4_setLength 2 (Option.none)) ({ frames := 2, cells := 0, slots := 0, locals := 43 } : Room) (b_Pc G B0 H [.ref a, .int (nI 0)]) (b_Qv B0 (fun H1 => b_Fr τ (fun t => t = ta) H H1 ∧ b_tt G B0 τ H1 a (ta) (.inr (3, [.ref va, .int (nI 0), .int ((if n = 0 then ml else nI 1)), .int (nI 0)])))) 0 0 (b_A B0) := by
  refine b_of (by decide) (Nat.le_of_ble_eq_true rfl) ?_
  intro p e s m below meth c CX hr hlk hnm hS ls hl
  have CX : b_Cx p s m _ c cJ4_setLength 2 RJ4 G B0 := CX
  have hx := CX.hx
  have hb := CX.hb
  have hl : lv_has ls 2 [(0, .ref a), (1, .int (nI 0))] := hl
  generalize hQ : MQ below (b_Qv B0 (fun H1 => b_Fr τ (fun t => t = ta) H H1 ∧ b_tt G B0 τ H1 a (ta) (.inr (3, [.ref va, .int (nI 0), .int ((if n = 0 then ml else nI 1)), .int (nI 0)])))) ([.ref a, .int (nI 0)] : List Value).toArray s 0 0 (b_A B0) = Q
  have hF : b_Fr τ (fun t => t = ta) H H := b_Fr.rf
  have hA : b_Ag τ τ H := b_Ag.rf
  refine lv_aload_n hx hb dJ4_setLength_0 rfl (lv_at hl 0 rfl) ?_
  refine lv_iload_n hx hb dJ4_setLength_1 rfl (lv_at hl 1 rfl) ?_
  refine b_cv (cs_J4_333_3 (rest := []) CX hl.1 (m_J3_setLength l (a := a) (ta := ta) (va := va) (tv := tv) (f := f) (ml := ml) (n := n) hc_th hc_val (by omega) (by omega)) rfl hc_th.at hS rfl ⟨rfl, rfl, Nat.le_of_ble_eq_true rfl, Nat.le_of_ble_eq_true rfl⟩ (Nat.le_of_ble_eq_true rfl) dJ4_setLength_2 ⟨Nat.le_of_ble_eq_true rfl, Nat.le_of_ble_eq_true rfl⟩) hS (fun H1 locs hp hS => ?_)
  obtain ⟨hF9, hx0⟩ := hp
  have hc_val := hc_val.fr hF9 (show ¬ ((tv) = ta) by omega)
  have hz9 := hF.1
  have hF0 := hF.tr hA hF9 (fun q9 hq9 x9 => by have x8 : τ q9 = ta := x9; show τ q9 = ta; omega)
  have hF := hF0
  have hc_th : b_tt G B0 τ H1 a (ta) (.inr (3, [.ref va, .int (nI 0), .int ((if n = 0 then ml else nI 1)), .int (nI 0)])) := hx0
  rw [← hQ]
  exact b_vret CX hr hlk hS (Nat.le_of_ble_eq_true rfl) (Nat.le_of_ble_eq_true rfl) dJ4_setLength_5 (⟨hF, hc_th⟩)
