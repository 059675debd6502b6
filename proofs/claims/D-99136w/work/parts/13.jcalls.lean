set_option maxRecDepth 100000
/-! vx_Back, vx_callV .. vx_callVX: rows of the kit's laws/EXCEPTIONS.to-paste (a starting text) -/
def vx_Back (l : Launch) (R : Room) (p : Program) (e : Env) (below : List Frame) (s : State) (sargs : Array Value) (y : MethodName) (len W9 : Nat)
    (Pre : Pt → Array Value → Prop) (Post : Pt → Array Value → Option Value → Pt → Prop) (PostX : Pt → Array Value → Addr → Pt → Prop) : Prop :=
  ∀ (m : MethodId) (meth : Method) (c : Code) (A : Pt) (g : JFrame) (ig : Instr) (mk : MethodId) (a : Array Value),
    Stand p l e R s m sargs below meth c A.U A.locs A.cells A.slots → g.method = m → g.locals.size = c.maxLocals → decode c.code g.pc = .ok (ig, len) →
    2 * g.monitorRoom + (g.stack.map fun v => v.category).sum ≤ W9 → A.U.methodNamed? y = some mk → Pre A a →
    (∃ (v : Option Value) (B : Pt), Stand p l e R s m sargs below meth c B.U B.locs B.cells B.slots ∧ Post A a v B ∧
      Steps p.tables e below (doInvoke e (A.U.setTop g) [] mk a).1 (B.U.setTop { g with pc := g.pc + len, stack := v.toList ++ g.stack })) ∨
    (∃ (q : Addr) (B : Pt), Stand p l e R s m sargs below meth c B.U B.locs B.cells B.slots ∧ PostX A a q B ∧
      Steps p.tables e below (doInvoke e (A.U.setTop g) [] mk a).1 ((B.U.setTop g).pushFrame (.throwing q)))
section JCA
variable {p : Program} {l : Launch} {e : Env} {R : Room} {s : State} {m : MethodId} {args : Array Value} {below : List Frame} {meth : Method} {c : Code} {T : State} {locs : List Loc} {cells slots : Nat}
theorem vx_callV (X : Stand p l e R s m args below meth c T locs cells slots) (hexec : p.tables.exec = Jvm.exec) {own C : String} {index : Nat} {y : MethodName} {bytes : ByteArray} {maxL : Nat} {ret : Option FieldType}
    (hown : s.vm.findClass own = some m.cls) (hlink : (Cond.methodLink own index y).before args s = true) (hinst : (Cond.instanceMethod y).before args s = true) (hsel : (Cond.selects C y y).before args s = true)
    (hcode : (Cond.code y bytes maxL ret).before args s = true) (hy : y.cls ≠ "java/lang/invoke/MethodHandle" ∧ y.cls ≠ "java/lang/invoke/VarHandle")
    {W9 : Nat} {Pre : Pt → Array Value → Prop} {Post : Pt → Array Value → Option Value → Pt → Prop} {PostX : Pt → Array Value → Addr → Pt → Prop} (hK : vx_Back l R p e below s args y 3 W9 Pre Post PostX)
    {b : Addr} {cellB : Cell} (hcell : T.heap[b]? = some cellB) (hobj : cellB.vm.isStatics = false) (hcls : s.vm.findClass C = some cellB.cls)
    {g : JFrame} (hg : g.method = m) (hsize : g.locals.size = c.maxLocals) {argsL rest : List Value} (hlen : ∀ sig, parseMethodDescriptor y.desc = some sig → argsL.length = sig.parameters.length)
    (hstack : g.stack = argsL.reverse ++ .ref b :: rest) (hW : 2 * g.monitorRoom + (rest.map fun v => v.category).sum ≤ W9) (hdg : decode c.code g.pc = .ok (.invokevirtual index, 3))
    (hpre : ∀ vm₁, s.WarmedH vm₁ → Pre ⟨T.setVm vm₁, locs, cells, slots⟩ (Value.ref b :: argsL).toArray) :
    (∃ (v : Option Value) (vm₁ : Vm) (B : Pt), s.WarmedH vm₁ ∧ Stand p l e R s m args below meth c B.U B.locs B.cells B.slots ∧ Post ⟨T.setVm vm₁, locs, cells, slots⟩ (Value.ref b :: argsL).toArray v B ∧
      ∀ target, Steps p.tables e below (B.U.setTop { g with pc := g.pc + 3, stack := v.toList ++ rest }) target → Steps p.tables e below (T.setTop g) target) ∨
    (∃ (q : Addr) (vm₁ : Vm) (B : Pt), s.WarmedH vm₁ ∧ Stand p l e R s m args below meth c B.U B.locs B.cells B.slots ∧ PostX ⟨T.setVm vm₁, locs, cells, slots⟩ (Value.ref b :: argsL).toArray q B ∧
      Steps p.tables e below (T.setTop g) ((B.U.setTop { g with stack := rest }).pushFrame (.throwing q))) := by
  obtain ⟨mk, methM, hnamed, hmethM, hstM, habM⟩ := Cond.instanceMethod_spec hinst
  obtain ⟨methM', cM, hmethM', -, -, -, -, -, -, hsigM⟩ := Cond.code_spec hnamed hcode
  cases hmethM.symm.trans hmethM'
  obtain ⟨c2, r2, m2, q1, q2, q3, q4, kP, hkP, hkPi⟩ := Cond.selects_spec hsel
  cases hcls.symm.trans q1
  cases (State.methodFound?_of_named hnamed hy).symm.trans q2
  cases hnamed.symm.trans q3
  have hselP : selectMethod e.platform s.vm cellB.cls mk = .method mk := by rw [Launch.admits_selectMethod X.admits]; exact q4
  obtain ⟨vm₁, X₁, hstep₁⟩ := X.invokevirtual hexec hown hlink hnamed hmethM hstM hkP hkPi hy (a := b) (cell := cellB) hcell
    (fun z h => by rw [h] at hobj; cases hobj) hselP hmethM habM hkP hkPi (g := g) hg (argsL := argsL) (rest := rest) (hlen _ hsigM) hstack hdg
  rcases hK m meth c ⟨T.setVm vm₁, locs, cells, slots⟩ { g with stack := rest } (.invokevirtual index) mk (Value.ref b :: argsL).toArray X₁ hg hsize hdg hW (X₁.named hnamed) (hpre vm₁ X₁.warmed) with ⟨v, B, X', hpost, hsteps⟩ | ⟨q, B, X', hpost, hsteps⟩
  · exact Or.inl ⟨v, vm₁, B, X₁.warmed, X', hpost, fun target h => hstep₁ _ fun acts => by rw [doInvoke_state]; exact hsteps.trans h⟩
  · exact Or.inr ⟨q, vm₁, B, X₁.warmed, X', hpost, hstep₁ _ fun acts => by rw [doInvoke_state]; exact hsteps⟩
theorem vx_callS (X : Stand p l e R s m args below meth c T locs cells slots) (hexec : p.tables.exec = Jvm.exec) {own : String} {index : Nat} {y : MethodName} {bytes : ByteArray} {maxL : Nat} {ret : Option FieldType}
    (hown : s.vm.findClass own = some m.cls) (hlink : (Cond.methodLink own index y).before args s = true) (hstat : (Cond.static y).before args s = true) (hinit : (Cond.initialized y.cls).before args s = true)
    (hcode : (Cond.code y bytes maxL ret).before args s = true) (hy : y.cls ≠ "java/lang/invoke/MethodHandle" ∧ y.cls ≠ "java/lang/invoke/VarHandle")
    {W9 : Nat} {Pre : Pt → Array Value → Prop} {Post : Pt → Array Value → Option Value → Pt → Prop} {PostX : Pt → Array Value → Addr → Pt → Prop} (hK : vx_Back l R p e below s args y 3 W9 Pre Post PostX)
    {g : JFrame} (hg : g.method = m) (hsize : g.locals.size = c.maxLocals) {argsL rest : List Value} (hlen : ∀ sig, parseMethodDescriptor y.desc = some sig → argsL.length = sig.parameters.length)
    (hstack : g.stack = argsL.reverse ++ rest) (hW : 2 * g.monitorRoom + (rest.map fun v => v.category).sum ≤ W9) (hdg : decode c.code g.pc = .ok (.invokestatic index, 3))
    (hpre : ∀ vm₁, s.WarmedH vm₁ → Pre ⟨T.setVm vm₁, locs, cells, slots⟩ argsL.toArray) :
    (∃ (v : Option Value) (vm₁ : Vm) (B : Pt), s.WarmedH vm₁ ∧ Stand p l e R s m args below meth c B.U B.locs B.cells B.slots ∧ Post ⟨T.setVm vm₁, locs, cells, slots⟩ argsL.toArray v B ∧
      ∀ target, Steps p.tables e below (B.U.setTop { g with pc := g.pc + 3, stack := v.toList ++ rest }) target → Steps p.tables e below (T.setTop g) target) ∨
    (∃ (q : Addr) (vm₁ : Vm) (B : Pt), s.WarmedH vm₁ ∧ Stand p l e R s m args below meth c B.U B.locs B.cells B.slots ∧ PostX ⟨T.setVm vm₁, locs, cells, slots⟩ argsL.toArray q B ∧
      Steps p.tables e below (T.setTop g) ((B.U.setTop { g with stack := rest }).pushFrame (.throwing q))) := by
  obtain ⟨mk, hnamed⟩ := Cond.code_named hcode
  obtain ⟨methM, cM, hmethM, -, -, -, -, -, -, hsigM⟩ := Cond.code_spec hnamed hcode
  have hstatic : methM.isStatic = true := Cond.static_spec hnamed hmethM hstat
  obtain ⟨kP, hkP, -⟩ := className_of_methodNamed hnamed
  have hinitP : kP.init = .initialized := Cond.initialized_spec (findClass_of_methodNamed hnamed) hkP hinit
  obtain ⟨vm₁, X₁, hstep₁⟩ := X.invokestatic hexec hown hlink hnamed hmethM hstatic hkP hinitP hy (g := g) hg (argsL := argsL) (rest := rest) (hlen _ hsigM) hstack hdg
  rcases hK m meth c ⟨T.setVm vm₁, locs, cells, slots⟩ { g with stack := rest } (.invokestatic index) mk argsL.toArray X₁ hg hsize hdg hW (X₁.named hnamed) (hpre vm₁ X₁.warmed) with ⟨v, B, X', hpost, hsteps⟩ | ⟨q, B, X', hpost, hsteps⟩
  · exact Or.inl ⟨v, vm₁, B, X₁.warmed, X', hpost, fun target h => hstep₁ _ fun acts => by rw [doInvoke_state]; exact hsteps.trans h⟩
  · exact Or.inr ⟨q, vm₁, B, X₁.warmed, X', hpost, hstep₁ _ fun acts => by rw [doInvoke_state]; exact hsteps⟩
theorem vx_callI (X : Stand p l e R s m args below meth c T locs cells slots) (hexec : p.tables.exec = Jvm.exec) {own : String} {index : Nat} {y : MethodName} {bytes : ByteArray} {maxL : Nat}
    (hown : s.vm.findClass own = some m.cls) (hy1 : y.name = "<init>") (hlink : (Cond.methodLink own index y).before args s = true) (hinst : (Cond.instanceMethod y).before args s = true)
    (hcode : (Cond.code y bytes maxL none).before args s = true) (hy : y.cls ≠ "java/lang/invoke/MethodHandle" ∧ y.cls ≠ "java/lang/invoke/VarHandle")
    {W9 : Nat} {Pre : Pt → Array Value → Prop} {Post : Pt → Array Value → Option Value → Pt → Prop} {PostX : Pt → Array Value → Addr → Pt → Prop} (hK : vx_Back l R p e below s args y 3 W9 Pre Post PostX)
    {g : JFrame} (hg : g.method = m) (hsize : g.locals.size = c.maxLocals) {a : Addr} {argsL rest : List Value} (hlen : ∀ sig, parseMethodDescriptor y.desc = some sig → argsL.length = sig.parameters.length)
    (hstack : g.stack = argsL.reverse ++ .ref a :: rest) (hW : 2 * g.monitorRoom + (rest.map fun v => v.category).sum ≤ W9) (hdg : decode c.code g.pc = .ok (.invokespecial index, 3))
    (hpre : ∀ vm₁, s.WarmedH vm₁ → Pre ⟨T.setVm vm₁, locs, cells, slots⟩ (Value.ref a :: argsL).toArray) :
    (∃ (v : Option Value) (vm₁ : Vm) (B : Pt), s.WarmedH vm₁ ∧ Stand p l e R s m args below meth c B.U B.locs B.cells B.slots ∧ Post ⟨T.setVm vm₁, locs, cells, slots⟩ (Value.ref a :: argsL).toArray v B ∧
      ∀ target, Steps p.tables e below (B.U.setTop { g with pc := g.pc + 3, stack := v.toList ++ rest }) target → Steps p.tables e below (T.setTop g) target) ∨
    (∃ (q : Addr) (vm₁ : Vm) (B : Pt), s.WarmedH vm₁ ∧ Stand p l e R s m args below meth c B.U B.locs B.cells B.slots ∧ PostX ⟨T.setVm vm₁, locs, cells, slots⟩ (Value.ref a :: argsL).toArray q B ∧
      Steps p.tables e below (T.setTop g) ((B.U.setTop { g with stack := rest }).pushFrame (.throwing q))) := by
  subst hg
  have hpl : e.platform.magicAccessors = ({} : Platform).magicAccessors := by rw [X.admits.platform]
  obtain ⟨mk, methM, cM, kP, vm₁, hnamed, hmethM, hcodeM, -, hlocalsM, -, hkP, -, hW₁, hstep₁⟩ := Steps.initColdArgs (e := e) X.here hexec X.warmed hpl hown hy1 hy hlink hinst hcode (f := g) rfl hlen hstack hdg
  have X₁ := X.noted hW₁
  rcases hK g.method meth c ⟨T.setVm vm₁, locs, cells, slots⟩ { g with stack := rest } (.invokespecial index) mk (Value.ref a :: argsL).toArray X₁ rfl hsize hdg hW (X₁.named hnamed) (hpre vm₁ X₁.warmed) with ⟨v, B, X', hpost, hsteps⟩ | ⟨q, B, X', hpost, hsteps⟩
  · exact Or.inl ⟨v, vm₁, B, X₁.warmed, X', hpost, fun target h => hstep₁ _ fun acts => by rw [doInvoke_state]; exact hsteps.trans h⟩
  · exact Or.inr ⟨q, vm₁, B, X₁.warmed, X', hpost, hstep₁ _ fun acts => by rw [doInvoke_state]; exact hsteps⟩
theorem vx_callIN (X : Stand p l e R s m args below meth c T locs cells slots) (hexec : p.tables.exec = Jvm.exec) {own : String} {index : Nat} {host : String} {y : MethodName} {bytes : ByteArray} {maxL : Nat}
    (hown : s.vm.findClass own = some m.cls) (hy1 : y.name = "<init>") (hlink : (Cond.methodLinkNest own index y host).before args s = true) (hinst : (Cond.instanceMethod y).before args s = true)
    (hcode : (Cond.code y bytes maxL none).before args s = true) (hy : y.cls ≠ "java/lang/invoke/MethodHandle" ∧ y.cls ≠ "java/lang/invoke/VarHandle")
    {W9 : Nat} {Pre : Pt → Array Value → Prop} {Post : Pt → Array Value → Option Value → Pt → Prop} {PostX : Pt → Array Value → Addr → Pt → Prop} (hK : vx_Back l R p e below s args y 3 W9 Pre Post PostX)
    {g : JFrame} (hg : g.method = m) (hsize : g.locals.size = c.maxLocals) {a : Addr} {argsL rest : List Value} (hlen : ∀ sig, parseMethodDescriptor y.desc = some sig → argsL.length = sig.parameters.length)
    (hstack : g.stack = argsL.reverse ++ .ref a :: rest) (hW : 2 * g.monitorRoom + (rest.map fun v => v.category).sum ≤ W9) (hdg : decode c.code g.pc = .ok (.invokespecial index, 3))
    (hpre : ∀ vm₁, s.WarmedH vm₁ → Pre ⟨T.setVm vm₁, locs, cells, slots⟩ (Value.ref a :: argsL).toArray) :
    (∃ (v : Option Value) (vm₁ : Vm) (B : Pt), s.WarmedH vm₁ ∧ Stand p l e R s m args below meth c B.U B.locs B.cells B.slots ∧ Post ⟨T.setVm vm₁, locs, cells, slots⟩ (Value.ref a :: argsL).toArray v B ∧
      ∀ target, Steps p.tables e below (B.U.setTop { g with pc := g.pc + 3, stack := v.toList ++ rest }) target → Steps p.tables e below (T.setTop g) target) ∨
    (∃ (q : Addr) (vm₁ : Vm) (B : Pt), s.WarmedH vm₁ ∧ Stand p l e R s m args below meth c B.U B.locs B.cells B.slots ∧ PostX ⟨T.setVm vm₁, locs, cells, slots⟩ (Value.ref a :: argsL).toArray q B ∧
      Steps p.tables e below (T.setTop g) ((B.U.setTop { g with stack := rest }).pushFrame (.throwing q))) := by
  subst hg
  have hpl : e.platform.magicAccessors = ({} : Platform).magicAccessors := by rw [X.admits.platform]
  obtain ⟨mk, methM, cM, kP, vm₁, hnamed, hmethM, hcodeM, -, hlocalsM, -, hkP, -, hW₁, hstep₁⟩ := Steps.initColdArgsNest (e := e) X.here hexec X.warmed hpl hown hy1 hy hlink hinst hcode (f := g) rfl hlen hstack hdg
  have X₁ := X.noted hW₁
  rcases hK g.method meth c ⟨T.setVm vm₁, locs, cells, slots⟩ { g with stack := rest } (.invokespecial index) mk (Value.ref a :: argsL).toArray X₁ rfl hsize hdg hW (X₁.named hnamed) (hpre vm₁ X₁.warmed) with ⟨v, B, X', hpost, hsteps⟩ | ⟨q, B, X', hpost, hsteps⟩
  · exact Or.inl ⟨v, vm₁, B, X₁.warmed, X', hpost, fun target h => hstep₁ _ fun acts => by rw [doInvoke_state]; exact hsteps.trans h⟩
  · exact Or.inr ⟨q, vm₁, B, X₁.warmed, X', hpost, hstep₁ _ fun acts => by rw [doInvoke_state]; exact hsteps⟩
theorem vx_callSN (X : Stand p l e R s m args below meth c T locs cells slots) (hexec : p.tables.exec = Jvm.exec) {own : String} {index : Nat} {host : String} {y : MethodName} {bytes : ByteArray} {maxL : Nat} {ret : Option FieldType}
    (hown : s.vm.findClass own = some m.cls) (hlink : (Cond.methodLinkNest own index y host).before args s = true) (hstat : (Cond.static y).before args s = true) (hinit : (Cond.initialized y.cls).before args s = true)
    (hcode : (Cond.code y bytes maxL ret).before args s = true) (hy : y.cls ≠ "java/lang/invoke/MethodHandle" ∧ y.cls ≠ "java/lang/invoke/VarHandle")
    {W : Nat} {Pre : Pt → Array Value → Prop} {Post : Pt → Array Value → Option Value → Pt → Prop} {PostX : Pt → Array Value → Addr → Pt → Prop} (hK : vx_Back l R p e below s args y 3 W Pre Post PostX)
    {g : JFrame} (hg : g.method = m) (hsize : g.locals.size = c.maxLocals) {argsL rest : List Value} (hlen : ∀ sig, parseMethodDescriptor y.desc = some sig → argsL.length = sig.parameters.length)
    (hstack : g.stack = argsL.reverse ++ rest) (hW : 2 * g.monitorRoom + (rest.map fun v => v.category).sum ≤ W) (hdg : decode c.code g.pc = .ok (.invokestatic index, 3))
    (hpre : ∀ vm₁, s.WarmedH vm₁ → Pre ⟨T.setVm vm₁, locs, cells, slots⟩ argsL.toArray) :
    (∃ (v : Option Value) (vm₁ : Vm) (B : Pt), s.WarmedH vm₁ ∧ Stand p l e R s m args below meth c B.U B.locs B.cells B.slots ∧ Post ⟨T.setVm vm₁, locs, cells, slots⟩ argsL.toArray v B ∧
      ∀ target, Steps p.tables e below (B.U.setTop { g with pc := g.pc + 3, stack := v.toList ++ rest }) target → Steps p.tables e below (T.setTop g) target) ∨
    (∃ (q : Addr) (vm₁ : Vm) (B : Pt), s.WarmedH vm₁ ∧ Stand p l e R s m args below meth c B.U B.locs B.cells B.slots ∧ PostX ⟨T.setVm vm₁, locs, cells, slots⟩ argsL.toArray q B ∧
      Steps p.tables e below (T.setTop g) ((B.U.setTop { g with stack := rest }).pushFrame (.throwing q))) := by
  obtain ⟨mk, hnamed⟩ := Cond.code_named hcode
  obtain ⟨methM, cM, hmethM, -, -, -, -, -, -, hsigM⟩ := Cond.code_spec hnamed hcode
  have hstatic : methM.isStatic = true := Cond.static_spec hnamed hmethM hstat
  obtain ⟨kP, hkP, -⟩ := className_of_methodNamed hnamed
  have hinitP : kP.init = .initialized := Cond.initialized_spec (findClass_of_methodNamed hnamed) hkP hinit
  obtain ⟨vm₁, X₁, hstep₁⟩ := X.invokestaticNest hexec hown hlink hnamed hmethM hstatic hkP hinitP hy (g := g) hg (argsL := argsL) (rest := rest) (hlen _ hsigM) hstack hdg
  rcases hK m meth c ⟨T.setVm vm₁, locs, cells, slots⟩ { g with stack := rest } (.invokestatic index) mk argsL.toArray X₁ hg hsize hdg hW (X₁.named hnamed) (hpre vm₁ X₁.warmed) with ⟨v, B, X', hpost, hsteps⟩ | ⟨q, B, X', hpost, hsteps⟩
  · exact Or.inl ⟨v, vm₁, B, X₁.warmed, X', hpost, fun target h => hstep₁ _ fun acts => by rw [doInvoke_state]; exact hsteps.trans h⟩
  · exact Or.inr ⟨q, vm₁, B, X₁.warmed, X', hpost, hstep₁ _ fun acts => by rw [doInvoke_state]; exact hsteps⟩
theorem vx_callVX (X : Stand p l e R s m args below meth c T locs cells slots) (hexec : p.tables.exec = Jvm.exec) {own C : String} {index : Nat} {y : MethodName} {bytes : ByteArray} {maxL : Nat} {ret : Option FieldType} {hh : List (Nat × Nat × Nat × Nat)}
    (hown : s.vm.findClass own = some m.cls) (hlink : (Cond.methodLink own index y).before args s = true) (hinst : (Cond.instanceMethod y).before args s = true) (hsel : (Cond.selects C y y).before args s = true)
    (hcode : (Cond.codeWith y bytes maxL ret hh).before args s = true) (hy : y.cls ≠ "java/lang/invoke/MethodHandle" ∧ y.cls ≠ "java/lang/invoke/VarHandle")
    {W9 : Nat} {Pre : Pt → Array Value → Prop} {Post : Pt → Array Value → Option Value → Pt → Prop} {PostX : Pt → Array Value → Addr → Pt → Prop} (hK : vx_Back l R p e below s args y 3 W9 Pre Post PostX)
    {b : Addr} {cellB : Cell} (hcell : T.heap[b]? = some cellB) (hobj : cellB.vm.isStatics = false) (hcls : s.vm.findClass C = some cellB.cls)
    {g : JFrame} (hg : g.method = m) (hsize : g.locals.size = c.maxLocals) {argsL rest : List Value} (hlen : ∀ sig, parseMethodDescriptor y.desc = some sig → argsL.length = sig.parameters.length)
    (hstack : g.stack = argsL.reverse ++ .ref b :: rest) (hW : 2 * g.monitorRoom + (rest.map fun v => v.category).sum ≤ W9) (hdg : decode c.code g.pc = .ok (.invokevirtual index, 3))
    (hpre : ∀ vm₁, s.WarmedH vm₁ → Pre ⟨T.setVm vm₁, locs, cells, slots⟩ (Value.ref b :: argsL).toArray) :
    (∃ (v : Option Value) (vm₁ : Vm) (B : Pt), s.WarmedH vm₁ ∧ Stand p l e R s m args below meth c B.U B.locs B.cells B.slots ∧ Post ⟨T.setVm vm₁, locs, cells, slots⟩ (Value.ref b :: argsL).toArray v B ∧
      ∀ target, Steps p.tables e below (B.U.setTop { g with pc := g.pc + 3, stack := v.toList ++ rest }) target → Steps p.tables e below (T.setTop g) target) ∨
    (∃ (q : Addr) (vm₁ : Vm) (B : Pt), s.WarmedH vm₁ ∧ Stand p l e R s m args below meth c B.U B.locs B.cells B.slots ∧ PostX ⟨T.setVm vm₁, locs, cells, slots⟩ (Value.ref b :: argsL).toArray q B ∧
      Steps p.tables e below (T.setTop g) ((B.U.setTop { g with stack := rest }).pushFrame (.throwing q))) := by
  obtain ⟨mk, methM, hnamed, hmethM, hstM, habM⟩ := Cond.instanceMethod_spec hinst
  obtain ⟨m8, methM', cM, hn8, hmethM', -, -, -, -, -, -, hsigM⟩ := Cond.codeWith_spec hcode
  cases Option.some.inj (hn8.symm.trans hnamed)
  cases hmethM.symm.trans hmethM'
  obtain ⟨c2, r2, m2, q1, q2, q3, q4, kP, hkP, hkPi⟩ := Cond.selects_spec hsel
  cases hcls.symm.trans q1
  cases (State.methodFound?_of_named hnamed hy).symm.trans q2
  cases hnamed.symm.trans q3
  have hselP : selectMethod e.platform s.vm cellB.cls mk = .method mk := by rw [Launch.admits_selectMethod X.admits]; exact q4
  obtain ⟨vm₁, X₁, hstep₁⟩ := X.invokevirtual hexec hown hlink hnamed hmethM hstM hkP hkPi hy (a := b) (cell := cellB) hcell
    (fun z h => by rw [h] at hobj; cases hobj) hselP hmethM habM hkP hkPi (g := g) hg (argsL := argsL) (rest := rest) (hlen _ hsigM) hstack hdg
  rcases hK m meth c ⟨T.setVm vm₁, locs, cells, slots⟩ { g with stack := rest } (.invokevirtual index) mk (Value.ref b :: argsL).toArray X₁ hg hsize hdg hW (X₁.named hnamed) (hpre vm₁ X₁.warmed) with ⟨v, B, X', hpost, hsteps⟩ | ⟨q, B, X', hpost, hsteps⟩
  · exact Or.inl ⟨v, vm₁, B, X₁.warmed, X', hpost, fun target h => hstep₁ _ fun acts => by rw [doInvoke_state]; exact hsteps.trans h⟩
  · exact Or.inr ⟨q, vm₁, B, X₁.warmed, X', hpost, hstep₁ _ fun acts => by rw [doInvoke_state]; exact hsteps⟩
end JCA
section JCB
variable {p : Program} {l : Launch} {e : Env} {R : Room} {s : State} {m : MethodId} {args : Array Value} {below : List Frame} {meth : Method} {c : Code}
theorem vx_callVU {T : State} {locs : List Loc} {cells slots : Nat} (X : Stand p l e R s m args below meth c T locs cells slots) (hexec : p.tables.exec = Jvm.exec) {own C owner : String} {index : Nat} {x y : MethodName} {bytes : ByteArray} {maxL : Nat} {ret : Option FieldType}
    (hown : s.vm.findClass own = some m.cls) (hlink : (Cond.methodLink own index x).before args s = true) (hsame : (Cond.sameMethod x.cls owner x.name x.desc).before args s = true)
    (hd0 : va_Decl s ⟨owner, x.name, x.desc⟩) (howner : owner ≠ "java/lang/invoke/MethodHandle" ∧ owner ≠ "java/lang/invoke/VarHandle")
    (hsel : (Cond.selects C x y).before args s = true) (hinst : (Cond.instanceMethod y).before args s = true) (hcode : (Cond.code y bytes maxL ret).before args s = true)
    {W : Nat} {Pre : Pt → Array Value → Prop} {Post : Pt → Array Value → Option Value → Pt → Prop} {PostX : Pt → Array Value → Addr → Pt → Prop} (hK : vx_Back l R p e below s args y 3 W Pre Post PostX)
    {b : Addr} {cellB : Cell} (hcell : T.heap[b]? = some cellB) (hobj : cellB.vm.isStatics = false) (hcls : s.vm.findClass C = some cellB.cls)
    {g : JFrame} (hg : g.method = m) (hsize : g.locals.size = c.maxLocals) {argsL rest : List Value} (hlen : ∀ sig, parseMethodDescriptor x.desc = some sig → argsL.length = sig.parameters.length)
    (hstack : g.stack = argsL.reverse ++ .ref b :: rest) (hW : 2 * g.monitorRoom + (rest.map fun v => v.category).sum ≤ W) (hdg : decode c.code g.pc = .ok (.invokevirtual index, 3))
    (hpre : ∀ vm₁, s.WarmedH vm₁ → Pre ⟨T.setVm vm₁, locs, cells, slots⟩ (Value.ref b :: argsL).toArray) :
    (∃ (v : Option Value) (vm₁ : Vm) (B : Pt), s.WarmedH vm₁ ∧ Stand p l e R s m args below meth c B.U B.locs B.cells B.slots ∧ Post ⟨T.setVm vm₁, locs, cells, slots⟩ (Value.ref b :: argsL).toArray v B ∧
      ∀ target, Steps p.tables e below (B.U.setTop { g with pc := g.pc + 3, stack := v.toList ++ rest }) target → Steps p.tables e below (T.setTop g) target) ∨
    (∃ (q : Addr) (vm₁ : Vm) (B : Pt), s.WarmedH vm₁ ∧ Stand p l e R s m args below meth c B.U B.locs B.cells B.slots ∧ PostX ⟨T.setVm vm₁, locs, cells, slots⟩ (Value.ref b :: argsL).toArray q B ∧
      Steps p.tables e below (T.setTop g) ((B.U.setTop { g with stack := rest }).pushFrame (.throwing q))) := by
  obtain ⟨r0, r, hn, hrm, hstR, hsigR⟩ := hd0
  obtain ⟨cn, ck, r1, hcn, hck, hni, hf, hn1⟩ := Cond.sameMethod_found hsame
  cases hn.symm.trans hn1
  obtain ⟨mk, methM, hnamed, hmethM, -, habM⟩ := Cond.instanceMethod_spec hinst
  obtain ⟨c2, r2, m2, q1, q2, q3, q4, kP, hkP, hkPi⟩ := Cond.selects_spec hsel
  cases hcls.symm.trans q1
  cases hf.symm.trans q2
  cases hnamed.symm.trans q3
  have hselP : selectMethod e.platform s.vm cellB.cls r0 = .method mk := by rw [Launch.admits_selectMethod X.admits]; exact q4
  obtain ⟨vm₁, X₁, hstep₁⟩ := X.invokevirtualUp hexec hown hlink hsame howner hn hrm hstR (a := b) (cell := cellB) hcell
    (fun z h => by rw [h] at hobj; cases hobj) hselP hmethM habM hkP hkPi (g := g) hg (argsL := argsL) (rest := rest) (hlen _ hsigR) hstack hdg
  rcases hK m meth c ⟨T.setVm vm₁, locs, cells, slots⟩ { g with stack := rest } (.invokevirtual index) mk (Value.ref b :: argsL).toArray X₁ hg hsize hdg hW (X₁.named hnamed) (hpre vm₁ X₁.warmed) with ⟨v, B, X', hpost, hsteps⟩ | ⟨q, B, X', hpost, hsteps⟩
  · exact Or.inl ⟨v, vm₁, B, X₁.warmed, X', hpost, fun target h => hstep₁ _ fun acts => by rw [doInvoke_state]; exact hsteps.trans h⟩
  · exact Or.inr ⟨q, vm₁, B, X₁.warmed, X', hpost, hstep₁ _ fun acts => by rw [doInvoke_state]; exact hsteps⟩
theorem vx_callSU {T : State} {locs : List Loc} {cells slots : Nat} (X : Stand p l e R s m args below meth c T locs cells slots) (hexec : p.tables.exec = Jvm.exec) {own : String} {index : Nat} {y : MethodName} {bytes : ByteArray} {maxL : Nat} {ret : Option FieldType}
    (hown : s.vm.findClass own = some m.cls) (hlink : (Cond.methodLink own index y).before args s = true) (hsame : (Cond.sameMethod y.cls y.cls y.name y.desc).before args s = true) (hsup : (Cond.superclass own y.cls).before args s = true)
    (hinst : (Cond.instanceMethod y).before args s = true) (hcode : (Cond.code y bytes maxL ret).before args s = true) (hno : y.name ≠ "<init>")
    {W : Nat} {Pre : Pt → Array Value → Prop} {Post : Pt → Array Value → Option Value → Pt → Prop} {PostX : Pt → Array Value → Addr → Pt → Prop} (hK : vx_Back l R p e below s args y 3 W Pre Post PostX)
    {b : Addr} {cellB : Cell} {kB : Class} (hcell : T.heap[b]? = some cellB) (hobj : cellB.vm.isStatics = false) (hkB : s.vm.classes[cellB.cls]? = some kB)
    {g : JFrame} (hg : g.method = m) (hsize : g.locals.size = c.maxLocals) {argsL rest : List Value} (hlen : ∀ sig, parseMethodDescriptor y.desc = some sig → argsL.length = sig.parameters.length)
    (hstack : g.stack = argsL.reverse ++ .ref b :: rest) (hW : 2 * g.monitorRoom + (rest.map fun v => v.category).sum ≤ W) (hdg : decode c.code g.pc = .ok (.invokespecial index, 3))
    (hpre : ∀ vm₁, s.WarmedH vm₁ → Pre ⟨T.setVm vm₁, locs, cells, slots⟩ (Value.ref b :: argsL).toArray) :
    (∃ (v : Option Value) (vm₁ : Vm) (B : Pt), s.WarmedH vm₁ ∧ Stand p l e R s m args below meth c B.U B.locs B.cells B.slots ∧ Post ⟨T.setVm vm₁, locs, cells, slots⟩ (Value.ref b :: argsL).toArray v B ∧
      ∀ target, Steps p.tables e below (B.U.setTop { g with pc := g.pc + 3, stack := v.toList ++ rest }) target → Steps p.tables e below (T.setTop g) target) ∨
    (∃ (q : Addr) (vm₁ : Vm) (B : Pt), s.WarmedH vm₁ ∧ Stand p l e R s m args below meth c B.U B.locs B.cells B.slots ∧ PostX ⟨T.setVm vm₁, locs, cells, slots⟩ (Value.ref b :: argsL).toArray q B ∧
      Steps p.tables e below (T.setTop g) ((B.U.setTop { g with stack := rest }).pushFrame (.throwing q))) := by
  obtain ⟨mk, methM, hnamed, hmethM, hstM, habM⟩ := Cond.instanceMethod_spec hinst
  obtain ⟨methM', cM, hmethM', -, -, -, -, -, -, hsigM⟩ := Cond.code_spec hnamed hcode
  cases hmethM.symm.trans hmethM'
  obtain ⟨ps, dk, kp, hps, hdk, hkp, hsuper, -, -, hnid⟩ := Cond.superclass_spec hown hsup
  have hn : s.methodNamed? ⟨y.cls, y.name, y.desc⟩ = some mk := hnamed
  have hpm : ps = mk.cls := Option.some.inj (hps.symm.trans (findClass_of_methodNamed hnamed))
  have hsub : s.vm.isSubclass ps mk.cls = true := by rw [hpm]; simp [Vm.isSubclass, Vm.isSubclassAux]
  obtain ⟨vm₁, X₁, hstep₁⟩ := X.invokespecialUp hexec hown hlink hsame hn hmethM hstM habM hno hdk hnid hps hsuper hsub (a := b) (cell := cellB) hcell
    (fun z h => by rw [h] at hobj; cases hobj) hkB (g := g) hg (argsL := argsL) (rest := rest) (hlen _ hsigM) hstack hdg
  rcases hK m meth c ⟨T.setVm vm₁, locs, cells, slots⟩ { g with stack := rest } (.invokespecial index) mk (Value.ref b :: argsL).toArray X₁ hg hsize hdg hW (X₁.named hnamed) (hpre vm₁ X₁.warmed) with ⟨v, B, X', hpost, hsteps⟩ | ⟨q, B, X', hpost, hsteps⟩
  · exact Or.inl ⟨v, vm₁, B, X₁.warmed, X', hpost, fun target h => hstep₁ _ (by rw [doInvoke_state]; exact hsteps.trans h)⟩
  · exact Or.inr ⟨q, vm₁, B, X₁.warmed, X', hpost, hstep₁ _ (by rw [doInvoke_state]; exact hsteps)⟩
end JCB
section JE
variable {Γ : jG} {own : String} {cc : ByteArray} {L : Nat} {ret : Option FieldType} {nm : String} {hh : List (Nat × Nat × Nat × Nat)} {dd kc ks kc' ks' pc : Nat} {ls : List (Nat × Value)} {st : List Value} {σ : pS} {Q Q' : jO → pS → Prop}
/-! ends -/
theorem j_fin {p : Program} {e : Env} {R : Room} {s : State} {m : MethodId} {args : Array Value} {below : List Frame} {meth : Method} {c : Code} {H : Heap} {locs : List Loc} {cells slots mc ms : Nat} {g : JFrame} (h1 : cells ≤ mc) (h2 : slots ≤ ms) (k : W p (gl Γ) e R s m args below meth c H locs mc ms (MQ below (fun _ _ o t => jQo Γ Q o t) args s mc ms (fun q => (gH Γ).size ≤ q)) g) : W p (gl Γ) e R s m args below meth c H locs cells slots (jMQ Γ Q mc ms below s) g := by
  refine W.widen h1 h2 ?_
  intro T hT X
  obtain ⟨t, a, o, b1, b2, b3, L9, ⟨hv, hW, hsm⟩, hL⟩ := k T hT X
  exact ⟨t, a, o, b1, b2, b3, hW, L9, hsm, hL⟩
theorem j_iret {x : Int32} (hr : ret = some .int) (hq : Q (.inl (some (.int x))) σ) (d : decode cc pc = .ok (.ireturn, 1)) : J Γ own cc L ret nm hh dd kc ks pc ls [.int x] σ Q := by
  intro p e R s m args below meth c H locs cells slots mc ms lsA hS hD hl
  obtain ⟨hx, hb, hr0, hlk, -⟩ := hS
  exact j_fin (by have := hD.2.2.1; omega) (by have := hD.2.2.2.1; omega) (W.iret (v := x) hx hb (hr0.trans hr) (fun t ht hW => Or.inl ⟨some (.int x), σ, rfl, hq, by rw [ht]; exact hD.1⟩) hD.2.1 d hlk)
theorem j_zret {x : Int32} {ty : FieldType} (hr : ret = some ty) (hn : narrow ty (.int x) = .int x) (hq : Q (.inl (some (.int x))) σ) (d : decode cc pc = .ok (.ireturn, 1)) : J Γ own cc L ret nm hh dd kc ks pc ls [.int x] σ Q := by
  intro p e R s m args below meth c H locs cells slots mc ms lsA hS hD hl
  obtain ⟨hx, hb, hr0, hlk, -⟩ := hS
  exact j_fin (by have := hD.2.2.1; omega) (by have := hD.2.2.2.1; omega) (W.zret (v := x) hx hb (hr0.trans hr) hn (fun t ht hW => Or.inl ⟨some (.int x), σ, rfl, hq, by rw [ht]; exact hD.1⟩) hD.2.1 d hlk)
theorem j_lret {x : Int64} (hr : ret = some .long) (hq : Q (.inl (some (.long x))) σ) (d : decode cc pc = .ok (.lreturn, 1)) : J Γ own cc L ret nm hh dd kc ks pc ls [.long x] σ Q := by
  intro p e R s m args below meth c H locs cells slots mc ms lsA hS hD hl
  obtain ⟨hx, hb, hr0, hlk, -⟩ := hS
  exact j_fin (by have := hD.2.2.1; omega) (by have := hD.2.2.2.1; omega) (W.lret (v := x) hx hb (hr0.trans hr) (fun t ht hW => Or.inl ⟨some (.long x), σ, rfl, hq, by rw [ht]; exact hD.1⟩) hD.2.1 d hlk)
theorem j_vret (hr : ret = none) (hq : Q (.inl none) σ) (d : decode cc pc = .ok (.return_, 1)) : J Γ own cc L ret nm hh dd kc ks pc ls [] σ Q := by
  intro p e R s m args below meth c H locs cells slots mc ms lsA hS hD hl
  obtain ⟨hx, hb, hr0, hlk, -⟩ := hS
  exact j_fin (by have := hD.2.2.1; omega) (by have := hD.2.2.2.1; omega) (W.vret hx hb (hr0.trans hr) (fun t ht hW => Or.inl ⟨none, σ, rfl, hq, by rw [ht]; exact hD.1⟩) hD.2.1 d hlk)
theorem j_aret {v : Value} {rt : FieldType} (hr : ret = some rt) (hrt : (∃ n, rt = .object n) ∨ ∃ t, rt = .array t) (hv : v = .null ∨ ∃ b, v = .ref b) (hq : Q (.inl (some v)) σ) (d : decode cc pc = .ok (.areturn, 1)) : J Γ own cc L ret nm hh dd kc ks pc ls [v] σ Q := by
  intro p e R s m args below meth c H locs cells slots mc ms lsA hS hD hl
  have hrf : pv Γ v = .null ∨ ∃ a, pv Γ v = .ref a := by
    rcases hv with rfl | ⟨b, rfl⟩
    · exact Or.inl rfl
    · exact j_rf hS b
  obtain ⟨hx, hb, hr0, hlk, -⟩ := hS
  exact j_fin (by have := hD.2.2.1; omega) (by have := hD.2.2.2.1; omega) (W.aret (v := pv Γ v) hx hb (hr0.trans hr) hrt hrf (fun t ht hW => Or.inl ⟨some v, σ, rfl, hq, by rw [ht]; exact hD.1⟩) hD.2.1 d hlk)
/-! a cell thrown leaves the method -/
theorem j_leave {p : Program} {e : Env} {R : Room} {s : State} {m : MethodId} {args : Array Value} {below : List Frame} {meth : Method} {c : Code} {T : State} {locs : List Loc} {cells slots mc ms : Nat} {lsA : Array Slot} {rs : List Value} {k : Nat} (hS : jSt Γ own cc L ret nm [] dd p R s m args meth c mc ms) (hD : jDy Γ kc ks σ T.heap locs cells slots mc ms) (X : Stand p (gl Γ) e R s m args below meth c T locs cells slots) (hk : k < σ.1) (hK : σ.2.1 k = .inl 1) (hq : Q (.inr k) σ) :
    ∃ t, Steps p.tables e below ((T.setTop (F0 m pc lsA rs)).pushFrame (.throwing ((gH Γ).size + k))) t ∧ jMQ Γ Q mc ms below s t := by
  obtain ⟨-, -, -, hlk, -, -, -, -, htab, -⟩ := hS
  obtain ⟨st1, hrun, hend, hW, hsm⟩ := X.leaveThrown ((gH Γ).size + k) (g := F0 m pc lsA rs) rfl rfl rfl (by rw [htab]; intro x hx; cases hx) hlk
  exact ⟨_, st1, .threw ((gH Γ).size + k), hrun, hend, Or.inr ⟨k, σ, rfl, hq, hD.1, hk, hK⟩, hW, locs, hsm.mono (by have := hD.2.2.1; omega) (by have := hD.2.2.2.1; omega), hD.2.1⟩
theorem j_athrow {k : Nat} (hk : k < σ.1) (hK : σ.2.1 k = .inl 1) (hq : Q (.inr k) σ) (d : decode cc pc = .ok (.athrow, 1)) : J Γ own cc L ret nm [] dd kc ks pc ls (.ref k :: st) σ Q := by
  intro p e R s m args below meth c H locs cells slots mc ms lsA hS hD hl
  intro T hT X
  subst hT
  rw [List.map_cons, pv_lt (by have := hD.2.2.2.2; omega)]
  obtain ⟨t, h1, h2⟩ := j_leave (pc := pc) (lsA := lsA) (rs := st.map (pv Γ)) (Q := Q) hS hD X hk hK hq
  refine ⟨t, ?_, h2⟩
  have d' : decode c.code pc = .ok (.athrow, 1) := by rw [hS.2.1]; exact d
  jvm_step X.here [X.here.top, hS.1, d', athrow.wp_sem]
  exact h1
/-! a method's contract out of the judgement at its start -/
theorem j_args (hcat : ∀ v, (pv Γ v).category = v.category) : ∀ (vs : List Value) (i : Nat), lv_args i (vs.map (pv Γ)) = (lv_args i vs).map (jlv Γ)
  | [], _ => rfl
  | v :: vs, i => by
    show (i, pv Γ v) :: lv_args (if (pv Γ v).category = 2 then i + 2 else i + 1) (vs.map (pv Γ)) = jlv Γ (i, v) :: (lv_args (if v.category = 2 then i + 2 else i + 1) vs).map (jlv Γ)
    rw [hcat, j_args hcat vs]
    rfl
theorem j_sll (hcat : ∀ v, (pv Γ v).category = v.category) : ∀ vs : List Value, (lg_sl (vs.map (pv Γ))).length = (lg_sl vs).length
  | [] => rfl
  | v :: vs => by
    have e : ∀ (w : Value) (ws : List Value), (lg_sl (w :: ws)).length = (if w.category = 2 then 2 else 1) + (lg_sl ws).length := by
      intro w ws
      unfold lg_sl
      rw [List.flatMap_cons, List.length_append]
      split <;> rfl
    rw [List.map_cons, e, e, hcat, j_sll hcat vs]
theorem jMet_of {y : MethodName} {vs : List Value} (hy : plainName y.cls = true) (hown : y.cls = own) (hnm : y.name = nm) (hlen : (lg_sl vs).length ≤ L) (k : J Γ own cc L ret nm [] dd kc ks 0 (lv_args 0 vs) [] σ Q) : jMet Γ y cc L ret [] dd kc ks vs σ Q := by
  show jMetW Γ y (if ([] : List (Nat × Nat × Nat × Nat)) = [] then ws_ y cc L ret else wsW_ y cc L ret []) dd kc ks vs σ Q
  rw [if_pos rfl]
  refine MetFree.of_bodyS (code := cc) (maxLocals := L) (ret := ret) hy ?_ ?_
  · intro args s m h hn
    obtain ⟨meth, c, h1, h2, h3, h4, h5, h6, -, -⟩ := Cond.code_spec hn (atoms_spec (ws := ws_ y cc L ret) h _ List.mem_cons_self)
    exact ⟨meth, c, h1, h2, h3, h4, h5, h6⟩
  · intro p e s m args below meth c s₁ B hml hP _
    have hh0 : s₁.heap = s.heap := by rw [B.state]; rfl
    have ht : c.exceptionTable.toList = tableOf [] := by
      obtain ⟨meth9, c9, h1, h2, -, -, -, -, h7, -⟩ := Cond.code_spec B.named (atoms_spec (ws := ws_ y cc L ret) B.pre _ List.mem_cons_self)
      cases Option.some.inj (h1.symm.trans B.method)
      cases Option.some.inj (h2.symm.trans (Stand.of_body B).code)
      rw [Array.isEmpty_iff.mp h7]
      rfl
    obtain ⟨rfl, hHR, hKK, hn⟩ := hP
    have hts := atoms_spec (ws := ws_ y cc L ret) B.pre
    have hS : jSt Γ own cc L ret nm [] dd p (headSpec (ws_ y cc L ret) (jRm dd kc ks)).room s m (vs.map (pv Γ)).toArray meth c kc ks := by
      refine ⟨B.exec, B.bytes, B.returns, B.notSynchronized, hml, ?_, ?_, fun w h => hts w (List.mem_cons_of_mem _ h), ht, hKK, by rw [hHR.1]; exact Nat.le_add_right _ _, Nat.le_refl _, Nat.le_refl _, Nat.le_refl _, Nat.le_refl _⟩
      · rw [← hnm]; exact (name_of_methodNamed B.named B.method).1
      · rw [← hown]; exact findClass_of_methodNamed B.named
    have hcat := j_cat hS
    have hl := lv_entry (vs.map (pv Γ)) (n := L) (by rw [j_sll hcat]; exact hlen)
    rw [j_args hcat] at hl
    obtain ⟨t, a1, o, b1, b2, b3⟩ := k p e _ s m _ below meth c s.heap [] 0 0 kc ks _ hS ⟨hHR, (fun z hz => nomatch hz), by omega, by omega, hn⟩ hl s₁ hh0 (Stand.of_body B)
    refine ⟨t, o, ?_, b1, b2, b3⟩
    rw [lg_entry_eq]
    exact a1
/-! calls -/
def jPost (Γ : jG) (Q : jO → pS → Prop) (nb mc ms : Nat) : Pt → Array Value → Option Value → Pt → Prop := fun A _ v B =>
  ∃ (w : Option Value) (σ : pS) (L : List Loc), v = w.map (pv Γ) ∧ Q (.inl w) σ ∧ jHR Γ σ B.U.heap ∧ σ.1 ≤ nb ∧ B.locs = A.locs ++ L ∧ (∀ z ∈ L, (gH Γ).size ≤ z.base) ∧ B.cells = A.cells + mc ∧ B.slots = A.slots + ms
def jPostX (Γ : jG) (Q : jO → pS → Prop) (nb mc ms : Nat) : Pt → Array Value → Addr → Pt → Prop := fun A _ q B =>
  ∃ (k : Nat) (σ : pS) (L : List Loc), q = (gH Γ).size + k ∧ Q (.inr k) σ ∧ jHR Γ σ B.U.heap ∧ σ.1 ≤ nb ∧ k < σ.1 ∧ σ.2.1 k = .inl 1 ∧ B.locs = A.locs ++ L ∧ (∀ z ∈ L, (gH Γ).size ≤ z.base) ∧ B.cells = A.cells + mc ∧ B.slots = A.slots + ms
theorem j_back {y : MethodName} {ws : List Cond} {vs : List Value} {R : Room} {p : Program} {e : Env} {below : List Frame} {s : State} {sargs : Array Value} {len W9 maxL : Nat}
    (hM : jMetW Γ y ws dd kc ks vs σ Q) (hframes : dd + 1 ≤ R.frames) (hlocals : W9 + (maxL + 11) + 64 * dd ≤ R.locals)
    (hws : ∀ w ∈ ws, ∀ a' U, s.WarmedH U.vm → w.before a' U = true) (hcode : ∀ (U : State) (mk : MethodId), s.WarmedH U.vm → U.methodNamed? y = some mk → ∃ (meth : Method) (c : Code), U.vm.method? mk = some meth ∧ meth.code = some c ∧ c.maxLocals = maxL) (hinit : ∀ a' U, s.WarmedH U.vm → (Cond.initialized y.cls).before a' U = true) :
    vx_Back (gl Γ) R p e below s sargs y len W9 (PreOf R kc ks (jPc Γ kc vs σ)) (jPost Γ Q (σ.1 + kc) kc ks) (jPostX Γ Q (σ.1 + kc) kc ks) := by
  intro m meth c A g ig mk a X hg hsize hdg hW hn hp
  have h1 : (headSpec ws (jRm dd kc ks)).pre.before a A.U = true := atoms_intro fun w hw => hws w hw _ _ X.warmed
  have h3 : (Cond.initialized y.cls).before a A.U = true := hinit _ _ X.warmed
  have h4 : A.cells + (headSpec ws (jRm dd kc ks)).room.cells ≤ R.cells := hp.1
  have h5 : A.slots + (headSpec ws (jRm dd kc ks)).room.slots ≤ R.slots := hp.2.1
  have hPc : jPc Γ kc vs σ a (A.U.calling g mk a) := jPc_blind _ _ _ _ hp.2.2
  have hsz0 : A.U.heap.size = (gH Γ).size + σ.1 := hp.2.2.2.1.1
  obtain ⟨methY, cY, hmY, hcY, hlY⟩ := hcode A.U mk X.warmed hn
  obtain ⟨U, Ls, c0, s0⟩ := A
  dsimp only [Pt.U, Pt.locs, Pt.cells, Pt.slots] at h1 h3 h4 h5 X hn hPc hmY hcY hsz0 ⊢
  obtain ⟨kY, hkY, -⟩ := className_of_methodNamed hn
  have hinitY : kY.init = .initialized := Cond.initialized_spec (findClass_of_methodNamed hn) hkY h3
  have h : At U g.method c below := by rw [hg]; exact X.here
  have hlocals9 : W9 + (maxL + 11) + (headSpec ws (jRm dd kc ks)).room.locals ≤ R.locals := hlocals
  have happ : (headSpec ws (jRm dd kc ks)).appliesLoose y e.platform (U.calling g mk a) = true :=
    Spec.appliesLoose_calling (g := g) h hdg hn hkY hinitY
      (X.room_calling (g := g) (R' := (headSpec ws (jRm dd kc ks)).room) hsize hmY hcY hframes (by rw [hlY]; omega) h4 h5) h1
  obtain ⟨mid, hmid⟩ := h.above
  have hfr : (U.setTop g).frames = (.java g :: mid) ++ below := by rw [State.frames_setTop' g h.top, hmid]; rfl
  obtain ⟨o, s₂, hsteps, -, hend, hq⟩ := Steps.callFree hM p X.admits X.cas X.clock (acts := []) hfr happ hPc trivial
  have hq' : jFin Γ Q kc ks (U.calling g mk a) o s₂ := hq
  rw [State.frames_setTop' g h.top] at hend
  obtain ⟨g₀, hg0⟩ := Option.isSome_iff_exists.mp h.top
  obtain ⟨r, hr⟩ := State.topJava?_eq_some.mp hg0
  have hr' : (({ U with heap := s₂.heap, slotsUsed := s₂.slotsUsed } : State).setVm s₂.vm).frames = .java g₀ :: r := hr
  obtain ⟨hqo, hW₂, Ln, hsm, hL⟩ := hq'
  obtain ⟨e2, q2, q3, q4, q5, q6⟩ := id hsm
  have e3 : s₂ = ({ (U.calling g mk a).setFrames s₂.frames with heap := s₂.heap, slotsUsed := s₂.slotsUsed } : State).setVm s₂.vm := by
    have : s₂ = ({ s₂ with vm := (U.calling g mk a).vm } : State).setVm s₂.vm := rfl
    rw [e2] at this
    exact this
  have hW' : U.WarmedH s₂.vm := hW₂
  have hsame : U.sameButNew ({ U with heap := s₂.heap, slotsUsed := s₂.slotsUsed } : State) Ln kc ks := by
    refine ⟨?_, q2, q3, q4, q5, q6⟩
    obtain ⟨t, ht, -⟩ := State.frames_cons hr
    show ({ U with heap := s₂.heap, slotsUsed := s₂.slotsUsed } : State) = { U.setFrames U.frames with heap := s₂.heap, slotsUsed := s₂.slotsUsed }
    rw [State.setFrames_self ht]
  have q3' : s₂.heap.size ≤ U.heap.size + kc := q3
  rcases hqo with ⟨v, σ1, rfl, hqv, hHR⟩ | ⟨k, σ1, rfl, hqv, hHR, hk1, hk2⟩
  · obtain ⟨c₂, i₂, len₂, hc₂, hd₂, hf₂⟩ := hend
    have hcc : c₂ = c := by
      have h1 : s₂.code? g.method = U.code? g.method := by
        rw [State.code?_eq, State.code?_eq, hW'.alike.method?]
      exact Option.some.inj (hc₂.symm.trans (h1.trans h.code))
    subst hcc
    have hlen : len₂ = len := by rw [hdg] at hd₂; cases hd₂; rfl
    subst hlen
    have hs₂ : s₂ = (({ U with heap := s₂.heap, slotsUsed := s₂.slotsUsed } : State).setVm s₂.vm).setTop { g with pc := g.pc + len₂, stack := (v.map (pv Γ)).toList ++ g.stack } := by
      refine e3.trans ?_
      rw [hf₂, State.calling_eq h.top, State.setFrames_setFrames, State.setTop_of_frames _ hr', hr]
      rfl
    subst hg
    refine Or.inl ⟨v.map (pv Γ), ⟨(({ U with heap := s₂.heap, slotsUsed := s₂.slotsUsed } : State).setVm s₂.vm), Ls ++ Ln, c0 + kc, s0 + ks⟩,
      ⟨X.admits, X.cas, X.clock, X.frames, X.room, X.hears, X.method, X.code, (X.here.setHeapUsed s₂.heap s₂.slotsUsed).setVm hW'.alike, X.tail, State.WarmedH.trans X.warmed hW', X.limits, X.bytes, X.same.trans (hsame.setVm s.vm)⟩,
      ⟨v, σ1, Ln, rfl, hqv, hHR, by have := hHR.1; omega, rfl, hL, rfl, rfl⟩, ?_⟩
    show Steps p.tables e below _ ((({ U with heap := s₂.heap, slotsUsed := s₂.slotsUsed } : State).setVm s₂.vm).setTop { g with pc := g.pc + len₂, stack := (v.map (pv Γ)).toList ++ g.stack })
    rw [← hs₂]
    exact hsteps
  · have hf₂ : s₂.frames = .throwing ((gH Γ).size + k) :: .java g :: U.frames.tail := hend
    have hs₂ : s₂ = ((({ U with heap := s₂.heap, slotsUsed := s₂.slotsUsed } : State).setVm s₂.vm).setTop g).pushFrame (.throwing ((gH Γ).size + k)) := by
      refine e3.trans ?_
      rw [hf₂, State.calling_eq h.top, State.setFrames_setFrames, State.pushFrame, State.frames_setTop _ hr', State.setTop_of_frames _ hr', State.setFrames_setFrames, hr]
      rfl
    subst hg
    refine Or.inr ⟨(gH Γ).size + k, ⟨(({ U with heap := s₂.heap, slotsUsed := s₂.slotsUsed } : State).setVm s₂.vm), Ls ++ Ln, c0 + kc, s0 + ks⟩,
      ⟨X.admits, X.cas, X.clock, X.frames, X.room, X.hears, X.method, X.code, (X.here.setHeapUsed s₂.heap s₂.slotsUsed).setVm hW'.alike, X.tail, State.WarmedH.trans X.warmed hW', X.limits, X.bytes, X.same.trans (hsame.setVm s.vm)⟩,
      ⟨k, σ1, Ln, rfl, hqv, hHR, by have := hHR.1; omega, hk1, hk2, rfl, hL, rfl, rfl⟩, ?_⟩
    show Steps p.tables e below _ (((({ U with heap := s₂.heap, slotsUsed := s₂.slotsUsed } : State).setVm s₂.vm).setTop g).pushFrame (.throwing ((gH Γ).size + k)))
    rw [← hs₂]
    exact hsteps
/-- what a method's words say, once for every method -/
def jY (y : MethodName) (cY : ByteArray) (LY : Nat) (rY : Option FieldType) (nY : Nat) : Prop := Cond.code y cY LY rY ∈ lw_all ∧ Cond.initialized y.cls ∈ lw_all ∧ (y.cls ≠ "java/lang/invoke/MethodHandle" ∧ y.cls ≠ "java/lang/invoke/VarHandle") ∧ (parseMethodDescriptor y.desc).map (fun d => d.parameters.length) = some nY ∧ LY ≤ 45
theorem jY_len {y : MethodName} {cY : ByteArray} {LY nY : Nat} {rY : Option FieldType} (h : jY y cY LY rY nY) {k : Nat} (hk : k = nY) : ∀ sig, parseMethodDescriptor y.desc = some sig → k = sig.parameters.length := by
  intro sig h1
  have h2 := h.2.2.2.1
  rw [h1] at h2
  rw [hk]
  exact (Option.some.inj h2).symm
theorem jY_back {y : MethodName} {cY : ByteArray} {LY nY dY kY sY : Nat} {rY : Option FieldType} {vs : List Value} {p : Program} {e : Env} {R : Room} {s : State} {m : MethodId} {args : Array Value} {below : List Frame} {meth : Method} {c : Code} {mc ms len : Nat} (f : jY y cY LY rY nY) (hM : jMet Γ y cY LY rY [] dY kY sY vs σ Q') (hS : jSt Γ own cc L ret nm hh dd p R s m args meth c mc ms) (hd : dY + 1 ≤ dd) :
    vx_Back (gl Γ) R p e below s args y len 8 (PreOf R kY sY (jPc Γ kY vs σ)) (jPost Γ Q' (σ.1 + kY) kY sY) (jPostX Γ Q' (σ.1 + kY) kY sY) := by
  obtain ⟨-, -, -, -, -, -, -, hts, -, -, -, h1, h2, -⟩ := hS
  obtain ⟨w1, w2, -, -, w5⟩ := f
  have hM' : jMetW Γ y (ws_ y cY LY rY) dY kY sY vs σ Q' := by
    have h9 := hM
    unfold jMet at h9
    rw [if_pos rfl] at h9
    exact h9
  have hws : ∀ w ∈ ws_ y cY LY rY, ∀ (a' : Array Value) (U : State), s.WarmedH U.vm → w.before a' U = true := pay_in hts (lw_meth w1)
  exact j_back (maxL := LY) hM' (by omega) (by omega) hws (fun U mk hW hn => by
    obtain ⟨meth9, c9, a1, a2, -, a4, -, -, -, -⟩ := Cond.code_spec hn (hws _ List.mem_cons_self #[] U hW)
    exact ⟨meth9, c9, a1, a2, a4⟩) (fun a' U hW => word_at hW (Or.inl (by first | rfl | simp [Cond.onTables, Cond.keeps, Cond.steady])) (hts _ w2))
/-- behind a call -/
theorem j_behind {p : Program} {e : Env} {R : Room} {s : State} {m : MethodId} {args : Array Value} {below : List Frame} {meth : Method} {c : Code} {H : Heap} {locs : List Loc} {cells slots mc ms kY sY : Nat} {lsA : Array Slot} {T : State} {g0 : JFrame} {a : Array Value} {vm₁ : Vm} (hS : jSt Γ own cc L ret nm [] dd p R s m args meth c mc ms) (hD : jDy Γ kc ks σ H locs cells slots mc ms) (hl : lv_has lsA L (ls.map (jlv Γ))) (h1 : kc' + kY ≤ kc) (h2 : ks' + sY ≤ ks)
    (hg : { g0 with stack := st.map (pv Γ) } = F0 m pc lsA (st.map (pv Γ)))
    (kn : ∀ (v : Option Value) (u : pS), Q' (.inl v) u → J Γ own cc L ret nm [] dd kc' ks' (pc + 3) ls (v.toList ++ st) u Q) (kx : ∀ (k : Nat) (u : pS), Q' (.inr k) u → Q (.inr k) u)
    (hres : (∃ (v : Option Value) (B : Pt), Stand p (gl Γ) e R s m args below meth c B.U B.locs B.cells B.slots ∧ jPost Γ Q' (σ.1 + kY) kY sY ⟨T.setVm vm₁, locs, cells, slots⟩ a v B ∧ ∀ target, Steps p.tables e below (B.U.setTop { g0 with pc := g0.pc + 3, stack := v.toList ++ st.map (pv Γ) }) target → Steps p.tables e below (T.setTop g0) target) ∨
      (∃ (q : Addr) (B : Pt), Stand p (gl Γ) e R s m args below meth c B.U B.locs B.cells B.slots ∧ jPostX Γ Q' (σ.1 + kY) kY sY ⟨T.setVm vm₁, locs, cells, slots⟩ a q B ∧ Steps p.tables e below (T.setTop g0) ((B.U.setTop { g0 with stack := st.map (pv Γ) }).pushFrame (.throwing q)))) :
    ∃ t, Steps p.tables e below (T.setTop g0) t ∧ jMQ Γ Q mc ms below s t := by
  obtain ⟨hHR, hlo, g1, g2, g3⟩ := hD
  rcases hres with ⟨v, ⟨U', l2, c2, s2⟩, X', ⟨w, u, Ln, e1, hq, hr, hn, e2, hL, e3, e4⟩, stp⟩ | ⟨q, ⟨U', l2, c2, s2⟩, X', ⟨k, u, Ln, e1, hq, hr, hn, hk1, hk2, e2, hL, e3, e4⟩, stp⟩
  · dsimp only [Pt.U, Pt.locs, Pt.cells, Pt.slots] at X' hr e2 e3 e4 stp
    subst e1; subst e2; subst e3; subst e4
    have hlo' : ∀ z ∈ locs ++ Ln, (gH Γ).size ≤ z.base := fun z hz => (List.mem_append.mp hz).elim (hlo z) (hL z)
    obtain ⟨t, a1, b1⟩ := kn w u hq p e R s m args below meth c U'.heap (locs ++ Ln) (cells + kY) (slots + sY) mc ms lsA hS ⟨hr, hlo', by omega, by omega, by omega⟩ hl U' rfl X'
    refine ⟨t, stp t ?_, b1⟩
    have e5 : ({ g0 with pc := g0.pc + 3, stack := (w.map (pv Γ)).toList ++ st.map (pv Γ) } : JFrame) = F0 m (pc + 3) lsA ((w.toList ++ st).map (pv Γ)) := by
      have h6 : (w.map (pv Γ)).toList ++ st.map (pv Γ) = (w.toList ++ st).map (pv Γ) := by cases w <;> simp
      rw [h6]
      injection hg with i1 i2 i3 i4 i5 i6 i7
      obtain ⟨a1, a2, a3, a4, a5, a6, a7⟩ := g0
      dsimp only at i1 i2 i3 i5 i6 i7 ⊢
      subst i1 i2 i3 i5 i6 i7
      rfl
    rw [e5]
    exact a1
  · dsimp only [Pt.U, Pt.locs, Pt.cells, Pt.slots] at X' hr e2 e3 e4 stp
    subst e1; subst e2; subst e3; subst e4
    have hlo' : ∀ z ∈ locs ++ Ln, (gH Γ).size ≤ z.base := fun z hz => (List.mem_append.mp hz).elim (hlo z) (hL z)
    obtain ⟨t, a1, b1⟩ := j_leave (kc := kc') (ks := ks') (pc := pc) (lsA := lsA) (rs := st.map (pv Γ)) (Q := Q) (σ := u) hS ⟨hr, hlo', by omega, by omega, by omega⟩ X' hk1 hk2 (kx k u hq)
    rw [hg] at stp
    exact ⟨t, stp.trans a1, b1⟩
/-! the calls' rows: As: the arguments, behind the receiver -/
variable {y : MethodName} {cY : ByteArray} {LY nY dY kY sY : Nat} {rY : Option FieldType} {index : Nat} {As stk : List Value} {b : Nat}
theorem j_stk (As : List Value) (b : Nat) (st : List Value) : (As.reverse ++ .ref b :: st).map (pv Γ) = (As.map (pv Γ)).reverse ++ pv Γ (.ref b) :: st.map (pv Γ) := by simp
theorem j_callV {C : String} (hM : jMet Γ y cY LY rY [] dY kY sY (.ref b :: As) σ Q') (f : jY y cY LY rY nY) (hC : y.cls = C) (w1 : Cond.methodLink own index y ∈ lw_all) (w2 : Cond.instanceMethod y ∈ lw_all) (w3 : Cond.selects C y y ∈ lw_all) (hb6 : b < 2000000) (hIs : ∀ (s : State) (H : Heap), jKK Γ s → jHR Γ σ H → σ.1 ≤ 1000000 → jIs Γ s H b C) (hn : As.length = nY) (hst : (st.map fun v => v.category).sum ≤ 8) (hk : As.reverse ++ .ref b :: st = stk) (hd : dY + 1 ≤ dd) (h1 : kc' + kY ≤ kc) (h2 : ks' + sY ≤ ks) (d : decode cc pc = .ok (.invokevirtual index, 3))
    (kn : ∀ (v : Option Value) (u : pS), Q' (.inl v) u → J Γ own cc L ret nm [] dd kc' ks' (pc + 3) ls (v.toList ++ st) u Q) (kx : ∀ (k : Nat) (u : pS), Q' (.inr k) u → Q (.inr k) u) : J Γ own cc L ret nm [] dd kc ks pc ls stk σ Q := by
  intro p e R s m args below meth c H locs cells slots mc ms lsA hS hD hl
  subst hk
  have hK := jY_back (e := e) (below := below) (len := 3) f hM hS hd
  obtain ⟨hx, hb, -, -, hml, -, hown, hts, -, hKK, -, -, -, hmc, hms⟩ := id hS
  obtain ⟨hHR, hlo, g1, g2, g3⟩ := id hD
  obtain ⟨cell, r1, r2, r3⟩ := hIs s H hKK hHR (by omega)
  intro T hT X
  rw [j_stk, pv_lt2 hb6]
  rcases vx_callV X hx (C := C) (bytes := cY) (maxL := LY) (ret := rY) hown (hts _ w1) (hts _ w2) (hts _ w3) (hts _ f.1) f.2.2.1 hK (by rw [hT]; exact r1) r2 r3 (g := F0 m pc lsA _) rfl (by rw [hml]; exact hl.1) (argsL := As.map (pv Γ)) (rest := st.map (pv Γ)) (jY_len f (by rw [List.length_map]; exact hn)) rfl (lv_room (by rw [j_cats hS]; exact hst)) (by rw [hb]; exact d)
    (fun vm₁ hW₁ => ⟨show cells + kY ≤ R.cells by omega, show slots + sY ≤ R.slots by omega, by rw [List.map_cons, pv_lt2 hb6], by show jHR Γ σ T.heap; rw [hT]; exact hHR, hKK.warm hW₁, by omega⟩) with ⟨v, vm₁, B, hW₁, X', hpost, stp⟩ | ⟨q, vm₁, B, hW₁, X', hpost, stp⟩
  · exact j_behind hS hD hl h1 h2 rfl kn kx (Or.inl ⟨v, B, X', hpost, stp⟩)
  · exact j_behind hS hD hl h1 h2 rfl kn kx (Or.inr ⟨q, B, X', hpost, stp⟩)
theorem j_callS (hM : jMet Γ y cY LY rY [] dY kY sY As σ Q') (f : jY y cY LY rY nY) (w1 : Cond.methodLink own index y ∈ lw_all) (w2 : Cond.static y ∈ lw_all) (hn : As.length = nY) (hst : (st.map fun v => v.category).sum ≤ 8) (hk : As.reverse ++ st = stk) (hd : dY + 1 ≤ dd) (h1 : kc' + kY ≤ kc) (h2 : ks' + sY ≤ ks) (d : decode cc pc = .ok (.invokestatic index, 3))
    (kn : ∀ (v : Option Value) (u : pS), Q' (.inl v) u → J Γ own cc L ret nm [] dd kc' ks' (pc + 3) ls (v.toList ++ st) u Q) (kx : ∀ (k : Nat) (u : pS), Q' (.inr k) u → Q (.inr k) u) : J Γ own cc L ret nm [] dd kc ks pc ls stk σ Q := by
  intro p e R s m args below meth c H locs cells slots mc ms lsA hS hD hl
  subst hk
  have hK := jY_back (e := e) (below := below) (len := 3) f hM hS hd
  obtain ⟨hx, hb, -, -, hml, -, hown, hts, -, hKK, -, -, -, hmc, hms⟩ := id hS
  obtain ⟨hHR, hlo, g1, g2, g3⟩ := id hD
  intro T hT X
  rw [List.map_append, List.map_reverse]
  rcases vx_callS X hx (bytes := cY) (maxL := LY) (ret := rY) hown (hts _ w1) (hts _ w2) (hts _ f.2.1) (hts _ f.1) f.2.2.1 hK (g := F0 m pc lsA _) rfl (by rw [hml]; exact hl.1) (argsL := As.map (pv Γ)) (rest := st.map (pv Γ)) (jY_len f (by rw [List.length_map]; exact hn)) rfl (lv_room (by rw [j_cats hS]; exact hst)) (by rw [hb]; exact d)
    (fun vm₁ hW₁ => ⟨show cells + kY ≤ R.cells by omega, show slots + sY ≤ R.slots by omega, rfl, by show jHR Γ σ T.heap; rw [hT]; exact hHR, hKK.warm hW₁, by omega⟩) with ⟨v, vm₁, B, hW₁, X', hpost, stp⟩ | ⟨q, vm₁, B, hW₁, X', hpost, stp⟩
  · exact j_behind hS hD hl h1 h2 rfl kn kx (Or.inl ⟨v, B, X', hpost, stp⟩)
  · exact j_behind hS hD hl h1 h2 rfl kn kx (Or.inr ⟨q, B, X', hpost, stp⟩)
theorem j_callSN {host : String} (hM : jMet Γ y cY LY rY [] dY kY sY As σ Q') (f : jY y cY LY rY nY) (w1 : (own, index, y, host) ∈ jNwM) (w2 : Cond.static y ∈ lw_all) (hn : As.length = nY) (hst : (st.map fun v => v.category).sum ≤ 8) (hk : As.reverse ++ st = stk) (hd : dY + 1 ≤ dd) (h1 : kc' + kY ≤ kc) (h2 : ks' + sY ≤ ks) (d : decode cc pc = .ok (.invokestatic index, 3))
    (kn : ∀ (v : Option Value) (u : pS), Q' (.inl v) u → J Γ own cc L ret nm [] dd kc' ks' (pc + 3) ls (v.toList ++ st) u Q) (kx : ∀ (k : Nat) (u : pS), Q' (.inr k) u → Q (.inr k) u) : J Γ own cc L ret nm [] dd kc ks pc ls stk σ Q := by
  intro p e R s m args below meth c H locs cells slots mc ms lsA hS hD hl
  subst hk
  have hK := jY_back (e := e) (below := below) (len := 3) f hM hS hd
  obtain ⟨hx, hb, -, -, hml, -, hown, hts, -, hKK, -, -, -, hmc, hms⟩ := id hS
  obtain ⟨hHR, hlo, g1, g2, g3⟩ := id hD
  intro T hT X
  rw [List.map_append, List.map_reverse]
  rcases vx_callSN X hx (bytes := cY) (maxL := LY) (ret := rY) hown (va_Nw.use rfl (hKK.2.1.1 _ w1)) (hts _ w2) (hts _ f.2.1) (hts _ f.1) f.2.2.1 hK (g := F0 m pc lsA _) rfl (by rw [hml]; exact hl.1) (argsL := As.map (pv Γ)) (rest := st.map (pv Γ)) (jY_len f (by rw [List.length_map]; exact hn)) rfl (lv_room (by rw [j_cats hS]; exact hst)) (by rw [hb]; exact d)
    (fun vm₁ hW₁ => ⟨show cells + kY ≤ R.cells by omega, show slots + sY ≤ R.slots by omega, rfl, by show jHR Γ σ T.heap; rw [hT]; exact hHR, hKK.warm hW₁, by omega⟩) with ⟨v, vm₁, B, hW₁, X', hpost, stp⟩ | ⟨q, vm₁, B, hW₁, X', hpost, stp⟩
  · exact j_behind hS hD hl h1 h2 rfl kn kx (Or.inl ⟨v, B, X', hpost, stp⟩)
  · exact j_behind hS hD hl h1 h2 rfl kn kx (Or.inr ⟨q, B, X', hpost, stp⟩)
theorem j_callI (hM : jMet Γ y cY LY none [] dY kY sY (.ref b :: As) σ Q') (f : jY y cY LY none nY) (hy1 : y.name = "<init>") (w1 : Cond.methodLink own index y ∈ lw_all) (w2 : Cond.instanceMethod y ∈ lw_all) (hb6 : b < 2000000) (hn : As.length = nY) (hst : (st.map fun v => v.category).sum ≤ 8) (hk : As.reverse ++ .ref b :: st = stk) (hd : dY + 1 ≤ dd) (h1 : kc' + kY ≤ kc) (h2 : ks' + sY ≤ ks) (d : decode cc pc = .ok (.invokespecial index, 3))
    (kn : ∀ (v : Option Value) (u : pS), Q' (.inl v) u → J Γ own cc L ret nm [] dd kc' ks' (pc + 3) ls (v.toList ++ st) u Q) (kx : ∀ (k : Nat) (u : pS), Q' (.inr k) u → Q (.inr k) u) : J Γ own cc L ret nm [] dd kc ks pc ls stk σ Q := by
  intro p e R s m args below meth c H locs cells slots mc ms lsA hS hD hl
  subst hk
  have hK := jY_back (e := e) (below := below) (len := 3) f hM hS hd
  obtain ⟨hx, hb, -, -, hml, -, hown, hts, -, hKK, -, -, -, hmc, hms⟩ := id hS
  obtain ⟨hHR, hlo, g1, g2, g3⟩ := id hD
  intro T hT X
  rw [j_stk, pv_lt2 hb6]
  rcases vx_callI X hx (bytes := cY) (maxL := LY) hown hy1 (hts _ w1) (hts _ w2) (hts _ f.1) f.2.2.1 hK (g := F0 m pc lsA _) rfl (by rw [hml]; exact hl.1) (a := gAd Γ b) (argsL := As.map (pv Γ)) (rest := st.map (pv Γ)) (jY_len f (by rw [List.length_map]; exact hn)) rfl (lv_room (by rw [j_cats hS]; exact hst)) (by rw [hb]; exact d)
    (fun vm₁ hW₁ => ⟨show cells + kY ≤ R.cells by omega, show slots + sY ≤ R.slots by omega, by rw [List.map_cons, pv_lt2 hb6], by show jHR Γ σ T.heap; rw [hT]; exact hHR, hKK.warm hW₁, by omega⟩) with ⟨v, vm₁, B, hW₁, X', hpost, stp⟩ | ⟨q, vm₁, B, hW₁, X', hpost, stp⟩
  · exact j_behind hS hD hl h1 h2 rfl kn kx (Or.inl ⟨v, B, X', hpost, stp⟩)
  · exact j_behind hS hD hl h1 h2 rfl kn kx (Or.inr ⟨q, B, X', hpost, stp⟩)
theorem j_callIN {host : String} (hM : jMet Γ y cY LY none [] dY kY sY (.ref b :: As) σ Q') (f : jY y cY LY none nY) (hy1 : y.name = "<init>") (w1 : (own, index, y, host) ∈ jNwM) (w2 : Cond.instanceMethod y ∈ lw_all) (hb6 : b < 2000000) (hn : As.length = nY) (hst : (st.map fun v => v.category).sum ≤ 8) (hk : As.reverse ++ .ref b :: st = stk) (hd : dY + 1 ≤ dd) (h1 : kc' + kY ≤ kc) (h2 : ks' + sY ≤ ks) (d : decode cc pc = .ok (.invokespecial index, 3))
    (kn : ∀ (v : Option Value) (u : pS), Q' (.inl v) u → J Γ own cc L ret nm [] dd kc' ks' (pc + 3) ls (v.toList ++ st) u Q) (kx : ∀ (k : Nat) (u : pS), Q' (.inr k) u → Q (.inr k) u) : J Γ own cc L ret nm [] dd kc ks pc ls stk σ Q := by
  intro p e R s m args below meth c H locs cells slots mc ms lsA hS hD hl
  subst hk
  have hK := jY_back (e := e) (below := below) (len := 3) f hM hS hd
  obtain ⟨hx, hb, -, -, hml, -, hown, hts, -, hKK, -, -, -, hmc, hms⟩ := id hS
  obtain ⟨hHR, hlo, g1, g2, g3⟩ := id hD
  intro T hT X
  rw [j_stk, pv_lt2 hb6]
  rcases vx_callIN X hx (bytes := cY) (maxL := LY) hown hy1 (va_Nw.use rfl (hKK.2.1.1 _ w1)) (hts _ w2) (hts _ f.1) f.2.2.1 hK (g := F0 m pc lsA _) rfl (by rw [hml]; exact hl.1) (a := gAd Γ b) (argsL := As.map (pv Γ)) (rest := st.map (pv Γ)) (jY_len f (by rw [List.length_map]; exact hn)) rfl (lv_room (by rw [j_cats hS]; exact hst)) (by rw [hb]; exact d)
    (fun vm₁ hW₁ => ⟨show cells + kY ≤ R.cells by omega, show slots + sY ≤ R.slots by omega, by rw [List.map_cons, pv_lt2 hb6], by show jHR Γ σ T.heap; rw [hT]; exact hHR, hKK.warm hW₁, by omega⟩) with ⟨v, vm₁, B, hW₁, X', hpost, stp⟩ | ⟨q, vm₁, B, hW₁, X', hpost, stp⟩
  · exact j_behind hS hD hl h1 h2 rfl kn kx (Or.inl ⟨v, B, X', hpost, stp⟩)
  · exact j_behind hS hD hl h1 h2 rfl kn kx (Or.inr ⟨q, B, X', hpost, stp⟩)
/-- a method that the receiver's class selects: x is named, y runs (abstract, or of a class above) -/
theorem j_callVU {x : MethodName} {C owner : String} (hM : jMet Γ y cY LY rY [] dY kY sY (.ref b :: As) σ Q') (f : jY y cY LY rY nY) (w1 : Cond.methodLink own index x ∈ lw_all) (w2 : Cond.sameMethod x.cls owner x.name x.desc ∈ lw_all) (hdec : (⟨owner, x.name, x.desc⟩ : MethodName) ∈ jNwD ∨ (Cond.instanceMethod ⟨owner, x.name, x.desc⟩ ∈ lw_all ∧ ∃ c9 L9 r9, Cond.code ⟨owner, x.name, x.desc⟩ c9 L9 r9 ∈ lw_all)) (how : owner ≠ "java/lang/invoke/MethodHandle" ∧ owner ≠ "java/lang/invoke/VarHandle") (w3 : Cond.selects C x y ∈ lw_all) (w4 : Cond.instanceMethod y ∈ lw_all) (hxy : x.desc = y.desc) (hb6 : b < 2000000) (hIs : ∀ (s : State) (H : Heap), jKK Γ s → jHR Γ σ H → σ.1 ≤ 1000000 → jIs Γ s H b C) (hn : As.length = nY) (hst : (st.map fun v => v.category).sum ≤ 8) (hk : As.reverse ++ .ref b :: st = stk) (hd : dY + 1 ≤ dd) (h1 : kc' + kY ≤ kc) (h2 : ks' + sY ≤ ks) (d : decode cc pc = .ok (.invokevirtual index, 3))
    (kn : ∀ (v : Option Value) (u : pS), Q' (.inl v) u → J Γ own cc L ret nm [] dd kc' ks' (pc + 3) ls (v.toList ++ st) u Q) (kx : ∀ (k : Nat) (u : pS), Q' (.inr k) u → Q (.inr k) u) : J Γ own cc L ret nm [] dd kc ks pc ls stk σ Q := by
  intro p e R s m args below meth c H locs cells slots mc ms lsA hS hD hl
  subst hk
  have hK := jY_back (e := e) (below := below) (len := 3) f hM hS hd
  obtain ⟨hx, hb, -, -, hml, -, hown, hts, -, hKK, -, -, -, hmc, hms⟩ := id hS
  obtain ⟨hHR, hlo, g1, g2, g3⟩ := id hD
  obtain ⟨cell, r1, r2, r3⟩ := hIs s H hKK hHR (by omega)
  have hdc : va_Decl s ⟨owner, x.name, x.desc⟩ := by
    rcases hdec with h | ⟨h, c9, L9, r9, h9⟩
    · exact va_Decl.abs (hKK.2.1.2.2.1 _ h)
    · exact va_Decl.of (hts _ h) (hts _ h9)
  intro T hT X
  rw [j_stk, pv_lt2 hb6]
  rcases vx_callVU X hx (C := C) (owner := owner) (bytes := cY) (maxL := LY) (ret := rY) hown (hts _ w1) (hts _ w2) hdc how (hts _ w3) (hts _ w4) (hts _ f.1) hK (by rw [hT]; exact r1) r2 r3 (g := F0 m pc lsA _) rfl (by rw [hml]; exact hl.1) (argsL := As.map (pv Γ)) (rest := st.map (pv Γ)) (by rw [hxy]; exact jY_len f (by rw [List.length_map]; exact hn)) rfl (lv_room (by rw [j_cats hS]; exact hst)) (by rw [hb]; exact d)
    (fun vm₁ hW₁ => ⟨show cells + kY ≤ R.cells by omega, show slots + sY ≤ R.slots by omega, by rw [List.map_cons, pv_lt2 hb6], by show jHR Γ σ T.heap; rw [hT]; exact hHR, hKK.warm hW₁, by omega⟩) with ⟨v, vm₁, B, hW₁, X', hpost, stp⟩ | ⟨q, vm₁, B, hW₁, X', hpost, stp⟩
  · exact j_behind hS hD hl h1 h2 rfl kn kx (Or.inl ⟨v, B, X', hpost, stp⟩)
  · exact j_behind hS hD hl h1 h2 rfl kn kx (Or.inr ⟨q, B, X', hpost, stp⟩)
/-- super.m(..) -/
theorem j_callSU {C : String} (hM : jMet Γ y cY LY rY [] dY kY sY (.ref b :: As) σ Q') (f : jY y cY LY rY nY) (w1 : Cond.methodLink own index y ∈ lw_all) (w2 : Cond.sameMethod y.cls y.cls y.name y.desc ∈ lw_all) (w3 : Cond.superclass own y.cls ∈ lw_all) (w4 : Cond.instanceMethod y ∈ lw_all) (hno : y.name ≠ "<init>") (hb6 : b < 2000000) (hIs : ∀ (s : State) (H : Heap), jKK Γ s → jHR Γ σ H → σ.1 ≤ 1000000 → jIs Γ s H b C) (hn : As.length = nY) (hst : (st.map fun v => v.category).sum ≤ 8) (hk : As.reverse ++ .ref b :: st = stk) (hd : dY + 1 ≤ dd) (h1 : kc' + kY ≤ kc) (h2 : ks' + sY ≤ ks) (d : decode cc pc = .ok (.invokespecial index, 3))
    (kn : ∀ (v : Option Value) (u : pS), Q' (.inl v) u → J Γ own cc L ret nm [] dd kc' ks' (pc + 3) ls (v.toList ++ st) u Q) (kx : ∀ (k : Nat) (u : pS), Q' (.inr k) u → Q (.inr k) u) : J Γ own cc L ret nm [] dd kc ks pc ls stk σ Q := by
  intro p e R s m args below meth c H locs cells slots mc ms lsA hS hD hl
  subst hk
  have hK := jY_back (e := e) (below := below) (len := 3) f hM hS hd
  obtain ⟨hx, hb, -, -, hml, -, hown, hts, -, hKK, -, -, -, hmc, hms⟩ := id hS
  obtain ⟨hHR, hlo, g1, g2, g3⟩ := id hD
  obtain ⟨cell, r1, r2, r3⟩ := hIs s H hKK hHR (by omega)
  obtain ⟨kv, hkv, -⟩ := Vm.findClass_spec r3
  intro T hT X
  rw [j_stk, pv_lt2 hb6]
  rcases vx_callSU X hx (bytes := cY) (maxL := LY) (ret := rY) hown (hts _ w1) (hts _ w2) (hts _ w3) (hts _ w4) (hts _ f.1) hno hK (by rw [hT]; exact r1) r2 hkv (g := F0 m pc lsA _) rfl (by rw [hml]; exact hl.1) (argsL := As.map (pv Γ)) (rest := st.map (pv Γ)) (jY_len f (by rw [List.length_map]; exact hn)) rfl (lv_room (by rw [j_cats hS]; exact hst)) (by rw [hb]; exact d)
    (fun vm₁ hW₁ => ⟨show cells + kY ≤ R.cells by omega, show slots + sY ≤ R.slots by omega, by rw [List.map_cons, pv_lt2 hb6], by show jHR Γ σ T.heap; rw [hT]; exact hHR, hKK.warm hW₁, by omega⟩) with ⟨v, vm₁, B, hW₁, X', hpost, stp⟩ | ⟨q, vm₁, B, hW₁, X', hpost, stp⟩
  · exact j_behind hS hD hl h1 h2 rfl kn kx (Or.inl ⟨v, B, X', hpost, stp⟩)
  · exact j_behind hS hD hl h1 h2 rfl kn kx (Or.inr ⟨q, B, X', hpost, stp⟩)
theorem j_objInit (w1 : Cond.methodLink own index objectInit ∈ lw_all) (w2 : Cond.instanceMethod objectInit ∈ lw_all) (w3 : Cond.code objectInit ⟨#[0xb1]⟩ 1 none ∈ lw_all) (hb6 : b < 2000000) (hst : (st.map fun v => v.category).sum ≤ 8) (hd : 1 ≤ dd) (d : decode cc pc = .ok (.invokespecial index, 3)) (k : J Γ own cc L ret nm hh dd kc ks (pc + 3) ls st σ Q) : J Γ own cc L ret nm hh dd kc ks pc ls (.ref b :: st) σ Q := by
  intro p e R s m args below meth c H locs cells slots mc ms lsA hS hD hl
  have kk := k p e R s m args below meth c H locs cells slots mc ms lsA hS hD hl
  obtain ⟨hx, hb, -, -, hml, -, hown, hts, -, hKK, -, hfr, hlc, hmc, hms⟩ := id hS
  rw [List.map_cons, pv_lt2 hb6]
  refine W.eq rfl (W.objInit hx hb hown (hts _ w1) (hts _ w2) (hts _ w3) rfl (by rw [hml]; exact hl.1) rfl d (by omega) ?_ kk)
  have := lv_room (m := m) (pc := pc) (ls := lsA) (rest := st.map (pv Γ)) (st := st.map (pv Γ)) (by rw [j_cats hS]; exact hst)
  show 2 * 0 + _ + 12 ≤ _
  have h9 : 2 * 0 + ((st.map (pv Γ)).map fun v => v.category).sum ≤ 8 := this
  omega
end JE
