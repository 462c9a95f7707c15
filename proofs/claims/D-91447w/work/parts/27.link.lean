/-! the links of calls: from the invoking instruction to the callee's door -/
section
variable {p : Program} {l : Launch} {e : Env} {R : Room} {s : State} {m : MethodId} {args : Array Value} {below : List Frame} {meth : Method} {c : Code} {T : State} {locs : List Loc} {cells slots : Nat}
/-- the walk comes to the callee's door -/
def Lk (p : Program) (l : Launch) (e : Env) (R : Room) (s : State) (m : MethodId) (args : Array Value) (below : List Frame) (meth : Method) (c : Code) (T : State) (locs : List Loc) (cells slots : Nat) (g : JFrame) (rest : List Value) (y : MethodName) (as : Array Value) : Prop :=
  ∃ (vm₁ : Vm) (mk : MethodId), Stand p l e R s m args below meth c (T.setVm vm₁) locs cells slots ∧ s.methodNamed? y = some mk ∧ (T.setVm vm₁).methodNamed? y = some mk ∧
    ∀ target, Steps p.tables e below (doInvoke e ((T.setVm vm₁).setTop { g with stack := rest }) [] mk as).1 target → Steps p.tables e below (T.setTop g) target
theorem lk_S {Γ : gT} {c' : Nat} (X : Stand p l e R s m args below meth c T locs cells slots) (hexec : p.tables.exec = Jvm.exec) {own : String} {index : Nat}
    (hown : s.vm.findClass own = some m.cls) (hlink : (Cond.methodLink own index (gnm Γ c')).before args s = true) (hstat : (Cond.static (gnm Γ c')).before args s = true) (hinit : (Cond.initialized (gnm Γ c').cls).before args s = true) {mk : MethodId} (hnamed : s.methodNamed? (gnm Γ c') = some mk)
    (hcode : (cwd Γ c').before args s = true) (hy : (gnm Γ c').cls ≠ "java/lang/invoke/MethodHandle" ∧ (gnm Γ c').cls ≠ "java/lang/invoke/VarHandle")
    {g : JFrame} (hg : g.method = m) {argsL rest : List Value} (hlen : ∀ sig, parseMethodDescriptor (gnm Γ c').desc = some sig → argsL.length = sig.parameters.length)
    (hstack : g.stack = argsL.reverse ++ rest) (hdg : decode c.code g.pc = .ok (.invokestatic index, 3)) : Lk p l e R s m args below meth c T locs cells slots g rest (gnm Γ c') argsL.toArray := by
  obtain ⟨methM, cM, hmethM, -, -, -, -, -, -, hsigM⟩ := cwd_spec hnamed hcode
  have hstatic : methM.isStatic = true := Cond.static_spec hnamed hmethM hstat
  obtain ⟨kP, hkP, -⟩ := className_of_methodNamed hnamed
  have hinitP : kP.init = .initialized := Cond.initialized_spec (findClass_of_methodNamed hnamed) hkP hinit
  obtain ⟨vm₁, X₁, hstep₁⟩ := X.invokestatic hexec hown hlink hnamed hmethM hstatic hkP hinitP hy (g := g) hg (argsL := argsL) (rest := rest) (hlen _ hsigM) hstack hdg
  exact ⟨vm₁, mk, X₁, hnamed, X₁.named hnamed, fun target h => hstep₁ _ fun acts => by rw [doInvoke_state]; exact h⟩
theorem lk_SN {Γ : gT} {c' : Nat} (X : Stand p l e R s m args below meth c T locs cells slots) (hexec : p.tables.exec = Jvm.exec) {own host : String} {index : Nat}
    (hown : s.vm.findClass own = some m.cls) (hlink : (Cond.methodLinkNest own index (gnm Γ c') host).before args s = true) (hstat : (Cond.static (gnm Γ c')).before args s = true) (hinit : (Cond.initialized (gnm Γ c').cls).before args s = true) {mk : MethodId} (hnamed : s.methodNamed? (gnm Γ c') = some mk)
    (hcode : (cwd Γ c').before args s = true) (hy : (gnm Γ c').cls ≠ "java/lang/invoke/MethodHandle" ∧ (gnm Γ c').cls ≠ "java/lang/invoke/VarHandle")
    {g : JFrame} (hg : g.method = m) {argsL rest : List Value} (hlen : ∀ sig, parseMethodDescriptor (gnm Γ c').desc = some sig → argsL.length = sig.parameters.length)
    (hstack : g.stack = argsL.reverse ++ rest) (hdg : decode c.code g.pc = .ok (.invokestatic index, 3)) : Lk p l e R s m args below meth c T locs cells slots g rest (gnm Γ c') argsL.toArray := by
  obtain ⟨methM, cM, hmethM, -, -, -, -, -, -, hsigM⟩ := cwd_spec hnamed hcode
  have hstatic : methM.isStatic = true := Cond.static_spec hnamed hmethM hstat
  obtain ⟨kP, hkP, -⟩ := className_of_methodNamed hnamed
  have hinitP : kP.init = .initialized := Cond.initialized_spec (findClass_of_methodNamed hnamed) hkP hinit
  obtain ⟨vm₁, X₁, hstep₁⟩ := X.invokestaticNest hexec hown hlink hnamed hmethM hstatic hkP hinitP hy (g := g) hg (argsL := argsL) (rest := rest) (hlen _ hsigM) hstack hdg
  exact ⟨vm₁, mk, X₁, hnamed, X₁.named hnamed, fun target h => hstep₁ _ fun acts => by rw [doInvoke_state]; exact h⟩
theorem lk_V {Γ : gT} {c' : Nat} (X : Stand p l e R s m args below meth c T locs cells slots) (hexec : p.tables.exec = Jvm.exec) {own C : String} {index : Nat}
    (hown : s.vm.findClass own = some m.cls) (hlink : (Cond.methodLink own index (gnm Γ c')).before args s = true) (hinst : (Cond.instanceMethod (gnm Γ c')).before args s = true) (hsel : (Cond.selects C (gnm Γ c') (gnm Γ c')).before args s = true)
    (hcode : (cwd Γ c').before args s = true) (hy : (gnm Γ c').cls ≠ "java/lang/invoke/MethodHandle" ∧ (gnm Γ c').cls ≠ "java/lang/invoke/VarHandle")
    {b : Addr} {cellB : Cell} (hcell : T.heap[b]? = some cellB) (hobj : cellB.vm.isStatics = false) (hcls : s.vm.findClass C = some cellB.cls)
    {g : JFrame} (hg : g.method = m) {argsL rest : List Value} (hlen : ∀ sig, parseMethodDescriptor (gnm Γ c').desc = some sig → argsL.length = sig.parameters.length)
    (hstack : g.stack = argsL.reverse ++ .ref b :: rest) (hdg : decode c.code g.pc = .ok (.invokevirtual index, 3)) : Lk p l e R s m args below meth c T locs cells slots g rest (gnm Γ c') (Value.ref b :: argsL).toArray := by
  obtain ⟨mk, methM, hnamed, hmethM, hstM, habM⟩ := Cond.instanceMethod_spec hinst
  obtain ⟨methM', cM, hmethM', -, -, -, -, -, -, hsigM⟩ := cwd_spec hnamed hcode
  cases hmethM.symm.trans hmethM'
  obtain ⟨c2, r2, m2, q1, q2, q3, q4, kP, hkP, hkPi⟩ := Cond.selects_spec hsel
  cases hcls.symm.trans q1
  cases (State.methodFound?_of_named hnamed hy).symm.trans q2
  cases hnamed.symm.trans q3
  have hselP : selectMethod e.platform s.vm cellB.cls mk = .method mk := by rw [Launch.admits_selectMethod X.admits]; exact q4
  obtain ⟨vm₁, X₁, hstep₁⟩ := X.invokevirtual hexec hown hlink hnamed hmethM hstM hkP hkPi hy (a := b) (cell := cellB) hcell
    (fun z h => by rw [h] at hobj; cases hobj) hselP hmethM habM hkP hkPi (g := g) hg (argsL := argsL) (rest := rest) (hlen _ hsigM) hstack hdg
  exact ⟨vm₁, mk, X₁, hnamed, X₁.named hnamed, fun target h => hstep₁ _ fun acts => by rw [doInvoke_state]; exact h⟩
theorem lk_VN {Γ : gT} {c' : Nat} (X : Stand p l e R s m args below meth c T locs cells slots) (hexec : p.tables.exec = Jvm.exec) {own C host : String} {index : Nat}
    (hown : s.vm.findClass own = some m.cls) (hlink : (Cond.methodLinkNest own index (gnm Γ c') host).before args s = true) (hinst : (Cond.instanceMethod (gnm Γ c')).before args s = true) (hsel : (Cond.selects C (gnm Γ c') (gnm Γ c')).before args s = true)
    (hcode : (cwd Γ c').before args s = true) (hy : (gnm Γ c').cls ≠ "java/lang/invoke/MethodHandle" ∧ (gnm Γ c').cls ≠ "java/lang/invoke/VarHandle")
    {b : Addr} {cellB : Cell} (hcell : T.heap[b]? = some cellB) (hobj : cellB.vm.isStatics = false) (hcls : s.vm.findClass C = some cellB.cls)
    {g : JFrame} (hg : g.method = m) {argsL rest : List Value} (hlen : ∀ sig, parseMethodDescriptor (gnm Γ c').desc = some sig → argsL.length = sig.parameters.length)
    (hstack : g.stack = argsL.reverse ++ .ref b :: rest) (hdg : decode c.code g.pc = .ok (.invokevirtual index, 3)) : Lk p l e R s m args below meth c T locs cells slots g rest (gnm Γ c') (Value.ref b :: argsL).toArray := by
  obtain ⟨mk, methM, hnamed, hmethM, hstM, habM⟩ := Cond.instanceMethod_spec hinst
  obtain ⟨methM', cM, hmethM', -, -, -, -, -, -, hsigM⟩ := cwd_spec hnamed hcode
  cases hmethM.symm.trans hmethM'
  obtain ⟨c2, r2, m2, q1, q2, q3, q4, kP, hkP, hkPi⟩ := Cond.selects_spec hsel
  cases hcls.symm.trans q1
  cases (State.methodFound?_of_named hnamed hy).symm.trans q2
  cases hnamed.symm.trans q3
  have hselP : selectMethod e.platform s.vm cellB.cls mk = .method mk := by rw [Launch.admits_selectMethod X.admits]; exact q4
  obtain ⟨vm₁, X₁, hstep₁⟩ := X.invokevirtualNest hexec hown hlink hnamed hmethM hstM hkP hkPi hy (a := b) (cell := cellB) hcell
    (fun z h => by rw [h] at hobj; cases hobj) hselP hmethM habM hkP hkPi (g := g) hg (argsL := argsL) (rest := rest) (hlen _ hsigM) hstack hdg
  exact ⟨vm₁, mk, X₁, hnamed, X₁.named hnamed, fun target h => hstep₁ _ fun acts => by rw [doInvoke_state]; exact h⟩
/-- a method x that is named at a class (or abstract there); the receiver's class selects the callee -/
theorem lk_VU {Γ : gT} {c' : Nat} (X : Stand p l e R s m args below meth c T locs cells slots) (hexec : p.tables.exec = Jvm.exec) {own C owner : String} {index : Nat} {x : MethodName}
    (hown : s.vm.findClass own = some m.cls) (hlink : (Cond.methodLink own index x).before args s = true) (hsame : (Cond.sameMethod x.cls owner x.name x.desc).before args s = true)
    (hd0 : va_Decl s ⟨owner, x.name, x.desc⟩) (howner : owner ≠ "java/lang/invoke/MethodHandle" ∧ owner ≠ "java/lang/invoke/VarHandle")
    (hsel : (Cond.selects C x (gnm Γ c')).before args s = true) (hinst : (Cond.instanceMethod (gnm Γ c')).before args s = true)
    {b : Addr} {cellB : Cell} (hcell : T.heap[b]? = some cellB) (hobj : cellB.vm.isStatics = false) (hcls : s.vm.findClass C = some cellB.cls)
    {g : JFrame} (hg : g.method = m) {argsL rest : List Value} (hlen : ∀ sig, parseMethodDescriptor x.desc = some sig → argsL.length = sig.parameters.length)
    (hstack : g.stack = argsL.reverse ++ .ref b :: rest) (hdg : decode c.code g.pc = .ok (.invokevirtual index, 3)) : Lk p l e R s m args below meth c T locs cells slots g rest (gnm Γ c') (Value.ref b :: argsL).toArray := by
  obtain ⟨r0, r, hn, hrm, hstR, hsigR⟩ := hd0
  obtain ⟨cn, ck, r1, hcn, hck, hni, hf, hn1⟩ := Cond.sameMethod_found hsame
  cases hn.symm.trans hn1
  obtain ⟨mk, methM, hnamed, hmethM, -, habM⟩ := Cond.instanceMethod_spec hinst
  obtain ⟨c2, r2, m2, q1, q2, q3, q4, kP, hkP, hkPi⟩ := Cond.selects_spec hsel
  cases hcls.symm.trans q1
  cases hf.symm.trans q2
  cases hnamed.symm.trans q3
  have hselP : selectMethod e.platform s.vm cellB.cls r0 = .method mk := by rw [Launch.admits_selectMethod X.admits]; exact q4
  obtain ⟨vm₁, X₁, hstep₁⟩ := X.invokevirtualUp hexec hown hlink hsame howner hn hrm hstR (a := b) (cell := cellB) hcell
    (fun z h => by rw [h] at hobj; cases hobj) hselP hmethM habM hkP hkPi (g := g) hg (argsL := argsL) (rest := rest) (hlen _ hsigR) hstack hdg
  exact ⟨vm₁, mk, X₁, hnamed, X₁.named hnamed, fun target h => hstep₁ _ (by first | (intro acts; rw [doInvoke_state]; exact h) | (rw [doInvoke_state]; exact h))⟩
theorem lk_I {Γ : gT} {c' : Nat} (X : Stand p l e R s m args below meth c T locs cells slots) (hexec : p.tables.exec = Jvm.exec) {own : String} {index : Nat}
    (hown : s.vm.findClass own = some m.cls) (hy1 : (gnm Γ c').name = "<init>") (hlink : (Cond.methodLink own index (gnm Γ c')).before args s = true) (hinst : (Cond.instanceMethod (gnm Γ c')).before args s = true)
    (hcode : (Cond.code (gnm Γ c') (gby Γ c') (gmx Γ c') none).before args s = true) (hy : (gnm Γ c').cls ≠ "java/lang/invoke/MethodHandle" ∧ (gnm Γ c').cls ≠ "java/lang/invoke/VarHandle")
    {g : JFrame} (hg : g.method = m) {a : Addr} {argsL rest : List Value} (hlen : ∀ sig, parseMethodDescriptor (gnm Γ c').desc = some sig → argsL.length = sig.parameters.length)
    (hstack : g.stack = argsL.reverse ++ .ref a :: rest) (hdg : decode c.code g.pc = .ok (.invokespecial index, 3)) : Lk p l e R s m args below meth c T locs cells slots g rest (gnm Γ c') (Value.ref a :: argsL).toArray := by
  subst hg
  have hpl : e.platform.magicAccessors = ({} : Platform).magicAccessors := by rw [X.admits.platform]
  obtain ⟨mk, methM, cM, kP, vm₁, hnamed, hmethM, hcodeM, -, hlocalsM, -, hkP, -, hW₁, hstep₁⟩ := Steps.initColdArgs (e := e) X.here hexec X.warmed hpl hown hy1 hy hlink hinst hcode (f := g) rfl hlen hstack hdg
  exact ⟨vm₁, mk, X.noted hW₁, hnamed, (X.noted hW₁).named hnamed, fun target h => hstep₁ _ fun acts => by rw [doInvoke_state]; exact h⟩
theorem lk_IN {Γ : gT} {c' : Nat} (X : Stand p l e R s m args below meth c T locs cells slots) (hexec : p.tables.exec = Jvm.exec) {own host : String} {index : Nat}
    (hown : s.vm.findClass own = some m.cls) (hy1 : (gnm Γ c').name = "<init>") (hlink : (Cond.methodLinkNest own index (gnm Γ c') host).before args s = true) (hinst : (Cond.instanceMethod (gnm Γ c')).before args s = true)
    (hcode : (Cond.code (gnm Γ c') (gby Γ c') (gmx Γ c') none).before args s = true) (hy : (gnm Γ c').cls ≠ "java/lang/invoke/MethodHandle" ∧ (gnm Γ c').cls ≠ "java/lang/invoke/VarHandle")
    {g : JFrame} (hg : g.method = m) {a : Addr} {argsL rest : List Value} (hlen : ∀ sig, parseMethodDescriptor (gnm Γ c').desc = some sig → argsL.length = sig.parameters.length)
    (hstack : g.stack = argsL.reverse ++ .ref a :: rest) (hdg : decode c.code g.pc = .ok (.invokespecial index, 3)) : Lk p l e R s m args below meth c T locs cells slots g rest (gnm Γ c') (Value.ref a :: argsL).toArray := by
  subst hg
  have hpl : e.platform.magicAccessors = ({} : Platform).magicAccessors := by rw [X.admits.platform]
  obtain ⟨mk, methM, cM, kP, vm₁, hnamed, hmethM, hcodeM, -, hlocalsM, -, hkP, -, hW₁, hstep₁⟩ := Steps.initColdArgsNest (e := e) X.here hexec X.warmed hpl hown hy1 hy hlink hinst hcode (f := g) rfl hlen hstack hdg
  exact ⟨vm₁, mk, X.noted hW₁, hnamed, (X.noted hW₁).named hnamed, fun target h => hstep₁ _ fun acts => by rw [doInvoke_state]; exact h⟩
theorem lk_SU {Γ : gT} {c' : Nat} (X : Stand p l e R s m args below meth c T locs cells slots) (hexec : p.tables.exec = Jvm.exec) {own : String} {index : Nat}
    (hown : s.vm.findClass own = some m.cls) (hlink : (Cond.methodLink own index (gnm Γ c')).before args s = true) (hsame : (Cond.sameMethod (gnm Γ c').cls (gnm Γ c').cls (gnm Γ c').name (gnm Γ c').desc).before args s = true) (hsup : (Cond.superclass own (gnm Γ c').cls).before args s = true)
    (hinst : (Cond.instanceMethod (gnm Γ c')).before args s = true) (hcode : (cwd Γ c').before args s = true) (hno : (gnm Γ c').name ≠ "<init>")
    {b : Addr} {cellB : Cell} {kB : Class} (hcell : T.heap[b]? = some cellB) (hobj : cellB.vm.isStatics = false) (hkB : s.vm.classes[cellB.cls]? = some kB)
    {g : JFrame} (hg : g.method = m) {argsL rest : List Value} (hlen : ∀ sig, parseMethodDescriptor (gnm Γ c').desc = some sig → argsL.length = sig.parameters.length)
    (hstack : g.stack = argsL.reverse ++ .ref b :: rest) (hdg : decode c.code g.pc = .ok (.invokespecial index, 3)) : Lk p l e R s m args below meth c T locs cells slots g rest (gnm Γ c') (Value.ref b :: argsL).toArray := by
  obtain ⟨mk, methM, hnamed, hmethM, hstM, habM⟩ := Cond.instanceMethod_spec hinst
  obtain ⟨methM', cM, hmethM', -, -, -, -, -, -, hsigM⟩ := cwd_spec hnamed hcode
  cases hmethM.symm.trans hmethM'
  obtain ⟨ps, dk, kp, hps, hdk, hkp, hsuper, -, -, hnid⟩ := Cond.superclass_spec hown hsup
  have hn : s.methodNamed? ⟨(gnm Γ c').cls, (gnm Γ c').name, (gnm Γ c').desc⟩ = some mk := hnamed
  have hpm : ps = mk.cls := Option.some.inj (hps.symm.trans (findClass_of_methodNamed hnamed))
  have hsub : s.vm.isSubclass ps mk.cls = true := by rw [hpm]; simp [Vm.isSubclass, Vm.isSubclassAux]
  obtain ⟨vm₁, X₁, hstep₁⟩ := X.invokespecialUp hexec hown hlink hsame hn hmethM hstM habM hno hdk hnid hps hsuper hsub (a := b) (cell := cellB) hcell
    (fun z h => by rw [h] at hobj; cases hobj) hkB (g := g) hg (argsL := argsL) (rest := rest) (hlen _ hsigM) hstack hdg
  exact ⟨vm₁, mk, X₁, hnamed, X₁.named hnamed, fun target h => hstep₁ _ (by first | (intro acts; rw [doInvoke_state]; exact h) | (rw [doInvoke_state]; exact h))⟩
end
