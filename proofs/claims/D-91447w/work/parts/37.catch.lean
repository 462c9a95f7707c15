/-! an exception caught in the method, the catch type resolved or not -/
set_option maxHeartbeats 800000
theorem fh_cold {E : CtlPost} {e : Env} {d : Bool} {acts : List Action} {s : State} {f : JFrame} {a : Addr} {Q : Handler → Pre} {x : ExceptionTableEntry} {t : List ExceptionTableEntry} {c : ClassId} {cell : Cell} {vm' : Vm} (hx : covers x f.pc = true) (h0 : x.catchType ≠ 0)
    (hg : (Jvm.resolveClass f.method.cls x.catchType).Gives e.toSetting s.vm (.ok c) vm') (hsz : vm'.classes.size ≤ s.vm.classes.size) (hcell : s.heap[a]? = some cell) (hobj : ∀ k, cell.vm ≠ .statics k) (hk : ∃ k, vm'.classes[cell.cls]? = some k) (hc : ∃ k, vm'.classes[c]? = some k) (hfit : vm'.assignable cell.cls c = true) :
    Sem.wp (findHandler.go f a (x :: t)) Q E e d acts s ↔ Q (.found x.handlerPc) d acts (s.setVm vm') := by
  simp only [covers] at hx
  obtain ⟨ha, ht⟩ := hg.op (op := VmOp.resolveClass f.method.cls x.catchType) rfl
  simp [findHandler.go, hx, h0, ha, ht, hsz, hcell, hobj, hk, hc, hfit, VmOp.dirties, VmOp.acts]
theorem st_cold {e : Env} {s : State} {a : Addr} {f : JFrame} {r : List Frame} {pc : Nat} {vm' : Vm} (hfind : ∀ (Q : Handler → Pre) (E : CtlPost) (d : Bool) (acts : List Action), Sem.wp (findHandler f a) Q E e d acts s ↔ Q (.found pc) d acts (s.setVm vm')) :
    (stepThrowing e s a (.java f :: r)).Is ((s.setVm vm').setFrames (.java { f with pc := pc, stack := [.ref a] } :: r)) [] := by
  simp only [stepThrowing, searchFrame, vmDo]
  generalize hr : Sem.go _ e false [] s = res
  obtain ⟨as, rfl, ha⟩ := Sem.eq_ok_of hr (a := Handler.found pc) (s' := s.setVm vm') (acts' := []) (by simp [hfind _ _ _ _])
  exact ⟨rfl, ha⟩
theorem caught_cold {tb : Tables} {e : Env} {s target : State} {g : JFrame} {c : Code} {below : List Frame} {a : Addr} {vm' : Vm} (h : At s g.method c below) {pc : Nat}
    (hfind : ∀ (Q : Handler → Pre) (E : CtlPost) (d : Bool) (acts : List Action), Sem.wp (findHandler g a) Q E e d acts ((s.setTop g).pushFrame (.throwing a)) ↔ Q (.found pc) d acts (((s.setTop g).pushFrame (.throwing a)).setVm vm'))
    (hrest : Steps tb e below ((s.setVm vm').setTop { g with pc := pc, stack := [.ref a] }) target) : Steps tb e below ((s.setTop g).pushFrame (.throwing a)) target := by
  obtain ⟨hgo, hw⟩ := h.throwing a
  refine Steps.head hgo hw ?_
  rw [stepThread_throwing (frames_entered h.top _), (st_cold (s := (s.setTop g).pushFrame (.throwing a)) hfind).1]
  obtain ⟨g₀, hg⟩ := Option.isSome_iff_exists.mp h.top
  obtain ⟨r, hr⟩ := State.topJava?_eq_some.mp hg
  have hr' : (s.setVm vm').frames = .java g₀ :: r := hr
  rw [State.setTop_of_frames _ hr'] at hrest
  rw [State.pushFrame, State.setTop_of_frames _ hr, State.setFrames_setFrames]
  have e1 : ((s.setFrames (.throwing a :: (s.setFrames (.java g :: r)).frames)).setVm vm').setFrames (.java { g with pc := pc, stack := [.ref a] } :: s.frames.tail) = (s.setVm vm').setFrames (.java { g with pc := pc, stack := [.ref a] } :: r) := by
    rw [hr]
    show ((s.setVm vm').setFrames _).setFrames _ = _
    rw [State.setFrames_setFrames]
    rfl
  first | (rw [e1]; exact hrest) | (simpa [State.setFrames_setFrames, hr] using hrest)
/-- caught: the first entry that covers the pc takes the exception's class -/
theorem catch_on {p : Program} {l : Launch} {e : Env} {R : Room} {s : State} {m : MethodId} {args : Array Value} {below : List Frame} {meth : Method} {c : Code} {T : State} {locs : List Loc} {cells slots : Nat} (X : Stand p l e R s m args below meth c T locs cells slots) {own name : String} (hown : s.vm.findClass own = some m.cls)
    {x : ExceptionTableEntry} {t : List ExceptionTableEntry} (htab : c.exceptionTable.toList = x :: t) (h0 : x.catchType ≠ 0) (hlink : (Cond.classLink own x.catchType name).before args s = true) {a : Addr} {cell : Cell} {cT : ClassId} (hcell : T.heap[a]? = some cell) (hobj : cell.vm.isStatics = false) (hcT : s.vm.findClass name = some cT) (hasg : s.vm.assignable cell.cls cT = true)
    {g : JFrame} (hg : g.method = m) (hx : covers x g.pc = true) :
    ∃ vm', Stand p l e R s m args below meth c (T.setVm vm') locs cells slots ∧ ∀ target, Steps p.tables e below ((T.setVm vm').setTop { g with pc := x.handlerPc, stack := [.ref a] }) target → Steps p.tables e below ((T.setTop g).pushFrame (.throwing a)) target := by
  have hpl : e.platform.magicAccessors = ({} : Platform).magicAccessors := by rw [X.admits.platform]
  obtain ⟨c', hc', hcl⟩ := Cond.classLink_spec hown hlink e.platform hpl
  cases hcT.symm.trans hc'
  obtain ⟨dk, _, _, kt, hd, _, _, _, _, hkt, _, hopen⟩ := hcl.here
  obtain ⟨ks, hks⟩ := Vm.classAt_of_assignable hasg ⟨kt, hkt⟩
  have hcl₀ := X.warmed.classLinks hcl
  have hW' : s.WarmedH (T.vm.noted m.cls x.catchType (.cls cT)) := X.warmed.noted hd hopen (State.rightAt_cls hcl)
  obtain ⟨ks', hks', -⟩ := hW'.alike.2.2 _ _ hks
  obtain ⟨kt', hkt', -⟩ := hW'.alike.2.2 _ _ hkt
  refine ⟨_, X.noted hW', fun target hrest => ?_⟩
  subst hg
  have hA : At T g.method c below := X.here
  refine caught_cold hA (fun Q E d acts => ?_) hrest
  have hvm : ((T.setTop g).pushFrame (.throwing a)).vm = T.vm := Stand.throwing_vm T g a
  have hhp : ((T.setTop g).pushFrame (.throwing a)).heap = T.heap := Stand.throwing_heap T g a
  rw [W.findHandler_eq (meth := meth) (code := c) (by rw [hvm]; exact X.method') X.code, htab]
  refine fh_cold hx h0 (by rw [hvm]; exact resolveClass_links e.toSetting hcl₀) (by rw [hvm]; no_record) (by rw [hhp]; exact hcell) (fun k => VmData.ne_statics_of hobj k) ⟨ks', hks'⟩ ⟨kt', hkt'⟩ ?_
  rw [hW'.alike.assignable]
  exact hasg
/-- the catch of a kind of exception -/
theorem th_catch {Γ : gT} {y pc h hk ct sp ep : Nat} {C nm : String} {rest : List (Nat × Nat × Nat × Nat)} (htab : gex Γ y = (sp, ep, h, ct) :: rest) (hcov : sp ≤ pc ∧ pc < ep) (h0 : ct ≠ 0) (hisC : isC Γ hk C) (hca : Cond.castable C nm ∈ lw_tbl) (hli : Cond.classLink (gnm Γ y).cls ct nm ∈ lw_all)
    {p : Program} {l : Launch} {e : Env} {R : Room} {s : State} {mid : MethodId} {args : Array Value} {below : List Frame} {meth : Method} {c : Code} {ad0 : Int → Nat} {n0 s0 : Int} (hn : NX0 ≤ n0) (hcx : Cx Γ y p s mid args meth c ad0) {Qm : State → Prop} {L : mL} {a : Int} {m : mM} (hkd : m.2.1 a = hk)
    (hw : WA Γ p l e R s mid args below meth c ad0 n0 s0 Qm (h, L, [mR a], m)) : TH Γ p l e R s mid args below meth c ad0 n0 s0 Qm pc L a m := by
  intro ad locs ls st T hab hS hl hll hwl ha0 ha1 had h1 h2 X
  obtain ⟨hx, hb, hmlc, hrt, hlks, hown, hnm, hts, hnst, hao, hK, hC, hex, hA⟩ := hcx
  obtain ⟨hz, cell, q1, q2, q3⟩ := recv_at hisC hK hC hab hS (fun z hz => had z (Int.lt_of_lt_of_le hz hn)) hkd
  obtain ⟨c0, t0, f1, f2, f3⟩ := Cond.castable_spec (va_Nw.use (A := args) rfl (hnst _ hca rfl))
  cases q3.symm.trans f1
  rw [htab] at hex
  cases ht : c.exceptionTable.toList with
  | nil => rw [ht] at hex; cases hex
  | cons x t =>
    rw [ht, List.map_cons] at hex
    have hx1 := (List.cons.inj hex).1
    have ex1 : x.startPc = sp := congrArg Prod.fst hx1
    have ex2 : x.endPc = ep := congrArg (fun q => q.2.1) hx1
    have ex3 : x.handlerPc = h := congrArg (fun q => q.2.2.1) hx1
    have ex4 : x.catchType = ct := congrArg (fun q => q.2.2.2) hx1
    obtain ⟨vm', X', hst⟩ := catch_on X hown (x := x) (t := t) ht (by rw [ex4]; exact h0) (name := nm) (by rw [ex4]; exact hts _ hli) q1 q2 f2 f3 (g := F0 mid pc ls st) rfl (by
      show (decide (x.startPc ≤ pc) && decide (pc < x.endPc)) = true
      rw [ex1, ex2]
      simp [hcov.1, hcov.2])
    obtain ⟨t2, a1, b1⟩ := hw ad T.heap locs ls hab hS hl hll hwl (wfs_c (v := mR a) ⟨Int.le_of_lt ha0, ha1⟩ (fun v hv => by cases hv)) had h1 h2 (T.setVm vm') rfl X'
    refine ⟨t2, hst t2 ?_, b1⟩
    rw [ex3]
    have e3 : ([mR a] : List mV).map (gvv ad) = [.ref (ad a)] := by
      show [va_rf (gr ad a)] = _
      rw [va_rf_gr (by omega)]
    rw [e3] at a1
    exact a1
