/-! throw new NoSuchElementException(): its cell made, its constructor run -/
set_option maxHeartbeats 1600000
section
variable {Γ : gT} {y pc : Nat}
/-- a static field lies where it did -/
def vaL (C n d : String) (A : Nat → Prop) (U : State) (H : Heap) : Prop := ∃ (c : ClassId) (k : Class) (i : Nat) (f : Field) (a : Nat) (cell : Cell), U.vm.findClass C = some c ∧ U.fieldFound? C n d = some (c, k, i, f) ∧ f.isStatic = true ∧ k.statics = some a ∧ H[a]? = some cell ∧ cell.vm.isStatics = true ∧ cell.cls = c ∧ f.slot < cell.slots.size ∧ k.staticTypes[f.slot]? = some f.type ∧ ¬ A a
theorem vaL.of {args : Array Value} {s : State} {C n d : String} {A : Nat → Prop} (h : (Cond.laysStatic C n d).before args s = true) (hA : ∀ a : Nat, a < s.heap.size → ¬ A a) : vaL C n d A s s.heap := by
  obtain ⟨c, k, i, f, a, cell, h1, h2, h3, h4, h5, h6, h7, h8, h9⟩ := Cond.laysStatic_spec h
  exact ⟨c, k, i, f, a, cell, h1, h2, h3, h4, h5, h6, h7, h8, h9, hA a (Array.getElem?_eq_some_iff.mp h5).1⟩
theorem vaL.moved {C n d : String} {A : Nat → Prop} {u U : State} {H : Heap} (hvm : u.vm.Alike U.vm) (h : vaL C n d A u H) : vaL C n d A U H := by
  obtain ⟨c, k, i, f, a, cell, h1, h2, h3, h4, h5, h6, h7, h8, h9, h10⟩ := h
  obtain ⟨k', hi', he⟩ := State.fieldFound?_setVm hvm h2
  exact ⟨c, k', i, f, a, cell, by rw [hvm.findClass]; exact h1, hi', h3, by rw [he]; exact h4, h5, h6, h7, h8, by rw [he]; exact h9, h10⟩
theorem vaL.kept {C n d : String} {A : Nat → Prop} {U : State} {H H1 : Heap} (h : vaL C n d A U H) (hq : ∀ a : Nat, a < H.size → ¬ A a → H1[a]? = H[a]?) : vaL C n d A U H1 := by
  obtain ⟨c, k, i, f, a, cell, h1, h2, h3, h4, h5, h6, h7, h8, h9, h10⟩ := h
  exact ⟨c, k, i, f, a, cell, h1, h2, h3, h4, by rw [hq a (Array.getElem?_eq_some_iff.mp h5).1 h10]; exact h5, h6, h7, h8, h9, h10⟩
theorem vaL.use {C n d : String} {A : Nat → Prop} {U : State} {args : Array Value} (h : vaL C n d A U U.heap) : (Cond.laysStatic C n d).before args U = true := by
  obtain ⟨c, k, i, f, a, cell, h1, h2, h3, h4, h5, h6, h7, h8, h9, h10⟩ := h
  simp only [Cond.before, Cond.holds, Cond.value, h1, h2, h3, h4, h6, h7]
  simp [h5, h6, h7, h8, h9]
abbrev nseN : String := "java/util/NoSuchElementException"
theorem stp_5 {np : Nat} {au : List Nat} {cz : Int} {L : mL} {S : List mV} {m : mM} : stp rO (.aconst_null, np, 0, au, cz) L S m = bif Nat.ble S.length 4 then r_ck (m.2.2.2.1 + 1 ≤ CXm ∧ m.2.2.2.2 + 6 ≤ SXm) (np, L, mR m.2.2.2.1 :: S, mnse m) else none := by
  have e : rO (.aconst_null, np, 0, au, cz) S m = bif Nat.ble S.length 4 then some (some (m.2.2.2.1 + 1 ≤ CXm ∧ m.2.2.2.2 + 6 ≤ SXm), mR m.2.2.2.1 :: S, mnse m) else none := rfl
  unfold stp
  dsimp only
  rw [e]
  cases Nat.ble S.length 4 <;> rfl
/-- an object's cell with a slot set -/
theorem AbH_stO {s : State} {args : Array Value} {ad : Int → Nat} {m : mM} {H : Heap} {a : Int} {j : Nat} {v : Int} {w : mV} {k : Nat} {C : String} {T : u_T} {N : Nat} {ty : Nat → FieldType} (hts : ∀ w ∈ lw_all, w.before args s = true) (hK : va_K (gD Γ) (gcl Γ) (gtys Γ) s) (hab : AbH Γ ad m H) (hcl : clOk Γ k C T N ty) (hk : m.2.1 a = k) (hj : j < N) (hw : mtag (tgOf (ty j)) v = w) (hwf : wfv m.2.2.2.1 w)
    {cell : Cell} (hc : H[ad a]? = some cell) : AbH Γ ad (mst m a j v) (H.setIfInBounds (ad a) (cell.setSlot ((gD Γ).2 (k - 1) j) (gvv ad w))) := by
  have hz := dyn_of hab.2.2 hk (dynK_obj hcl) (by have := hcl.2.2.2.2.2.1; omega)
  have hg := wsO_get (Γ := Γ) (ad := ad) hz.1 hz.2
  rw [ent_obj hk hcl] at hg
  have hap := ap_slots hts hcl.2.2.1 ty hcl.2.2.2.1 hcl.2.2.2.2.1 hK hcl.1
  obtain ⟨r, h1, cell', q1, q2, q3, q4⟩ := hab.1 _ _ hg
  have hr : r = (C, T, N) := Option.some.inj (h1.symm.trans hcl.1)
  subst hr
  cases hc.symm.trans q1
  have hlt : ad a < H.size := (Array.getElem?_eq_some_iff.mp hc).1
  have e1 := wsO_upd (Γ := Γ) (ad := ad) (m' := mst m a j v) hz.1 hz.2 rfl (fun z hz => ent_st_ne hz)
  rw [ent_st_obj hk hcl hj, hw] at e1
  have e3 : ∀ q : Nat, q ≠ ad a → (H.setIfInBounds (ad a) (cell.setSlot ((gD Γ).2 (k - 1) j) (gvv ad w)))[q]? = H[q]? := fun q hq => by
    rw [Array.getElem?_setIfInBounds, if_neg (fun h => hq h.symm)]
  have e2 : (H.setIfInBounds (ad a) (cell.setSlot ((gD Γ).2 (k - 1) j) (gvv ad w)))[ad a]? = some (cell.setSlot ((gD Γ).2 (k - 1) j) (gvv ad w)) := by
    simp [hlt]
  refine ⟨?_, ?_, wfm_st hab.2.2 hz.1 hz.2 (wfc_st_obj (hab.2.2.2.2.1 a hz.1 hz.2).2 hk hcl (by rw [hw]; exact hwf))⟩
  · rw [e1]
    refine va_P.set hab.1 hab.2.1 hg ⟨_, hcl.1, t_OB.to (V := updV (vp_V _) j (gvv ad w)) ⟨_, e2, q2, q3, t_set q4 hap hj (gvv ad w)⟩ (fun i _ => vp_updV_set (by simpa using hj) (gvv ad w) i)⟩ e3
  · rw [e1]
    exact va_D.set hab.2.1 hg
theorem ss_nse {idx ic : Nat} {au : List Nat} {cz : Int} {T : u_T} {ty : Nat → FieldType} (hcl : clOk Γ 6 nseN T 6 ty) (hT0 : T 0 = (Bundle.tN, "cause", "Ljava/lang/Throwable;", false)) (hT1 : T 1 = (Bundle.tN, "stackTrace", Bundle.steD, false)) (hT2 : T 2 = (Bundle.tN, "suppressedExceptions", Bundle.listD, false)) (hT4 : T 4 = (Bundle.tN, "backtrace", "Ljava/lang/Object;", false))
    (hdf : ∀ j, j < 6 → defaultValue (ty j) = gvv (fun _ => 0) (mtag (tgOf (ty j)) 0)) (htg : tgOf (ty 0) = 2 ∧ tgOf (ty 1) = 2 ∧ tgOf (ty 2) = 2)
    (hli : Cond.classLink (gnm Γ y).cls idx nseN ∈ lw_all) (hin : Cond.instantiable nseN 6 ∈ lw_all) (hini : Cond.initialized nseN ∈ lw_all)
    (hat : ∀ x ∈ Bundle.throwableAtoms, x ∈ lw_all ∨ ∃ (C n d : String), x = .laysStatic C n d ∧ ∀ s ad, gC Γ s s.heap ad → vaL C n d (gA Γ) s s.heap) (hch : ∀ x ∈ Bundle.chain0Atoms nseN ["java/lang/RuntimeException", "java/lang/Exception"], x ∈ lw_all ∨ ∃ z, x = .declares z ∧ x ∈ lw_tbl)
    (hml : Cond.methodLink (gnm Γ y).cls ic (Bundle.init0 nseN) ∈ lw_all) (hs0 : Cond.selects nseN Bundle.tFill0 Bundle.tFill0 ∈ lw_all) (hs1 : Cond.selects nseN Bundle.tFill Bundle.tFill ∈ lw_all)
    (hbk : Cond.fieldLink Bundle.tN 198 Bundle.tN "backtrace" "Ljava/lang/Object;" ∈ lw_all) (hbl : Cond.lays Bundle.tN Bundle.tN "backtrace" "Ljava/lang/Object;" ∈ lw_all)
    (ho3 : ∀ s ad, gC Γ s s.heap ad → va_Z Bundle.tN "UNASSIGNED_STACK" Bundle.steD (va_rf (gr ad ((gM Γ).1 (-1) 3))) (gA Γ) s s.heap ∧ 0 ≤ (gM Γ).1 (-1) 3 ∧ (gM Γ).1 (-1) 3 < NX0)
    (ho4 : ∀ s ad, gC Γ s s.heap ad → va_Z Bundle.tN "SUPPRESSED_SENTINEL" Bundle.listD (va_rf (gr ad ((gM Γ).1 (-1) 4))) (gA Γ) s s.heap ∧ 0 ≤ (gM Γ).1 (-1) 4 ∧ (gM Γ).1 (-1) 4 < NX0)
    (hd1 : decode (gby Γ y) pc = .ok (.new idx, 3)) (hd2 : decode (gby Γ y) (pc + 3) = .ok (.dup, 1)) (hd3 : decode (gby Γ y) (pc + 4) = .ok (.invokespecial ic, 3)) : SS Γ y pc (.aconst_null, pc + 7, 0, au, cz) := by
  intro p l e R s mid args below meth c ad0 n0 s0 d ⟨hx, hb, hmxl, hrt, hlk, hown, hnm, hts, hnst, hao, hK, hC, hex, hA⟩ hr hn L S m
  rw [stp_5]
  cases h4 : Nat.ble S.length 4 with
  | false => exact True.intro
  | true =>
  have h4 := Nat.le_of_ble_eq_true h4
  intro hck Qm hk ad H locs ls hab hS hl hlen hwl hws had h1 h2
  dsimp only at hab hl hlen hwl hws h1 h2
  obtain ⟨hr1, hr2, hr3, hr4, hr5⟩ := hr
  have hn' : (1000 : Int) ≤ n0 := hn
  have hn3 : (1000 : Int) ≤ m.2.2.2.1 := hab.2.2.1
  have hKn := hK.1 5 _ hcl.1
  refine W.newcK hx hb hown (hts _ hli) (hts _ hin) (hts _ hini) rfl hd1 (show (m.2.2.2.1 - n0).toNat + 1 ≤ R.cells by have := hck.1; have := h1.1; omega) (show (m.2.2.2.2 - s0).toNat + 6 ≤ R.slots by have := hck.2; have := h2.1; omega) hKn.2.1 rfl fun H1 kC hkC e1 z1 o1 => ?_
  -- the memory with the new cell
  have hkp : ∀ (k : Nat) (x : Nat × va_E), (wsO Γ ad m)[k]? = some x → H1[x.1]? = H[x.1]? := fun k x hx => o1 x.1 ((hab.1 k x hx).lt)
  have hP1 : va_P (gD Γ) (gcl Γ) (wsO Γ ad m ++ [(H.size, .inr (5, (List.range 6).map (fun j => gvv (fun _ => 0) (mtag (tgOf (ty j)) 0))))]) H1 := by
    refine (hab.1.kept hkp).app (fun k x hx => ?_)
    have hz : k < 1 := (List.getElem?_eq_some_iff.mp hx).1
    rw [show k = 0 by omega] at hx
    cases hx
    refine ⟨_, hcl.1, (u_born ty hts hcl.2.2.1 hKn hkC e1 hcl.2.2.2.1).to (fun j hj => ?_)⟩
    rw [hdf j hj]
    simp [vp_V, hj]
  have hD1 : va_D (gA Γ) (wsO Γ ad m ++ [(H.size, .inr (5, (List.range 6).map (fun j => gvv (fun _ => 0) (mtag (tgOf (ty j)) 0))))]) := hab.2.1.push hab.1 rfl (hA _ hS.1)
  have hS1 : va_S (gA Γ) s.heap H1 locs := ⟨Nat.le_trans hS.1 (by omega), fun x h1 h2 => (o1 x (Nat.lt_of_lt_of_le h1 hS.1)).trans (hS.2.1 x h1 h2), hS.2.2⟩
  have hab1 : AbH Γ (adn ad m.2.2.2.1 H.size) (mnew m 6 0 6) H1 := by
    refine AbH_push hab ?_ hP1 hD1 (dynK_obj hcl) (fun h => by omega)
    obtain ⟨q1, q2, q3⟩ := mnew_eq (m := m) (k := 6) (len := 0) (n := 6)
    rw [ent_obj (k := 6) q2 hcl, q1]
    congr 2
    refine List.map_congr_left (fun j hj => ?_)
    cases htg : tgOf (ty j) with
    | zero => rfl
    | succ t =>
      cases t with
      | zero => rfl
      | succ t => rfl
  refine lv_dup hx hb (va := .ref H.size) hd2 rfl ?_
  intro T' hT X
  subst hT
  have howns : e.platform.frameOwnsMonitors = true := by rw [X.admits.platform]
  have hfin : e.platform.finalization = false := by rw [X.admits.platform]
  have hpl : e.platform.magicAccessors = ({} : Platform).magicAccessors := by rw [X.admits.platform]
  have htr : e.platform.stackTraces = false := by rw [X.admits.platform]; exact hr5
  obtain ⟨Th, Z, Li, LZ, Y⟩ := ThrowableC.of_atoms (args := args) howns hfin hpl (fun x hx => by
    rcases hat x hx with h | ⟨C, n, d, h, h'⟩
    · exact hts _ h
    · subst h
      exact (h' s ad0 hC).use)
  have hcha : ∀ x ∈ Bundle.chain0Atoms nseN ["java/lang/RuntimeException", "java/lang/Exception"], x.before args s = true := by
    intro x hx
    rcases hch x hx with h | ⟨z, h, h'⟩
    · exact hts _ h
    · subst h
      exact va_Nw.use rfl (hnst _ h' rfl)
  obtain ⟨P1, Ps, hlenP, L1, hL, hP1m, hlink1, hlinkp⟩ := Bundle.chain0 (args := args) hpl Y.init0 ["java/lang/RuntimeException", "java/lang/Exception"] nseN (by decide +kernel) (by decide +kernel) hcha
  have hfound : s.vm.findClass nseN = some P1.m.cls := findClass_of_methodNamed hP1m
  have hfd : (gD Γ).1 5 = P1.m.cls := Option.some.inj (hKn.2.1.symm.trans hfound)
  obtain ⟨hSl, hfc, kC', hkC', hord⟩ := hKn
  cases hkC.symm.trans hkC'
  have hsel0 : selectMethod e.platform s.vm ((gD Γ).1 5) Th.fill0 = .method Th.fill0 := by
    obtain ⟨c2, r2, m2, q1, q2, q3, q4, -⟩ := Cond.selects_spec (hts _ hs0)
    cases Option.some.inj (q1.symm.trans hfc)
    cases Option.some.inj (q2.symm.trans (State.methodFound?_of_named Y.fill0 (by decide)))
    cases Option.some.inj (q3.symm.trans Y.fill0)
    rw [Launch.admits_selectMethod X.admits]; exact q4
  have hselF : selectMethod e.platform s.vm ((gD Γ).1 5) Th.fill = .method Th.fill := by
    obtain ⟨c2, r2, m2, q1, q2, q3, q4, -⟩ := Cond.selects_spec (hts _ hs1)
    cases Option.some.inj (q1.symm.trans hfc)
    cases Option.some.inj (q2.symm.trans (State.methodFound?_of_named Y.fill (by decide)))
    cases Option.some.inj (q3.symm.trans Y.fill)
    rw [Launch.admits_selectMethod X.admits]; exact q4
  -- the statics
  obtain ⟨⟨cf3, kf3, fi3, f3, a3, cell3, z31, z32, z33, z34, z35, z36, z37, z38⟩, hu0, hu1⟩ := ho3 s ad0 hC
  obtain ⟨⟨cf4, kf4, fi4, f4, a4, cell4, z41, z42, z43, z44, z45, z46, z47, z48⟩, hv0, hv1⟩ := ho4 s ad0 hC
  have e31 : (Th.cT, Th.kT, Th.i13, Th.fUnassigned) = (cf3, kf3, fi3, f3) := Option.some.inj (Y.unassigned.symm.trans z31)
  have e41 : (Th.cT, Th.kT, Th.i20, Th.fSentinel) = (cf4, kf4, fi4, f4) := Option.some.inj (Y.sentinel.symm.trans z41)
  have ek3 : Th.kT = kf3 := congrArg (fun q => q.2.1) e31
  have ef3 : Th.fUnassigned = f3 := congrArg (fun q => q.2.2.2) e31
  have ek4 : Th.kT = kf4 := congrArg (fun q => q.2.1) e41
  have ef4 : Th.fSentinel = f4 := congrArg (fun q => q.2.2.2) e41
  have ea3 : Th.aS = a3 := Option.some.inj (Li.statics.symm.trans (by rw [ek3]; exact z34))
  have ea4 : Th.aS = a4 := Option.some.inj (Li.statics.symm.trans (by rw [ek4]; exact z44))
  subst ea3 ef3
  subst ef4
  rw [← ea4] at z45 z48
  cases z35.symm.trans z45
  have hcS : T'.heap[Th.aS]? = some cell3 := by rw [hS1.2.1 _ (Array.getElem?_eq_some_iff.mp z35).1 z38]; exact z35
  have hknS : cell3.vm ≠ .unknown := by
    intro hu
    rw [hu] at z36
    cases z36
  have hneS : Th.aS ≠ H.size := Nat.ne_of_lt (Nat.lt_of_lt_of_le (Array.getElem?_eq_some_iff.mp z35).1 hS.1)
  have hrf : ∀ r : Option Nat, (va_rf r).isRef = true := fun r => by cases r <;> rfl
  -- the fields
  obtain ⟨cC0, kC0, iC0, fC0, sC1, sC2⟩ := hSl 0 (show 0 < 6 by omega)
  obtain ⟨cS0, kS0, iS0, fS0, sS1, sS2⟩ := hSl 1 (show 1 < 6 by omega)
  obtain ⟨cP0, kP0, iP0, fP0, sP1, sP2⟩ := hSl 2 (show 2 < 6 by omega)
  obtain ⟨cB0, kB0, iB0, fB0, sB1, sB2⟩ := hSl 4 (show 4 < 6 by omega)
  have l0 := hts _ (hcl.2.2.1 _ (u_in_lay (C := nseN) (T := T) (N := 6) (k := 0) (by omega)))
  have l1 := hts _ (hcl.2.2.1 _ (u_in_lay (C := nseN) (T := T) (N := 6) (k := 1) (by omega)))
  have l2 := hts _ (hcl.2.2.1 _ (u_in_lay (C := nseN) (T := T) (N := 6) (k := 2) (by omega)))
  have l4 := hts _ (hcl.2.2.1 _ (u_in_lay (C := nseN) (T := T) (N := 6) (k := 4) (by omega)))
  unfold u_lay at l0 l1 l2 l4
  dsimp only at sC1 sS1 sP1 sB1
  rw [hT0] at l0 sC1
  rw [hT1] at l1 sS1
  rw [hT2] at l2 sP1
  rw [hT4] at l4 sB1
  replace l0 : (Cond.lays nseN Bundle.tN "cause" "Ljava/lang/Throwable;").before args s = true := l0
  replace l1 : (Cond.lays nseN Bundle.tN "stackTrace" Bundle.steD).before args s = true := l1
  replace l2 : (Cond.lays nseN Bundle.tN "suppressedExceptions" Bundle.listD).before args s = true := l2
  replace l4 : (Cond.lays nseN Bundle.tN "backtrace" "Ljava/lang/Object;").before args s = true := l4
  have gC : fC0 = Th.fCause := (congrArg (fun q => q.2.2.2) (Option.some.inj (sC1.symm.trans Y.cause)))
  have gS : fS0 = Th.fStack := (congrArg (fun q => q.2.2.2) (Option.some.inj (sS1.symm.trans Y.stack)))
  have gP : fP0 = Th.fSupp := (congrArg (fun q => q.2.2.2) (Option.some.inj (sP1.symm.trans Y.supp)))
  subst gC gS gP
  obtain ⟨ci198, i198, fB, hk198, hg198, ha198, hsB, -, hnB, htB, hffB⟩ := Cond.ownField (t := .object "java/lang/Object") Y.found Li.cls (by decide +kernel) (hts _ hbk) (hts _ hbl) e.platform hpl
  have gB : fB0 = fB := (congrArg (fun q => q.2.2.2) (Option.some.inj (sB1.symm.trans hffB)))
  subst gB
  obtain ⟨tyC, dC, hdC, hdnC⟩ := Cond.laysAt hfc hkC Y.cause l0
  obtain ⟨tyS, dS, hdS, hdnS⟩ := Cond.laysAt hfc hkC Y.stack l1
  obtain ⟨tyP, dP, hdP, hdnP⟩ := Cond.laysAt hfc hkC Y.supp l2
  obtain ⟨tyB, dB, hdB, hdnB⟩ := Cond.laysAt hfc hkC hffB l4
  have bC := Cond.laysApart hdB hdC hdnB hdnC (by rw [hnB, Y.causeName]; decide)
  have bS := Cond.laysApart hdB hdS hdnB hdnS (by rw [hnB, Y.stackName]; decide)
  have bP := Cond.laysApart hdB hdP hdnB hdnP (by rw [hnB, Y.suppName]; decide)
  have nSP := Cond.laysApart hdS hdP hdnS hdnP (by rw [Y.stackName, Y.suppName]; decide)
  have hcell0 : T'.heap[H.size]? = some (freshCell ((gD Γ).1 5) kC) := e1
  obtain ⟨tm, methC, cdC, kC2, vm₁, hnC, -, -, -, -, -, -, -, hW₁, st1⟩ := Steps.initCold (tb := p.tables) (e := e) (below := below) (s := s) (U := T') X.here hx X.warmed hpl hown (t := Bundle.init0 nseN) rfl rfl (Bundle.fit_spec (n := nseN) (by decide +kernel)).2
    (hts _ hml) (hcha (.instanceMethod (Bundle.init0 nseN)) (by simp [Bundle.chain0Atoms, Bundle.passAtoms])) (bytes := Bundle.five) (maxL := 1) (hcha (.code (Bundle.init0 nseN) Bundle.five 1 none) (by simp [Bundle.chain0Atoms, Bundle.passAtoms]))
    (f := F0 mid (pc + 4) ls (.ref H.size :: .ref H.size :: S.map (gvv ad))) rfl (a := H.size) (rest := .ref H.size :: S.map (gvv ad)) rfl (by rw [hb]; exact hd3)
  cases Option.some.inj (hnC.symm.trans hP1m)
  have X₁ := X.noted hW₁
  have hskip : SkipFacts Th e.platform s (fun u => u) ⟨va_rf (gr ad0 ((gM Γ).1 (-1) 3)), hrf _⟩ ((preparedCellV Th.toThrowableT (freshCell ((gD Γ).1 5) kC) H.size ⟨va_rf (gr ad0 ((gM Γ).1 (-1) 3)), hrf _⟩ ⟨va_rf (gr ad0 ((gM Γ).1 (-1) 4)), hrf _⟩).withEntry (T'.setVm vm₁).cur) :=
    ⟨{ ci198 := ci198, i198 := i198, fBack := fB0 }, ⟨hk198, hg198, ha198, hsB⟩, by
      have := fresh_default (c := (gD Γ).1 5) tyB
      rw [htB] at this
      simpa [preparedCellV, Cell.setSlot, Cell.withEntry, Array.getElem?_setIfInBounds, bC, bS, bP, bC.symm, bS.symm, bP.symm, defaultValue] using this, fun _ _ => rfl⟩
  have hsum := cat_sum ad S
  obtain ⟨vm₂, X₂, st2⟩ := X₁.ctorPlainOffV hx (g := F0 mid (pc + 4) ls (.ref H.size :: S.map (gvv ad))) rfl (show ls.size = c.maxLocals by rw [hl.1, hlen]) Th Li Z LZ (P1 :: Ps)
    (fun P hP => by rcases List.mem_cons.mp hP with rfl | hP; exact L1; exact hL P hP) ⟨hlink1, hlinkp⟩ (u0 := ⟨va_rf (gr ad0 ((gM Γ).1 (-1) 3)), hrf _⟩) (sen := ⟨va_rf (gr ad0 ((gM Γ).1 (-1) 4)), hrf _⟩) (self := H.size) (cell := freshCell ((gD Γ).1 5) kC) (cellS := cell3)
    hcell0 (fun _ => by simp) (by simp) rfl rfl hsel0 hselF hcS hneS hknS z37 z47
    (Takes.of_laid hkC hord tyC (by rw [Y.causeType]; rfl)) (Takes.of_laid hkC hord tyS (by rw [Y.stackType]; exact fits_refV_array _ ⟨va_rf (gr ad0 ((gM Γ).1 (-1) 3)), hrf _⟩)) (Takes.of_laid hkC hord tyP (by rw [Y.suppType]; exact fits_refV_object _ ⟨va_rf (gr ad0 ((gM Γ).1 (-1) 4)), hrf _⟩)) Y.objLocals hskip htr [] (by rw [hb]; exact hd3)
    (by simp only [List.length_cons, hlenP, List.length_nil]; omega) (by
      simp only [List.length_cons, hlenP, List.length_nil]
      show 2 * 0 + ((Value.ref H.size :: S.map (gvv ad)).map fun v => v.category).sum + (13 * (0 + 1 + 1 + 1) + 41) ≤ R.locals
      rw [List.map_cons, List.sum_cons]
      show 2 * 0 + (1 + ((S.map (gvv ad)).map fun v => v.category).sum) + (13 * (0 + 1 + 1 + 1) + 41) ≤ R.locals
      omega)
  have hq : gA Γ H.size := hA _ hS.1
  have ea : adn ad m.2.2.2.1 H.size m.2.2.2.1 = H.size := adn_eq
  have hk6 : (mnew m 6 0 6).2.1 m.2.2.2.1 = 6 := (mnew_eq (m := m) (k := 6) (len := 0) (n := 6)).2.1
  have hold := (hab.2.2.2.2.2 (-1) (by show (-1 : Int) < 1000; decide)).2.1
  have hadn : ∀ z, z < NX0 → adn ad m.2.2.2.1 H.size z = ad0 z := fun z hz => by
    have hz' : z < (1000 : Int) := hz
    exact (adn_ne (show z < m.2.2.2.1 by omega)).trans (had z (Int.lt_of_lt_of_le hz hn))
  have g1 : gvv (adn ad m.2.2.2.1 H.size) (mR m.2.2.2.1) = .ref H.size := by
    show va_rf (gr (adn ad m.2.2.2.1 H.size) m.2.2.2.1) = _
    rw [va_rf_gr (by omega), ea]
  have g3 : gvv (adn ad m.2.2.2.1 H.size) (mR (m.1 (-1) 3)) = va_rf (gr ad0 ((gM Γ).1 (-1) 3)) := by
    show va_rf (gr (adn ad m.2.2.2.1 H.size) (m.1 (-1) 3)) = _
    rw [hold, gr_same (nx := NX0) hadn hu1]
  have g4 : gvv (adn ad m.2.2.2.1 H.size) (mR (m.1 (-1) 4)) = va_rf (gr ad0 ((gM Γ).1 (-1) 4)) := by
    show va_rf (gr (adn ad m.2.2.2.1 H.size) (m.1 (-1) 4)) = _
    rw [hold, gr_same (nx := NX0) hadn hv1]
  have w1 : wfv (m.2.2.2.1 + 1) (mR m.2.2.2.1) := ⟨by omega, by omega⟩
  have w3 : wfv (m.2.2.2.1 + 1) (mR (m.1 (-1) 3)) := by
    rw [hold]
    have hu1 : (gM Γ).1 (-1) 3 < (1000 : Int) := hu1
    exact ⟨hu0, by omega⟩
  have w4 : wfv (m.2.2.2.1 + 1) (mR (m.1 (-1) 4)) := by
    rw [hold]
    have hv1 : (gM Γ).1 (-1) 4 < (1000 : Int) := hv1
    exact ⟨hv0, by omega⟩
  have hlt : H.size < T'.heap.size := (Array.getElem?_eq_some_iff.mp hcell0).1
  have tw : ∀ (h : Heap) (q : Nat) (x z : Cell), (h.setIfInBounds q x).setIfInBounds q z = h.setIfInBounds q z := fun h q x z => by
    refine Array.ext_getElem? (fun i => ?_)
    simp only [Array.getElem?_setIfInBounds, Array.size_setIfInBounds]
    by_cases hi : q = i
    · rw [if_pos hi, if_pos hi]
    · rw [if_neg hi, if_neg hi, if_neg hi]
  have sl : ∀ x : Cell, (T'.heap.setIfInBounds H.size x)[H.size]? = some x := fun x => by simp [hlt]
  have k2 := AbH_stO (a := m.2.2.2.1) (j := 0) (v := m.2.2.2.1) hts hK hab1 hcl hk6 (by omega) (w := mR m.2.2.2.1) (by rw [htg.1]; rfl) w1 (cell := freshCell ((gD Γ).1 5) kC) (by rw [ea]; exact hcell0)
  rw [ea, g1] at k2
  have k3 := AbH_stO (a := m.2.2.2.1) (j := 1) (v := m.1 (-1) 3) hts hK k2 hcl hk6 (by omega) (w := mR (m.1 (-1) 3)) (by rw [htg.2.1]; rfl) w3 (by rw [ea]; exact sl _)
  rw [ea, g3, tw] at k3
  have k4 := AbH_stO (a := m.2.2.2.1) (j := 2) (v := m.1 (-1) 4) hts hK k3 hcl hk6 (by omega) (w := mR (m.1 (-1) 4)) (by rw [htg.2.2]; rfl) w4 (by rw [ea]; exact sl _)
  rw [ea, g4, tw] at k4
  have k5 := AbH_stO (a := m.2.2.2.1) (j := 1) (v := m.1 (-1) 3) hts hK k4 hcl hk6 (by omega) (w := mR (m.1 (-1) 3)) (by rw [htg.2.1]; rfl) w3 (by rw [ea]; exact sl _)
  rw [ea, g3, tw] at k5
  have em : mst (mst (mst (mst (mnew m 6 0 6) m.2.2.2.1 ((0 : Nat) : Int) m.2.2.2.1) m.2.2.2.1 ((1 : Nat) : Int) (m.1 (-1) 3)) m.2.2.2.1 ((2 : Nat) : Int) (m.1 (-1) 4)) m.2.2.2.1 ((1 : Nat) : Int) (m.1 (-1) 3) = mnse m := by
    refine Prod.ext ?_ rfl
    funext b i
    show (if b = m.2.2.2.1 ∧ i = ((1 : Nat) : Int) then m.1 (-1) 3 else (mnse m).1 b i) = (mnse m).1 b i
    by_cases hbi : b = m.2.2.2.1 ∧ i = ((1 : Nat) : Int)
    · rw [if_pos hbi]
      obtain ⟨rfl, rfl⟩ := hbi
      simp [mnse, mst]
    · rw [if_neg hbi]
  rw [em] at k5
  have sC3 : (gD Γ).2 (6 - 1) 0 = Th.fCause.slot := sC2.symm
  have sS3 : (gD Γ).2 (6 - 1) 1 = Th.fStack.slot := sS2.symm
  have sP3 : (gD Γ).2 (6 - 1) 2 = Th.fSupp.slot := sP2.symm
  rw [sC3, sS3, sP3] at k5
  have hup : m.2.2.2.1 ≤ (mnse m).2.2.2.1 := by show m.2.2.2.1 ≤ m.2.2.2.1 + 1; omega
  have c1 : ((mnse m).2.2.2.1 - n0).toNat = (m.2.2.2.1 - n0).toNat + 1 := by show (m.2.2.2.1 + 1 - n0).toNat = _; have := h1.1; omega
  have c2 : ((mnse m).2.2.2.2 - s0).toNat = (m.2.2.2.2 - s0).toNat + 6 := by show (m.2.2.2.2 + 6 - s0).toNat = _; have := h2.1; omega
  have c3 : (mR m.2.2.2.1 :: S).map (gvv (adn ad m.2.2.2.1 H.size)) = .ref H.size :: S.map (gvv ad) := by
    rw [List.map_cons, map_same (fun z hz => adn_ne hz) S hws, g1]
  have hS5 : va_S (gA Γ) s.heap (T'.heap.setIfInBounds H.size ((preparedCellV Th.toThrowableT (freshCell ((gD Γ).1 5) kC) H.size ⟨va_rf (gr ad0 ((gM Γ).1 (-1) 3)), hrf _⟩ ⟨va_rf (gr ad0 ((gM Γ).1 (-1) 4)), hrf _⟩).setSlot Th.fStack.slot (va_rf (gr ad0 ((gM Γ).1 (-1) 3))))) (locs ++ [⟨H.size, Th.fCause.slot⟩, ⟨H.size, Th.fStack.slot⟩, ⟨H.size, Th.fSupp.slot⟩, ⟨H.size, Th.fStack.slot⟩]) := by
    refine ⟨by rw [Array.size_setIfInBounds]; exact hS1.1, fun q q1 q2 => ?_, fun x hx => ?_⟩
    · rw [Array.getElem?_setIfInBounds, if_neg (fun e : H.size = q => q2 (e ▸ hq))]
      exact hS1.2.1 q q1 q2
    · rcases List.mem_append.mp hx with hx | hx
      · exact hS1.2.2 x hx
      · simp only [List.mem_cons, List.not_mem_nil, or_false] at hx
        rcases hx with rfl | rfl | rfl | rfl <;> exact hq
  have hw := hk (adn ad m.2.2.2.1 H.size) _ _ ls k5 hS5 (LH_same (fun z hz => adn_ne hz) hwl hl) hlen (wfL_up hup hwl) (wfs_c (v := mR m.2.2.2.1) w1 (fun v hv => wfv_up hup (hws v hv))) (fun z hz => (adn_ne (Int.lt_of_lt_of_le hz h1.1)).trans (had z hz)) ⟨Int.le_trans h1.1 hup, hck.1⟩ ⟨by show s0 ≤ m.2.2.2.2 + 6; have := h2.1; omega, hck.2⟩
  dsimp only at hw
  rw [c1, c2, c3] at hw
  obtain ⟨t, a1, b1⟩ := hw _ rfl X₂
  refine ⟨t, st1 _ (fun acts => ?_), b1⟩
  rw [doInvoke_state]
  exact st2 t a1
end
