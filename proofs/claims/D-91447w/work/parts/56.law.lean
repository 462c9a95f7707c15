/-! THE CLAIM out of the mini-VM's walk of the law -/
set_option maxHeartbeats 3200000
def m0 (L : Nat) (xs st : Int → Int) : mM := ((oMem L xs st).1, (oMem L xs st).2.1, (oMem L xs st).2.2, 1000, 0)
/-- what is to be shown of the mini-VM -/
def Hlaw : Prop := ∀ (L : Nat) (xs st : Int → Int), L ≤ 384 → (∀ j, i32 (xs j)) → (∀ k, 0 ≤ st k ∧ st k < 1000) → st 2 = 59 → Rn rO rK tQ tU 1390 366 (0, [some (mR 50), none, none, none, none, none, none], [], m0 L xs st) (fun o _ => o = .inl (some (mI 1)))
def lw_P (b : Addr) (xs : List Int32) (args : Array Value) (s : State) : Prop := args = #[.ref b] ∧ s.IntsAt b xs ∧ xs.length ≤ 384 ∧ (Jvm.Cond.and given_1 narrow_1).before args s = true
def lw_Q (_ : Array Value) (s : State) (o : Outcome) (t : State) : Prop := o = .returned (some (.int 1)) ∧ Framed s o t [] 1201024 5493034
theorem AbH_0 {D : va_G} {dA : Nat → ClassId} {A : Nat → Prop} {L : Nat} {xs st : Int → Int} {ad : Int → Nat} {H : Heap} : AbH (g0 (iX D dA A L xs st)) ad (m0 L xs st) H := by
  have e : wsO (g0 (iX D dA A L xs st)) ad (m0 L xs st) = [] := rfl
  have e1 : va_P (gD (g0 (iX D dA A L xs st))) (gcl (g0 (iX D dA A L xs st))) (wsO (g0 (iX D dA A L xs st)) ad (m0 L xs st)) H := by
    rw [e]
    intro k q hk
    simp at hk
  have e2 : va_D (gA (g0 (iX D dA A L xs st))) (wsO (g0 (iX D dA A L xs st)) ad (m0 L xs st)) := by
    rw [e]
    exact ⟨fun i j p q hp => by simp at hp, fun k q hk => by simp at hk⟩
  refine ⟨e1, e2, by show (1000 : Int) ≤ 1000; omega, fun z hz => ?_, fun z h0 h1 => ?_, fun z hz => ⟨?_, rfl, rfl, rfl⟩⟩
  · have hz : (oMem L xs st).2.1 z ≠ 0 := hz
    show 0 < z ∧ z < 1000
    unfold oMem at hz; dsimp only at hz
    repeat' (split at hz)
    all_goals first | omega | (exact absurd rfl hz)
  · have h0 : (1000 : Int) ≤ z := h0
    have h1 : z < (1000 : Int) := h1
    omega
  · intro hd
    have e : (gcl (g0 (iX D dA A L xs st))).length = 27 := rfl
    have hd : dynK (gcl (g0 (iX D dA A L xs st))) ((oMem L xs st).2.1 z) := hd
    unfold dynK at hd
    rw [e] at hd
    unfold oMem at hd; dsimp only at hd
    repeat' (split at hd)
    all_goals omega
/-- the private methods' selects, those of a superclass too -/
theorem sel_up {C : String} {n : Nat} {y z : MethodName} {args : Array Value} {s : State} (hy : y.cls ≠ "java/lang/invoke/MethodHandle" ∧ y.cls ≠ "java/lang/invoke/VarHandle") (hins : (Cond.instantiable C n).before args s = true) (hpr : (Cond.privateMethod y).before args s = true) (hin : (Cond.instanceMethod y).before args s = true) (hz : z.cls = y.cls) (hsel : (Cond.selects C z z).before args s = true) : (Cond.selects C y y).before args s = true := by
  obtain ⟨c, k, hc, hk, -, -, -, -⟩ := Cond.instantiable_spec hins
  obtain ⟨mk, methM, hnamed, hmethM, -, -⟩ := Cond.instanceMethod_spec hin
  obtain ⟨c2, r2, m2, z1, z2, z3, z4, kP, hkP, hkPi⟩ := Cond.selects_spec hsel
  have hmc : m2.cls = mk.cls := by
    have f1 := findClass_of_methodNamed z3
    rw [hz] at f1
    exact Option.some.inj (f1.symm.trans (findClass_of_methodNamed hnamed))
  rw [hmc] at hkP
  have hfound : s.methodFound? y.cls y.name y.desc = some mk := State.methodFound?_of_named hnamed hy
  have hs : selectMethod {} s.vm c mk = .method mk := selectMethod_private hmethM (Cond.privateMethod_at hpr mk methM hnamed hmethM)
  simp only [Cond.before, Cond.holds, Cond.value, hc, hfound, hnamed, hs, hkP]
  simp; exact hkPi
theorem ext_ok {args : Array Value} {s : State} (t1 : ∀ w ∈ tables_1, w.before args s = true) : ∀ w ∈ lw_ext, w.before args s = true := by
  intro w hw
  rcases List.mem_cons.mp hw with e | hw
  · rw [e]
    exact sel_up (z := ⟨"java/lang/AbstractStringBuilder", "isLatin1", "()Z"⟩) ⟨by decide, by decide⟩ (t1 _ wx_i) (t1 _ wx_p0) (t1 _ wx_n0) rfl (t1 _ wx_s)
  · rcases List.mem_cons.mp hw with e | hw
    · rw [e]
      exact sel_up (z := ⟨"java/lang/AbstractStringBuilder", "isLatin1", "()Z"⟩) ⟨by decide, by decide⟩ (t1 _ wx_i) (t1 _ wx_p1) (t1 _ wx_n1) rfl (t1 _ wx_s)
    · cases hw
theorem nst_of {w : Cond} {args : Array Value} {s : State} (h : w.before args s = true) (hw : nstW w = true) : va_Nw w s := by
  cases w <;> first | (simp [nstW] at hw; done) | exact va_tabs rfl rfl h
theorem lw_walk (H : Hlaw) (l : Launch) (hst : l.stackTraces = false) (b : Addr) (xs : List Int32) : MetFree l x (headSpec (Jvm.Cond.code x code maxLocals ret :: tables_1) room_1) (lw_P b xs) (fun _ _ _ _ _ => True) lw_Q := by
  refine MetFree.of_bodyS (code := code) (maxLocals := maxLocals) (ret := ret) (by decide) ?_ ?_
  · intro args s m h hn
    obtain ⟨meth, c, h1, h2, h3, h4, h5, h6, -, -⟩ := Cond.code_spec hn (atoms_spec (ws := Jvm.Cond.code x code maxLocals ret :: tables_1) h _ List.mem_cons_self)
    exact ⟨meth, c, h1, h2, h3, h4, h5, h6⟩
  · intro p e s m args below meth c s₁ B hml0 hP _
    obtain ⟨rfl, hx, hbd, hgv⟩ := hP
    obtain ⟨scr, harrAt, hlist, hof, hsmall⟩ := hx
    obtain ⟨hcb, hkn, -, -⟩ := State.arrayAt?_spec harrAt
    have hts0 : ∀ c ∈ (Jvm.Cond.code x code maxLocals ret :: tables_1), c.before #[Value.ref b] s = true := atoms_spec (ws := Jvm.Cond.code x code maxLocals ret :: tables_1) B.pre
    have hts1 : ∀ w ∈ k2_sels lw_privs ++ tables_1, w.before #[Value.ref b] s = true := k2_hts_sels lw_privs (fun w hw => hts0 w (List.mem_cons_of_mem _ hw)) lw_privs_ok
    have hts : ∀ w ∈ lw_tbl, w.before #[Value.ref b] s = true := by
      intro w hw
      rcases List.mem_append.mp hw with h | h
      · rcases List.mem_append.mp h with h | h
        · exact hts1 w (List.mem_append_left _ h)
        · have t1 : ∀ w ∈ tables_1, w.before #[Value.ref b] s = true := fun w hw => hts1 w (List.mem_append_right _ hw)
          exact ext_ok t1 w h
      · exact hts1 w (List.mem_append_right _ h)
    have hal : ∀ w ∈ lw_all, w.before #[Value.ref b] s = true := fun w hw => hts w (lw_all_tbl hw)
    have hsz : scr.slots.size = xs.length := by rw [← Array.length_toList, hlist, List.length_map]
    have hval : ∀ j : Nat, j < xs.length → scr.slots[j]? = some (.int (xs.getD j 0)) := fun j hj => by
      rw [← Array.getElem?_toList, hlist]
      simp [hj]
    have hX : va_X b xs.length (fun j => xs.getD j 0) s s.heap := ⟨scr, hcb, hof, hkn, hsz, hval⟩
    have hn : ∀ c ∈ nC, c.before #[Value.ref b] s = true := flat_of_before _ hgv
    obtain ⟨ad, st, hs1, hs2, hs3, hC⟩ := gC_start (A := fun q => s.heap.size ≤ q) hn hts hX hbd (fun a ha => Nat.not_le.mpr ha)
    obtain ⟨D, dA, hK⟩ := K_start hal hts
    have hi : ∀ j : Int, i32 ((fun j : Int => (xs.getD j.toNat 0).toInt) j) := fun j => o32_b _
    have hZ := Lsound (X := iX D dA (fun q => s.heap.size ≤ q) xs.length (fun j => (xs.getD j.toNat 0).toInt) st) (i_gG hi (by omega) hs1) (i_gO hs1) (i_gCk hs1) (H xs.length (fun j => (xs.getD j.toNat 0).toInt) st hbd hi hs1 hs2) rfl
    obtain ⟨meth', c', h1, h2, -, -, -, -, hex, -⟩ := cwd_spec (Γ := g0 (iX D dA (fun q => s.heap.size ≤ q) xs.length (fun j => (xs.getD j.toNat 0).toInt) st)) (y := 366) (args := #[Value.ref b]) B.named (hts0 _ List.mem_cons_self)
    have hm' : meth' = meth := Option.some.inj (h1.symm.trans B.method)
    subst hm'
    have hc' : c' = c := Option.some.inj (h2.symm.trans (Stand.of_body B).code)
    subst hc'
    have hml : c'.maxLocals = 7 := B.maxLocals_eq (hts0 _ List.mem_cons_self)
    have hcx : Cx (g0 (iX D dA (fun q => s.heap.size ≤ q) xs.length (fun j => (xs.getD j.toNat 0).toInt) st)) 366 p s m #[Value.ref b] meth' c' ad := ⟨B.exec, B.bytes, hml, B.returns, B.notSynchronized, findClass_of_methodNamed B.named, (name_of_methodNamed B.named B.method).1, hal, fun w hw hw2 => nst_of (hts w hw) hw2, ⟨va_AO.of (hts _ w_ao.1), va_AO.of (hts _ w_ao.2)⟩, hK _ _ _ _, hC, hex, fun q hq => hq⟩
    have hrm : Rm l room_1 1390 1000 0 := ⟨by decide, by decide, by decide, by decide, hst⟩
    have hlen : (entL 6 [mR 50]).length = 7 := rfl
    have hw := hZ p l e room_1 s m #[Value.ref b] below meth' c' ad 1000 0 hcx hrm (by show (1000 : Int) ≤ 1000; omega) ad s.heap [] _ AbH_0 ⟨Nat.le_refl _, fun _ _ _ => rfl, fun q hq => by cases hq⟩ (LH_entry (u := 6) (as := [mR 50]) (n := 7) hlen) hml (fun k v hk => by
      have := (entL_args ad 6 [mR 50] 0 k v hk).2
      rw [List.mem_singleton] at this
      rw [this]
      show (0 : Int) ≤ 50 ∧ (50 : Int) < 1000
      omega) (fun v hv => by cases hv) (fun _ _ => rfl) ⟨by show (1000 : Int) ≤ 1000; omega, by show (1000 : Int) ≤ 1000 + 1201024; omega⟩ ⟨by show (0 : Int) ≤ 0; omega, by show (0 : Int) ≤ 5493034; omega⟩
    have hh0 : s₁.heap = s.heap := by rw [B.state]; rfl
    have hargs : #[Value.ref b] = ([mR 50].map (gvv ad)).toArray := by
      show #[Value.ref b] = #[va_rf (gr ad 50)]
      rw [va_rf_gr (by omega), hs3]
    have he : entryFrame m #[Value.ref b] 7 = F0 m 0 ((lg_sl ([mR 50].map (gvv ad)) ++ List.replicate (7 - (lg_sl ([mR 50].map (gvv ad))).length) Slot.unset).toArray) [] := by rw [hargs]; exact lg_entry_eq m _ _
    obtain ⟨t, a1, o, out, m', ad', Lc, b1, b2, b3, b4, b5, b6, b7, b8, b9, b10, b11⟩ := hw s₁ hh0 (stand_widen (Stand.of_body B) (Nat.zero_le _) (Nat.zero_le _))
    subst b11
    obtain ⟨ho, -⟩ := b10
    subst ho
    refine ⟨t, _, ?_, b1, b2, ?_, ⟨_, rfl⟩, b3, ?_⟩
    · have a2 : Steps p.tables e below (s₁.setTop (F0 m 0 ((lg_sl ([mR 50].map (gvv ad)) ++ List.replicate (7 - (lg_sl ([mR 50].map (gvv ad))).length) Slot.unset).toArray) [])) t := a1
      rw [← he] at a2
      exact a2
    · rfl
    · refine b4.weaken (fun y hy hlt => ?_) (by have h6 : m'.2.2.2.1 ≤ 1000 + 1201024 := b6.2; show (m'.2.2.2.1 - 1000).toNat ≤ 1201024; omega) (by have h7 : m'.2.2.2.2 ≤ 5493034 := b7.2; show (m'.2.2.2.2 - 0).toNat ≤ 5493034; omega)
      have hy2 : s.heap.size ≤ y.base := b5.2.2 y hy
      exact absurd hlt (Nat.not_lt.mpr hy2)
theorem lw_pre_spec {args : Array Value} {s : State} (h : (Jvm.Cond.and given_1 narrow_1).before args s = true) (hr : rest_1_c.before args s = true) : ∃ (b : Addr) (xs : List Int32), lw_P b xs args s := by
  have hs := flat_of_before _ h
  have hq := flat_of_before _ hr
  have hc : (Cond.count 1).before args s = true := hs _ (by decide +kernel)
  have harr : (Cond.arrayOf (.arg 0) .int).before args s = true := hs _ (by decide +kernel)
  have hle : (Cond.le (.length (.arg 0)) (.int 384)).before args s = true := hs _ (by decide +kernel)
  have hlen : (Cond.isInt (.length (.arg 0))).before args s = true := hq _ (by decide +kernel)
  have hall : (Cond.all (.arg 0) (.isInt (.elem (.arg 0) (.index 0)))).before args s = true := hq _ (by decide +kernel)
  obtain ⟨b, xs, hb, hx⟩ := State.ints_of_pre rfl harr hlen hall
  have hsm : xs.length < 2 ^ 31 := hx.choose_spec.2.2.2
  have hev : (Term.length (.arg 0)).eval args s none [] s = some (.int xs.length.toInt32) := hx.length_eval hb
  have hv := Cond.le_ints hev (show (Term.int 384).eval args s none [] s = some (.int 384) from rfl)
  have hd : xs.length.toInt32 ≤ 384 := by
    simpa [Cond.before, Cond.holds, hv] using hle
  have hN : xs.length ≤ 384 := (Int32.ofNat_le_ofNat hsm (by decide)).mp (show Int32.ofNat xs.length ≤ Int32.ofNat 384 from hd)
  exact ⟨b, xs, Cond.one_arg hc (show args[0]? = some (.ref b) from hb), hx, hN, h⟩
theorem lw_comes (H : Hlaw) (l : Launch) (hst : l.stackTraces = false) : Comes l x (Jvm.Cond.code x code maxLocals ret :: tables_1) room_1 (fun tb e args s => Calls_1 tb e args s ∧ rest_1 tb e args s ∧ Pre_1 tb e args s)
    (fun _ _ args s o t => lw_Q args s o t) := by
  intro p e ha hc hk s m args below hf hfit hheap happ hpre
  obtain ⟨b, xs, hP⟩ := lw_pre_spec hpre.2.2 hpre.2.1
  obtain ⟨k, o, h1, h2, h3, hQ⟩ := lw_walk H l hst b xs p e ha hc hk s m args below hf ((Spec.applies_iff_loose hf).mp happ).1 hP trivial
  exact ⟨k, o, h1, h2, h3, hQ⟩
theorem lw_frame {s t : State} {o : Outcome} {args : Array Value} (h : Framed s o t [] 1201024 5493034) :
    Framed s o t (fieldLocs frame_1_writes args s ++ arrayLocs frame_1_arrays args s ++ staticLocs frame_1_statics s) 1201024 5493034 := h
theorem lw_limb (H : Hlaw) (L : Cond) (hL : ∀ (args : Array Value) (s t : State), L.after args s (.returned (some (.int 1))) t = true) :
    ArmFor flags0 classFile x code maxLocals ret World_1 tables_1 room_1 Calls_1 rest_1 Pre_1
      (fun tb e a s o t => postC L tb e a s o t ∧ Framed s o t (fieldLocs frame_1_writes a s ++ arrayLocs frame_1_arrays a s ++ staticLocs frame_1_statics s) 1201024 5493034) := by
  intro l hfl _ _ p e ha hc hk s m args below hf hfit hheap happ hpre
  have hst : l.stackTraces = false := by
    unfold Launch.stackTraces
    rw [hfl]
    decide +kernel
  obtain ⟨k, o, h1, h2, h3, rfl, hF⟩ := lw_comes H l hst p e ha hc hk s m args below hf hfit hheap happ hpre
  exact ⟨k, _, h1, h2, h3, hL args s _, lw_frame hF⟩
/-- THE CLAIM, if the mini-VM has the law right -/
theorem claim_of (H : Hlaw) : Claimed_1_1 ∧ Claimed_1_2 := ⟨lw_limb H limb_1_1 (fun args s t => by simp [limb_1_1, Cond.after, Cond.holds, Cond.value]), lw_limb H limb_1_2 (fun args s t => Cond.after_iff.mpr (by
  first | (rw [show limb_1_2 = Cond.eq .result (.int 1) from rfl, Cond.eq_ints (x := 1) (y := 1) rfl rfl]; simp; done) | (simp [limb_1_2, Cond.value, Term.eval]; done)))⟩
