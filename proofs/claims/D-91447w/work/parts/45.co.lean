/-! calls: from the words of a constant pool entry to CO -/
set_option maxHeartbeats 800000
section
variable {Γ : gT}
/-- a method that may be called -/
def ckOk (Γ : gT) (c : Nat) : Prop := plainName (gnm Γ c).cls = true ∧ cwd Γ c ∈ lw_all ∧ Cond.initialized (gnm Γ c).cls ∈ lw_all ∧ gmx Γ c ≤ 41 ∧ ((gnm Γ c).cls ≠ "java/lang/invoke/MethodHandle" ∧ (gnm Γ c).cls ≠ "java/lang/invoke/VarHandle")
/-- the number of a descriptor's parameters -/
def dsl (d : String) (n : Nat) : Prop := (parseMethodDescriptor d).map (fun s => s.parameters.length) = some n
theorem dsl_of {d : String} {n : Nat} (h : dsl d n) (sig : MethodDescriptor) (hs : parseMethodDescriptor d = some sig) : n = sig.parameters.length := by
  unfold dsl at h
  rw [hs] at h
  exact (Option.some.inj h).symm
theorem named_st {s : State} {args : Array Value} {x : MethodName} (h : (Cond.static x).before args s = true) : ∃ mk, s.methodNamed? x = some mk := by
  cases hn : s.methodNamed? x with
  | some m => exact ⟨m, rfl⟩
  | none => simp [Cond.before, Cond.holds, Cond.value, hn] at h
theorem co_S {own : String} {idx n c' : Nat} (ck : ckOk Γ c') (hl : Cond.methodLink own idx (gnm Γ c') ∈ lw_all) (hst : Cond.static (gnm Γ c') ∈ lw_all) (hn : dsl (gnm Γ c').desc n) :
    ∀ y pc, (gnm Γ y).cls = own → decode (gby Γ y) pc = .ok (.invokestatic idx, 3) → CO Γ y pc (pc + 3) n c' (fun _ _ => True) := by
  intro y pc ho hd
  subst ho
  refine ⟨ck.1, ck.2.1, ck.2.2.1, ck.2.2.2.1, ⟨_, _, hd, rfl⟩, ?_⟩
  intro p l e R s mid args below meth c ad0 T locs cells slots ad m as r g ⟨hx, hb, hmxl, hrt, hlk, hown, hnm, hts, hnst, hao, hK, hC, hex, hA⟩ X hab hS had hw hlen hG hg hpc hstk
  obtain ⟨mk, hmk⟩ := named_st (hts _ hst)
  exact lk_S X hx hown (hts _ hl) (hts _ hst) (hts _ ck.2.2.1) hmk (hts _ ck.2.1) ck.2.2.2.2 hg (argsL := as.map (gvv ad)) (rest := r.map (gvv ad)) (fun sig hs => by rw [List.length_map, hlen]; exact dsl_of hn sig hs) (by rw [hstk, List.map_append, List.map_reverse]) (by rw [hpc, hb]; exact hd)
theorem co_SN {own host : String} {idx n c' : Nat} (ck : ckOk Γ c') (hl : Cond.methodLinkNest own idx (gnm Γ c') host ∈ lw_tbl) (hst : Cond.static (gnm Γ c') ∈ lw_all) (hn : dsl (gnm Γ c').desc n) :
    ∀ y pc, (gnm Γ y).cls = own → decode (gby Γ y) pc = .ok (.invokestatic idx, 3) → CO Γ y pc (pc + 3) n c' (fun _ _ => True) := by
  intro y pc ho hd
  subst ho
  refine ⟨ck.1, ck.2.1, ck.2.2.1, ck.2.2.2.1, ⟨_, _, hd, rfl⟩, ?_⟩
  intro p l e R s mid args below meth c ad0 T locs cells slots ad m as r g ⟨hx, hb, hmxl, hrt, hlk, hown, hnm, hts, hnst, hao, hK, hC, hex, hA⟩ X hab hS had hw hlen hG hg hpc hstk
  obtain ⟨mk, hmk⟩ := named_st (hts _ hst)
  exact lk_SN X hx hown (va_Nw.use rfl (hnst _ hl rfl)) (hts _ hst) (hts _ ck.2.2.1) hmk (hts _ ck.2.1) ck.2.2.2.2 hg (argsL := as.map (gvv ad)) (rest := r.map (gvv ad)) (fun sig hs => by rw [List.length_map, hlen]; exact dsl_of hn sig hs) (by rw [hstk, List.map_append, List.map_reverse]) (by rw [hpc, hb]; exact hd)
/-- the receiver -/
theorem recv_as {ad : Int → Nat} {m : mM} {as : List mV} {k : Nat} (hw : wfm Γ m) (hk : m.2.1 (m_recv as) = k) (h0 : k ≠ 0) : ∃ (a : Int) (bs : List mV), as = mR a :: bs ∧ m.2.1 a = k ∧ a ≠ 0 ∧ gvv ad (mR a) = .ref (ad a) := by
  rcases as with _ | ⟨v | v | v, bs⟩
  · have h1 := (hw.2.1 0 (by rw [show m.2.1 0 = k from hk]; exact h0)).1
    omega
  · have h1 := (hw.2.1 0 (by rw [show m.2.1 0 = k from hk]; exact h0)).1
    omega
  · have h1 := (hw.2.1 0 (by rw [show m.2.1 0 = k from hk]; exact h0)).1
    omega
  · have h1 := (hw.2.1 v (by rw [show m.2.1 v = k from hk]; exact h0)).1
    refine ⟨v, bs, rfl, hk, by omega, ?_⟩
    show va_rf (gr ad v) = _
    rw [va_rf_gr (by omega)]
theorem stk_as {ad : Int → Nat} {a : Int} {bs r : List mV} (h : gvv ad (mR a) = .ref (ad a)) : ((mR a :: bs).reverse ++ r).map (gvv ad) = (bs.map (gvv ad)).reverse ++ .ref (ad a) :: r.map (gvv ad) := by
  simp only [List.reverse_cons, List.append_assoc, List.map_append, List.map_reverse, List.map_cons, List.singleton_append, h]
/-- the kinds that a receiver may have -/
def kOk (Γ : gT) (G : Nat → Prop) (P : String → Prop) : Prop := ∀ k, G k → k ≠ 0 ∧ ∃ C, isC Γ k C ∧ P C
theorem co_V {own : String} {idx n c' : Nat} {G : Nat → Prop} (ck : ckOk Γ c') (hl : Cond.methodLink own idx (gnm Γ c') ∈ lw_all) (hin : Cond.instanceMethod (gnm Γ c') ∈ lw_all) (hk : kOk Γ G (fun C => Cond.selects C (gnm Γ c') (gnm Γ c') ∈ lw_all)) (hn : dsl (gnm Γ c').desc n) :
    ∀ y pc, (gnm Γ y).cls = own → decode (gby Γ y) pc = .ok (.invokevirtual idx, 3) → CO Γ y pc (pc + 3) (n + 1) c' (fun m as => G (m.2.1 (m_recv as))) := by
  intro y pc ho hd
  subst ho
  refine ⟨ck.1, ck.2.1, ck.2.2.1, ck.2.2.2.1, ⟨_, _, hd, rfl⟩, ?_⟩
  intro p l e R s mid args below meth c ad0 T locs cells slots ad m as r g ⟨hx, hb, hmxl, hrt, hlk, hown, hnm, hts, hnst, hao, hK, hC, hex, hA⟩ X hab hS had hw hlen hG hg hpc hstk
  obtain ⟨h0, C, hisC, hsel⟩ := hk _ hG
  obtain ⟨a, bs, rfl, ha, ha0, hga⟩ := recv_as (ad := ad) hab.2.2 rfl h0
  obtain ⟨-, cell, q1, q2, q3⟩ := recv_at hisC hK hC hab hS had ha
  rw [stk_as hga] at hstk
  rw [List.map_cons, hga]
  exact lk_V X hx hown (hts _ hl) (hts _ hin) (hts _ hsel) (hts _ ck.2.1) ck.2.2.2.2 q1 q2 q3 hg (argsL := bs.map (gvv ad)) (fun sig hs => by rw [List.length_map]; have := dsl_of hn sig hs; simp only [List.length_cons] at hlen; omega) hstk (by rw [hpc, hb]; exact hd)
theorem co_VN {own host : String} {idx n c' : Nat} {G : Nat → Prop} (ck : ckOk Γ c') (hl : Cond.methodLinkNest own idx (gnm Γ c') host ∈ lw_tbl) (hin : Cond.instanceMethod (gnm Γ c') ∈ lw_all) (hk : kOk Γ G (fun C => Cond.selects C (gnm Γ c') (gnm Γ c') ∈ lw_all)) (hn : dsl (gnm Γ c').desc n) :
    ∀ y pc, (gnm Γ y).cls = own → decode (gby Γ y) pc = .ok (.invokevirtual idx, 3) → CO Γ y pc (pc + 3) (n + 1) c' (fun m as => G (m.2.1 (m_recv as))) := by
  intro y pc ho hd
  subst ho
  refine ⟨ck.1, ck.2.1, ck.2.2.1, ck.2.2.2.1, ⟨_, _, hd, rfl⟩, ?_⟩
  intro p l e R s mid args below meth c ad0 T locs cells slots ad m as r g ⟨hx, hb, hmxl, hrt, hlk, hown, hnm, hts, hnst, hao, hK, hC, hex, hA⟩ X hab hS had hw hlen hG hg hpc hstk
  obtain ⟨h0, C, hisC, hsel⟩ := hk _ hG
  obtain ⟨a, bs, rfl, ha, ha0, hga⟩ := recv_as (ad := ad) hab.2.2 rfl h0
  obtain ⟨-, cell, q1, q2, q3⟩ := recv_at hisC hK hC hab hS had ha
  rw [stk_as hga] at hstk
  rw [List.map_cons, hga]
  exact lk_VN X hx hown (va_Nw.use rfl (hnst _ hl rfl)) (hts _ hin) (hts _ hsel) (hts _ ck.2.1) ck.2.2.2.2 q1 q2 q3 hg (argsL := bs.map (gvv ad)) (fun sig hs => by rw [List.length_map]; have := dsl_of hn sig hs; simp only [List.length_cons] at hlen; omega) hstk (by rw [hpc, hb]; exact hd)
/-- the words of a declared method -/
def deOk (z : MethodName) : Prop := Cond.declares z ∈ lw_tbl ∨ (Cond.instanceMethod z ∈ lw_all ∧ ∃ (b : ByteArray) (mx : Nat) (rt : Option FieldType), Cond.code z b mx rt ∈ lw_all)
theorem decl_of {s : State} {args : Array Value} {z : MethodName} (h : deOk z) (hts : ∀ w ∈ lw_all, w.before args s = true) (hnst : ∀ w ∈ lw_tbl, nstW w = true → va_Nw w s) : va_Decl s z := by
  rcases h with h | ⟨h1, b, mx, rt, h2⟩
  · exact va_Decl.abs (hnst _ h rfl)
  · exact va_Decl.of (hts _ h1) (hts _ h2)
/-- an inherited or overridden method -/
theorem co_VU {own owner : String} {idx n c' : Nat} {x : MethodName} {G : Nat → Prop} (ck : ckOk Γ c') (hl : Cond.methodLink own idx x ∈ lw_all) (hsa : Cond.sameMethod x.cls owner x.name x.desc ∈ lw_all) (hde : deOk ⟨owner, x.name, x.desc⟩) (hone : owner ≠ "java/lang/invoke/MethodHandle" ∧ owner ≠ "java/lang/invoke/VarHandle") (hin : Cond.instanceMethod (gnm Γ c') ∈ lw_all) (hk : kOk Γ G (fun C => Cond.selects C x (gnm Γ c') ∈ lw_all)) (hn : dsl x.desc n) :
    ∀ y pc, (gnm Γ y).cls = own → decode (gby Γ y) pc = .ok (.invokevirtual idx, 3) → CO Γ y pc (pc + 3) (n + 1) c' (fun m as => G (m.2.1 (m_recv as))) := by
  intro y pc ho hd
  subst ho
  refine ⟨ck.1, ck.2.1, ck.2.2.1, ck.2.2.2.1, ⟨_, _, hd, rfl⟩, ?_⟩
  intro p l e R s mid args below meth c ad0 T locs cells slots ad m as r g ⟨hx, hb, hmxl, hrt, hlk, hown, hnm, hts, hnst, hao, hK, hC, hex, hA⟩ X hab hS had hw hlen hG hg hpc hstk
  obtain ⟨h0, C, hisC, hsel⟩ := hk _ hG
  obtain ⟨a, bs, rfl, ha, ha0, hga⟩ := recv_as (ad := ad) hab.2.2 rfl h0
  obtain ⟨-, cell, q1, q2, q3⟩ := recv_at hisC hK hC hab hS had ha
  rw [stk_as hga] at hstk
  rw [List.map_cons, hga]
  exact lk_VU X hx hown (hts _ hl) (hts _ hsa) (decl_of hde hts hnst) hone (hts _ hsel) (hts _ hin) q1 q2 q3 hg (argsL := bs.map (gvv ad)) (fun sig hs => by rw [List.length_map]; have := dsl_of hn sig hs; simp only [List.length_cons] at hlen; omega) hstk (by rw [hpc, hb]; exact hd)
theorem co_I {own : String} {idx n c' : Nat} {G : Nat → Prop} (ck : ckOk Γ c') (h1 : (gnm Γ c').name = "<init>") (hcw : Cond.code (gnm Γ c') (gby Γ c') (gmx Γ c') none ∈ lw_all) (hl : Cond.methodLink own idx (gnm Γ c') ∈ lw_all) (hin : Cond.instanceMethod (gnm Γ c') ∈ lw_all) (hk : ∀ k, G k → k ≠ 0) (hn : dsl (gnm Γ c').desc n) :
    ∀ y pc, (gnm Γ y).cls = own → decode (gby Γ y) pc = .ok (.invokespecial idx, 3) → CO Γ y pc (pc + 3) (n + 1) c' (fun m as => G (m.2.1 (m_recv as))) := by
  intro y pc ho hd
  subst ho
  refine ⟨ck.1, ck.2.1, ck.2.2.1, ck.2.2.2.1, ⟨_, _, hd, rfl⟩, ?_⟩
  intro p l e R s mid args below meth c ad0 T locs cells slots ad m as r g ⟨hx, hb, hmxl, hrt, hlk, hown, hnm, hts, hnst, hao, hK, hC, hex, hA⟩ X hab hS had hw hlen hG hg hpc hstk
  obtain ⟨a, bs, rfl, ha, ha0, hga⟩ := recv_as (ad := ad) hab.2.2 rfl (hk _ hG)
  rw [stk_as hga] at hstk
  rw [List.map_cons, hga]
  exact lk_I X hx hown h1 (hts _ hl) (hts _ hin) (hts _ hcw) ck.2.2.2.2 hg (argsL := bs.map (gvv ad)) (fun sig hs => by rw [List.length_map]; have := dsl_of hn sig hs; simp only [List.length_cons] at hlen; omega) hstk (by rw [hpc, hb]; exact hd)
theorem co_IN {own host : String} {idx n c' : Nat} {G : Nat → Prop} (ck : ckOk Γ c') (h1 : (gnm Γ c').name = "<init>") (hcw : Cond.code (gnm Γ c') (gby Γ c') (gmx Γ c') none ∈ lw_all) (hl : Cond.methodLinkNest own idx (gnm Γ c') host ∈ lw_tbl) (hin : Cond.instanceMethod (gnm Γ c') ∈ lw_all) (hk : ∀ k, G k → k ≠ 0) (hn : dsl (gnm Γ c').desc n) :
    ∀ y pc, (gnm Γ y).cls = own → decode (gby Γ y) pc = .ok (.invokespecial idx, 3) → CO Γ y pc (pc + 3) (n + 1) c' (fun m as => G (m.2.1 (m_recv as))) := by
  intro y pc ho hd
  subst ho
  refine ⟨ck.1, ck.2.1, ck.2.2.1, ck.2.2.2.1, ⟨_, _, hd, rfl⟩, ?_⟩
  intro p l e R s mid args below meth c ad0 T locs cells slots ad m as r g ⟨hx, hb, hmxl, hrt, hlk, hown, hnm, hts, hnst, hao, hK, hC, hex, hA⟩ X hab hS had hw hlen hG hg hpc hstk
  obtain ⟨a, bs, rfl, ha, ha0, hga⟩ := recv_as (ad := ad) hab.2.2 rfl (hk _ hG)
  rw [stk_as hga] at hstk
  rw [List.map_cons, hga]
  exact lk_IN X hx hown h1 (va_Nw.use rfl (hnst _ hl rfl)) (hts _ hin) (hts _ hcw) ck.2.2.2.2 hg (argsL := bs.map (gvv ad)) (fun sig hs => by rw [List.length_map]; have := dsl_of hn sig hs; simp only [List.length_cons] at hlen; omega) hstk (by rw [hpc, hb]; exact hd)
theorem co_SU {own : String} {idx n c' : Nat} {G : Nat → Prop} (ck : ckOk Γ c') (h1 : (gnm Γ c').name ≠ "<init>") (hl : Cond.methodLink own idx (gnm Γ c') ∈ lw_all) (hsa : Cond.sameMethod (gnm Γ c').cls (gnm Γ c').cls (gnm Γ c').name (gnm Γ c').desc ∈ lw_all) (hsup : Cond.superclass own (gnm Γ c').cls ∈ lw_all) (hin : Cond.instanceMethod (gnm Γ c') ∈ lw_all) (hk : kOk Γ G (fun _ => True)) (hn : dsl (gnm Γ c').desc n) :
    ∀ y pc, (gnm Γ y).cls = own → decode (gby Γ y) pc = .ok (.invokespecial idx, 3) → CO Γ y pc (pc + 3) (n + 1) c' (fun m as => G (m.2.1 (m_recv as))) := by
  intro y pc ho hd
  subst ho
  refine ⟨ck.1, ck.2.1, ck.2.2.1, ck.2.2.2.1, ⟨_, _, hd, rfl⟩, ?_⟩
  intro p l e R s mid args below meth c ad0 T locs cells slots ad m as r g ⟨hx, hb, hmxl, hrt, hlk, hown, hnm, hts, hnst, hao, hK, hC, hex, hA⟩ X hab hS had hw hlen hG hg hpc hstk
  obtain ⟨h0, C, hisC, -⟩ := hk _ hG
  obtain ⟨a, bs, rfl, ha, ha0, hga⟩ := recv_as (ad := ad) hab.2.2 rfl h0
  obtain ⟨-, cell, q1, q2, q3⟩ := recv_at hisC hK hC hab hS had ha
  obtain ⟨kB, hkB, -⟩ := Vm.findClass_spec q3
  rw [stk_as hga] at hstk
  rw [List.map_cons, hga]
  exact lk_SU X hx hown (hts _ hl) (hts _ hsa) (hts _ hsup) (hts _ hin) (hts _ ck.2.1) h1 q1 q2 hkB hg (argsL := bs.map (gvv ad)) (fun sig hs => by rw [List.length_map]; have := dsl_of hn sig hs; simp only [List.length_cons] at hlen; omega) hstk (by rw [hpc, hb]; exact hd)
end
