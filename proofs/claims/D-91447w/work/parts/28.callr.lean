/-! the rule of a call: from the callee's word to the caller's next configuration -/
set_option maxHeartbeats 800000
theorem m_take_spec : ∀ (n : Nat) (S acc as r : List mV), m_take n S acc = some (as, r) → ∃ bs : List mV, bs.length = n ∧ as = bs.reverse ++ acc ∧ S = bs ++ r
  | 0, S, acc, as, r, h => by cases h; exact ⟨[], rfl, rfl, rfl⟩
  | n + 1, [], acc, as, r, h => by cases h
  | n + 1, v :: S, acc, as, r, h => by
    obtain ⟨bs, h1, h2, h3⟩ := m_take_spec n S (v :: acc) as r h
    exact ⟨v :: bs, by simp [h1], by rw [h2]; simp, by rw [h3]; rfl⟩
theorem va_S_tr {A : Nat → Prop} {H0 H1 H2 : Heap} {L1 L2 : List Loc} (h1 : va_S A H0 H1 L1) (h2 : va_S A H1 H2 L2) : va_S A H0 H2 (L1 ++ L2) := by
  refine ⟨Nat.le_trans h1.1 h2.1, fun q hq hA => ?_, fun q hq => ?_⟩
  · rw [h2.2.1 q (Nat.lt_of_lt_of_le hq h1.1) hA]
    exact h1.2.1 q hq hA
  · rcases List.mem_append.mp hq with h | h
    · exact h1.2.2 q h
    · exact h2.2.2 q h
theorem cat_sum (ad : Int → Nat) : ∀ r : List mV, ((r.map (gvv ad)).map (fun v => v.category)).sum ≤ 2 * r.length
  | [] => Nat.le_refl 0
  | v :: r => by
    have h := cat_sum ad r
    have hc : (gvv ad v).category ≤ 2 := by
      cases hj : m_isJv v with
      | true => rw [gvv_cat2 ad v hj]; exact Nat.le_refl 2
      | false => rw [gvv_cat1 ad v hj]; decide
    simp only [List.map_cons, List.sum_cons, List.length_cons]
    omega
/-- what is known of old cells lasts -/
def gCk (Γ : gT) : Prop := ∀ (s U : State) (ad0 ad : Int → Nat), s.WarmedH U.vm → (∀ q : Nat, q < s.heap.size → ¬ gA Γ q → U.heap[q]? = s.heap[q]?) → (∀ z, z < NX0 → ad z = ad0 z) → gC Γ s s.heap ad0 → gC Γ U U.heap ad
/-- a call at pc of the method y comes to the method c', if G -/
def CO (Γ : gT) (y pc np n c' : Nat) (G : mM → List mV → Prop) : Prop :=
  plainName (gnm Γ c').cls = true ∧ cwd Γ c' ∈ lw_all ∧ Cond.initialized (gnm Γ c').cls ∈ lw_all ∧ gmx Γ c' ≤ 41 ∧ (∃ ig len, decode (gby Γ y) pc = .ok (ig, len) ∧ pc + len = np) ∧
  ∀ (p : Program) (l : Launch) (e : Env) (R : Room) (s : State) (mid : MethodId) (args : Array Value) (below : List Frame) (meth : Method) (c : Code) (ad0 : Int → Nat) (T : State) (locs : List Loc) (cells slots : Nat) (ad : Int → Nat) (m : mM) (as r : List mV) (g : JFrame),
    Cx Γ y p s mid args meth c ad0 → Stand p l e R s mid args below meth c T locs cells slots → AbH Γ ad m T.heap → va_S (gA Γ) s.heap T.heap locs → (∀ z, z < NX0 → ad z = ad0 z) → (∀ v ∈ as, wfv m.2.2.2.1 v) → as.length = n → G m as → g.method = mid → g.pc = pc → g.stack = (as.reverse ++ r).map (gvv ad) →
    Lk p l e R s mid args below meth c T locs cells slots g (r.map (gvv ad)) (gnm Γ c') (as.map (gvv ad)).toArray
/-- the exception a lies over the frame at pc -/
def TH (Γ : gT) (p : Program) (l : Launch) (e : Env) (R : Room) (s : State) (mid : MethodId) (args : Array Value) (below : List Frame) (meth : Method) (c : Code) (ad0 : Int → Nat) (n0 s0 : Int) (Qm : State → Prop) (pc : Nat) (L : mL) (a : Int) (m : mM) : Prop :=
  ∀ (ad : Int → Nat) (locs : List Loc) (ls : Array Slot) (st : List Value) (T : State), AbH Γ ad m T.heap → va_S (gA Γ) s.heap T.heap locs → LH ad ls L → c.maxLocals = L.length → wfL m.2.2.2.1 L → 0 < a → a < m.2.2.2.1 →
    (∀ z, z < n0 → ad z = ad0 z) → (n0 ≤ m.2.2.2.1 ∧ m.2.2.2.1 ≤ CXm) → (s0 ≤ m.2.2.2.2 ∧ m.2.2.2.2 ≤ SXm) → Stand p l e R s mid args below meth c T locs (m.2.2.2.1 - n0).toNat (m.2.2.2.2 - s0).toNat →
    ∃ t, Steps p.tables e below ((T.setTop (F0 mid pc ls st)).pushFrame (.throwing (ad a))) t ∧ Qm t
theorem call_rule {Γ : gT} (hGC : gCk Γ) {d' y pc np n c' u : Nat} {G : mM → List mV → Prop} (hco : CO Γ y pc np n c' G) {K : mQ mM} {as r : List mV} {L : mL} {m : mM} {Q : mQ mM} (hlen : as.length = n) (hG : G m as) (hZ : Zs Γ d' c' (0, entL u as, [], m) K) (hml : (entL u as).length = gmx Γ c') (hr : r.length ≤ 4)
    {p : Program} {l : Launch} {e : Env} {R : Room} {s : State} {mid : MethodId} {args : Array Value} {below : List Frame} {meth : Method} {c : Code} {ad0 : Int → Nat} {n0 s0 : Int} (hcx : Cx Γ y p s mid args meth c ad0) (hrm : Rm l R (d' + 1) n0 s0) (hn : NX0 ≤ n0)
    (hR : ∀ (v : Option mV) (m' : mM), K (.inl v) m' → WA Γ p l e R s mid args below meth c ad0 n0 s0 (EQ Γ s below ad0 n0 s0 Q) (np, L, v.toList ++ r, m'))
    (hT : ∀ (a : Int) (m' : mM), K (.inr a) m' → TH Γ p l e R s mid args below meth c ad0 n0 s0 (EQ Γ s below ad0 n0 s0 Q) pc L a m') :
    WA Γ p l e R s mid args below meth c ad0 n0 s0 (EQ Γ s below ad0 n0 s0 Q) (pc, L, as.reverse ++ r, m) := by
  obtain ⟨hpl, hcw, hini, hmx, ⟨ig, len, hdg, hnp⟩, hlk⟩ := hco
  intro ad H locs ls hab hS hl hll hwl hws had h1 h2 T hTH X
  subst hTH
  dsimp only at hab hl hll hwl hws h1 h2 X
  have hX := hcx
  obtain ⟨hx, hb, hmlc, hrt, hlks, hown, hnm, hts, hnst, hao, hK, hC, hex, hA⟩ := hX
  have hn' : (1000 : Int) ≤ n0 := hn
  have had0 : ∀ z, z < NX0 → ad z = ad0 z := fun z hz => had z (Int.lt_of_lt_of_le hz hn)
  have hwa : ∀ v ∈ as, wfv m.2.2.2.1 v := fun v hv => hws v (List.mem_append_left _ (List.mem_reverse.mpr hv))
  have hwr : ∀ v ∈ r, wfv m.2.2.2.1 v := fun v hv => hws v (List.mem_append_right _ hv)
  obtain ⟨vm₁, mk, X₁, hnm1, hnm2, hst⟩ := hlk p l e R s mid args below meth c ad0 T locs _ _ ad m as r (F0 mid pc ls ((as.reverse ++ r).map (gvv ad))) hcx X hab hS had0 hwa hlen hG rfl rfl rfl
  have hrd := pay_in hts lw_self
  have hM := Z_met hZ hpl hcw hml hwa ad (Int.le_trans hn h1.1) l hrm.2.2.2.2
  obtain ⟨methY, cY, hmY, hcY, -, hlY, -, -, -, -⟩ := cwd_spec hnm2 (hrd _ hcw #[] (T.setVm vm₁) X₁.warmed)
  have hWt : 2 * (F0 mid pc ls (r.map (gvv ad))).monitorRoom + ((F0 mid pc ls (r.map (gvv ad))).stack.map fun v => v.category).sum ≤ 8 := by
    have h3 := cat_sum ad r
    have h4 : (F0 mid pc ls (r.map (gvv ad))).monitorRoom = 0 := rfl
    rw [h4]
    show 2 * 0 + ((r.map (gvv ad)).map fun v => v.category).sum ≤ 8
    omega
  obtain ⟨hr1, hr2, hr3, hr4, hr5⟩ := hrm
  have hP : Pz Γ as ad m (as.map (gvv ad)).toArray ((T.setVm vm₁).calling (F0 mid pc ls (r.map (gvv ad))) mk (as.map (gvv ad)).toArray) := by
    refine ⟨rfl, hab, fun w hw hw2 => nstW_warm hw2 X₁.warmed (hnst w hw hw2), ⟨va_AO.moved X₁.warmed.alike hao.1, va_AO.moved X₁.warmed.alike hao.2⟩, va_K.moved X₁.warmed.alike hK, hGC s _ ad0 ad X₁.warmed (fun q hq hq2 => hS.2.1 q hq hq2) had0 hC, fun q hq => hA q (Nat.le_trans hS.1 hq), h1.2, h2.2⟩
  obtain ⟨o, t, U', Ls, k, nn, hq, ⟨out, m', ad', e1, e2, e3, e4, e5, e6, e7, e8, e9⟩, hU1, hU2, X2, hsteps⟩ := cl_any (Wt := 8) (maxL := gmx Γ c') (R := R) (sargs := args) hM (show d' + 8 + 1 ≤ R.frames by omega) (show 8 + (gmx Γ c' + 11) + (60 * d' + 160) ≤ R.locals by omega)
    (g := F0 mid pc ls (r.map (gvv ad))) (ig := ig) (len := len) (a := (as.map (gvv ad)).toArray) X₁ rfl (show ls.size = c.maxLocals by rw [hl.1, hll]) (by rw [hb]; exact hdg) hWt hnm2
    (atoms_intro (ws := lw_all) (fun w hw => hrd w hw _ _ X₁.warmed)) hmY hcY hlY (hrd _ hini _ _ X₁.warmed) (show (m.2.2.2.1 - n0).toNat + (CXm - m.2.2.2.1).toNat ≤ R.cells by have := h1.1; have := h1.2; omega) (show (m.2.2.2.2 - s0).toNat + (SXm - m.2.2.2.2).toNat ≤ R.slots by have := h2.1; have := h2.2; omega) hP
    (E := fun o t Ls k nn => ∃ (out : mO) (m' : mM) (ad' : Int → Nat), k = (m'.2.2.2.1 - m.2.2.2.1).toNat ∧ nn = (m'.2.2.2.2 - m.2.2.2.2).toNat ∧ va_S (gA Γ) T.heap t.heap Ls ∧ (m.2.2.2.1 ≤ m'.2.2.2.1 ∧ m'.2.2.2.1 ≤ CXm) ∧ (m.2.2.2.2 ≤ m'.2.2.2.2 ∧ m'.2.2.2.2 ≤ SXm) ∧ (∀ z, z < m.2.2.2.1 → ad' z = ad z) ∧ AbH Γ ad' m' t.heap ∧ OutR ad' m'.2.2.2.1 out o ∧ K out m')
    (fun o t ⟨out, m', ad', Ls, q1, q2, q3, q4, q5, q6, q7, q8, q9⟩ => ⟨Ls, _, _, q1, q2, out, m', ad', rfl, rfl, q3, q4, q5, q6, q7, q8, q9⟩)
  have ec : (m.2.2.2.1 - n0).toNat + k = (m'.2.2.2.1 - n0).toNat := by rw [e1]; have := h1.1; have := e4.1; omega
  have es : (m.2.2.2.2 - s0).toNat + nn = (m'.2.2.2.2 - s0).toNat := by rw [e2]; have := h2.1; have := e5.1; omega
  rw [ec, es] at X2
  have hS' : va_S (gA Γ) s.heap U'.heap (locs ++ Ls) := by rw [hU1]; exact va_S_tr hS e3
  have hab' : AbH Γ ad' m' U'.heap := by rw [hU1]; exact e7
  have hl' : LH ad' ls L := LH_same e6 hwl hl
  have hwl' := wfL_up e4.1 hwl
  have had' : ∀ z, z < n0 → ad' z = ad0 z := fun z hz => (e6 z (Int.lt_of_lt_of_le hz h1.1)).trans (had z hz)
  have hb1 : n0 ≤ m'.2.2.2.1 ∧ m'.2.2.2.1 ≤ CXm := ⟨Int.le_trans h1.1 e4.1, e4.2⟩
  have hb2 : s0 ≤ m'.2.2.2.2 ∧ m'.2.2.2.2 ≤ SXm := ⟨Int.le_trans h2.1 e5.1, e5.2⟩
  rcases out with v | a
  · have hov : o = .returned (v.map (gvv ad')) ∧ ∀ w ∈ v.toList, wfv m'.2.2.2.1 w := by
      rcases v with _ | v
      · exact ⟨e8, fun w hw => by cases hw⟩
      · refine ⟨e8.1, fun w hw => ?_⟩
        have : w = v := by simpa using hw
        rw [this]; exact e8.2
    obtain ⟨ho, hwv⟩ := hov
    subst ho
    have hw := hR v m' e9 ad' U'.heap (locs ++ Ls) ls hab' hS' hl' hll hwl' (fun w hw => by
      rcases List.mem_append.mp hw with h | h
      · exact hwv w h
      · exact wfv_up e4.1 (hwr w h)) had' hb1 hb2 U' rfl X2
    obtain ⟨t2, st2, hQ⟩ := hw
    refine ⟨t2, hst _ (hsteps.trans ?_), hQ⟩
    have hfr : ({ F0 mid pc ls (r.map (gvv ad)) with pc := pc + len, stack := (v.map (gvv ad')).toList ++ r.map (gvv ad) } : JFrame) = F0 mid np ls ((v.toList ++ r).map (gvv ad')) := by
      rw [List.map_append, map_same e6 r hwr, hnp]
      rcases v with _ | v <;> rfl
    rw [show ({ F0 mid pc ls (r.map (gvv ad)) with pc := (F0 mid pc ls (r.map (gvv ad))).pc + len, stack := (v.map (gvv ad')).toList ++ (F0 mid pc ls (r.map (gvv ad))).stack } : JFrame) = F0 mid np ls ((v.toList ++ r).map (gvv ad')) from hfr]
    exact st2
  · obtain ⟨ho, ha0, ha1⟩ := e8
    subst ho
    obtain ⟨t2, st2, hQ⟩ := hT a m' e9 ad' (locs ++ Ls) ls (r.map (gvv ad)) U' hab' hS' hl' hll hwl' ha0 ha1 had' hb1 hb2 X2
    exact ⟨t2, hst _ (hsteps.trans st2), hQ⟩
/-- thrown out of the method -/
theorem th_out {Γ : gT} {y pc : Nat} (hcov : ∀ q ∈ gex Γ y, ¬ (q.1 ≤ pc ∧ pc < q.2.1)) {p : Program} {l : Launch} {e : Env} {R : Room} {s : State} {mid : MethodId} {args : Array Value} {below : List Frame} {meth : Method} {c : Code} {ad0 : Int → Nat} {n0 s0 : Int} (hcx : Cx Γ y p s mid args meth c ad0) {Q : mQ mM} {L : mL} {a : Int} {m : mM} (hQ : Q (.inr a) m) :
    TH Γ p l e R s mid args below meth c ad0 n0 s0 (EQ Γ s below ad0 n0 s0 Q) pc L a m := by
  intro ad locs ls st T hab hS hl hll hwl ha0 ha1 had h1 h2 X
  obtain ⟨hx, hb, hmlc, hrt, hlks, hown, hnm, hts, hnst, hao, hK, hC, hex, hA⟩ := hcx
  have hout : ∀ x ∈ c.exceptionTable.toList, covers x pc = false := by
    intro x hxm
    have hq := hcov (x.startPc, x.endPc, x.handlerPc, x.catchType) (by rw [← hex]; exact List.mem_map.mpr ⟨x, hxm, rfl⟩)
    unfold covers
    simp only [Bool.and_eq_false_iff, decide_eq_false_iff_not]
    by_cases h : x.startPc ≤ pc
    · exact Or.inr (fun h' => hq ⟨h, h'⟩)
    · exact Or.inl h
  obtain ⟨q1, q2, q3, q4, q5⟩ := X.leaveThrown (ad a) (g := F0 mid pc ls st) rfl rfl rfl hout hlks
  exact ⟨_, q1, .threw (ad a), .inr a, m, ad, locs, q2, q3, q4, q5, hS, h1, h2, had, hab, ⟨rfl, ha0, ha1⟩, hQ⟩
