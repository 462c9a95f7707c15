/-! from the mini-VM to a contract at the machine -/
def entL (u : Nat) : List mV → mL
  | [] => m_unset u
  | .inr (.inl z) :: r => some (mJ z) :: none :: entL u r
  | .inl z :: r => some (mI z) :: entL u r
  | .inr (.inr z) :: r => some (mR z) :: entL u r
theorem m_unset_c : ∀ (n : Nat) (acc : mL), m_unset n ++ none :: acc = none :: (m_unset n ++ acc)
  | 0, acc => rfl
  | n + 1, acc => by
    show none :: (m_unset n ++ none :: acc) = none :: none :: (m_unset n ++ acc)
    rw [m_unset_c n acc]
theorem m_unsetK_eq {k : mL → Prop} : ∀ (n : Nat) (acc : mL), m_unsetK n acc k ↔ k (m_unset n ++ acc)
  | 0, acc => Iff.rfl
  | n + 1, acc => by
    show m_unsetK n (none :: acc) k ↔ k (none :: (m_unset n ++ acc))
    rw [m_unsetK_eq n (none :: acc), m_unset_c]
theorem m_entK_eq {u : Nat} : ∀ (as : List mV) (k : mL → Prop), m_entK u as k ↔ k (entL u as)
  | [], k => by
    show m_unsetK u [] k ↔ k (m_unset u)
    rw [m_unsetK_eq, List.append_nil]
  | .inr (.inl z) :: r, k => m_entK_eq r (fun L => k (some (mJ z) :: none :: L))
  | .inl z :: r, k => m_entK_eq r (fun L => k (some (mI z) :: L))
  | .inr (.inr z) :: r, k => m_entK_eq r (fun L => k (some (mR z) :: L))
theorem m_unset_none : ∀ (n k : Nat) (v : mV), (m_unset n)[k]? ≠ some (some v)
  | 0, k, v => by simp [m_unset]
  | n + 1, 0, v => by simp [m_unset]
  | n + 1, k + 1, v => by
    show (m_unset n)[k]? ≠ some (some v)
    exact m_unset_none n k v
theorem m_unset_len : ∀ n : Nat, (m_unset n).length = n
  | 0 => rfl
  | n + 1 => by show (m_unset n).length + 1 = n + 1; rw [m_unset_len n]
theorem entL_len (u : Nat) : ∀ as : List mV, (entL u as).length = m_words as + u
  | [] => by show (m_unset u).length = 0 + u; rw [m_unset_len]; omega
  | .inr (.inl z) :: r => by show (entL u r).length + 1 + 1 = (m_words r + 1 + 1) + u; rw [entL_len u r]; omega
  | .inl z :: r => by show (entL u r).length + 1 = (m_words r + 1) + u; rw [entL_len u r]; omega
  | .inr (.inr z) :: r => by show (entL u r).length + 1 = (m_words r + 1) + u; rw [entL_len u r]; omega
theorem gvv_cat_r (ad : Int → Nat) (z : Int) : (gvv ad (mR z)).category = 1 := gvv_cat1 ad (mR z) rfl
theorem sl_len (ad : Int → Nat) : ∀ as : List mV, (lg_sl (as.map (gvv ad))).length = m_words as
  | [] => rfl
  | .inr (.inl z) :: r => by
    have h := sl_len ad r
    show ((if (Value.long (Int64.ofInt z)).category = 2 then [Slot.val (Value.long (Int64.ofInt z)), Slot.second] else [Slot.val (Value.long (Int64.ofInt z))]) ++ lg_sl (r.map (gvv ad))).length = m_words r + 1 + 1
    rw [if_pos (show (Value.long (Int64.ofInt z)).category = 2 from rfl), List.length_append, h]
    simp; omega
  | .inl z :: r => by
    have h := sl_len ad r
    show ((if (Value.int (Int32.ofInt z)).category = 2 then [Slot.val (Value.int (Int32.ofInt z)), Slot.second] else [Slot.val (Value.int (Int32.ofInt z))]) ++ lg_sl (r.map (gvv ad))).length = m_words r + 1
    rw [if_neg (show ¬ (Value.int (Int32.ofInt z)).category = 2 from fun h => absurd (show (1 : Nat) = 2 from h) (by decide)), List.length_append, h]
    simp; omega
  | .inr (.inr z) :: r => by
    have h := sl_len ad r
    show ((if (gvv ad (mR z)).category = 2 then [Slot.val (gvv ad (mR z)), Slot.second] else [Slot.val (gvv ad (mR z))]) ++ lg_sl (r.map (gvv ad))).length = m_words r + 1
    rw [if_neg (by rw [gvv_cat_r]; decide), List.length_append, h]
    simp; omega
theorem entL_args (ad : Int → Nat) (u : Nat) : ∀ (as : List mV) (i k : Nat) (v : mV), (entL u as)[k]? = some (some v) → (i + k, gvv ad v) ∈ lv_args i (as.map (gvv ad)) ∧ v ∈ as
  | [], i, k, v, h => absurd h (m_unset_none u k v)
  | .inr (.inl z) :: r, i, k, v, h => by
    show (i + k, gvv ad v) ∈ (i, gvv ad (mJ z)) :: lv_args (if (Value.long (Int64.ofInt z)).category = 2 then i + 2 else i + 1) (r.map (gvv ad)) ∧ _
    rw [if_pos (show (Value.long (Int64.ofInt z)).category = 2 from rfl)]
    match k with
    | 0 =>
      have hv : mJ z = v := by simpa [entL] using h
      rw [← hv]
      exact ⟨List.mem_cons_self, List.mem_cons_self⟩
    | 1 => simp [entL] at h
    | k + 2 =>
      have h : (entL u r)[k]? = some (some v) := by simpa [entL] using h
      obtain ⟨h1, h2⟩ := entL_args ad u r (i + 2) k v h
      rw [show i + 2 + k = i + (k + 2) from by omega] at h1
      exact ⟨List.mem_cons_of_mem _ h1, List.mem_cons_of_mem _ h2⟩
  | .inl z :: r, i, k, v, h => by
    show (i + k, gvv ad v) ∈ (i, gvv ad (mI z)) :: lv_args (if (Value.int (Int32.ofInt z)).category = 2 then i + 2 else i + 1) (r.map (gvv ad)) ∧ _
    rw [if_neg (show ¬ (Value.int (Int32.ofInt z)).category = 2 from fun h => absurd (show (1 : Nat) = 2 from h) (by decide))]
    match k with
    | 0 =>
      have hv : mI z = v := by simpa [entL] using h
      rw [← hv]
      exact ⟨List.mem_cons_self, List.mem_cons_self⟩
    | k + 1 =>
      have h : (entL u r)[k]? = some (some v) := by simpa [entL] using h
      obtain ⟨h1, h2⟩ := entL_args ad u r (i + 1) k v h
      rw [show i + 1 + k = i + (k + 1) from by omega] at h1
      exact ⟨List.mem_cons_of_mem _ h1, List.mem_cons_of_mem _ h2⟩
  | .inr (.inr z) :: r, i, k, v, h => by
    show (i + k, gvv ad v) ∈ (i, gvv ad (mR z)) :: lv_args (if (gvv ad (mR z)).category = 2 then i + 2 else i + 1) (r.map (gvv ad)) ∧ _
    rw [if_neg (by rw [gvv_cat_r]; decide)]
    match k with
    | 0 =>
      have hv : mR z = v := by simpa [entL] using h
      rw [← hv]
      exact ⟨List.mem_cons_self, List.mem_cons_self⟩
    | k + 1 =>
      have h : (entL u r)[k]? = some (some v) := by simpa [entL] using h
      obtain ⟨h1, h2⟩ := entL_args ad u r (i + 1) k v h
      rw [show i + 1 + k = i + (k + 1) from by omega] at h1
      exact ⟨List.mem_cons_of_mem _ h1, List.mem_cons_of_mem _ h2⟩
theorem LH_entry {ad : Int → Nat} {u : Nat} {as : List mV} {n : Nat} (hn : (entL u as).length = n) : LH ad ((lg_sl (as.map (gvv ad)) ++ List.replicate (n - (lg_sl (as.map (gvv ad))).length) Slot.unset).toArray) (entL u as) := by
  have hle : (lg_sl (as.map (gvv ad))).length ≤ n := by rw [sl_len, ← hn, entL_len]; omega
  obtain ⟨h1, h2, h3⟩ := lv_entry (as.map (gvv ad)) hle
  refine ⟨by rw [h1, hn], h2, fun k v hk => ?_⟩
  have := (entL_args ad u as 0 k v hk).1
  rw [Nat.zero_add] at this
  exact h3 _ this
/-- the machine has this configuration right -/
def Zs (Γ : gT) (d y : Nat) (g : mG mM) (Q : mQ mM) : Prop := ∀ (p : Program) (l : Launch) (e : Env) (R : Room) (s : State) (mid : MethodId) (args : Array Value) (below : List Frame) (meth : Method) (c : Code) (ad0 : Int → Nat) (n0 s0 : Int),
  Cx Γ y p s mid args meth c ad0 → Rm l R d n0 s0 → NX0 ≤ n0 → WA Γ p l e R s mid args below meth c ad0 n0 s0 (EQ Γ s below ad0 n0 s0 Q) g
/-- a method's word -/
def cwd (Γ : gT) (y : Nat) : Cond := match gex Γ y with
  | [] => Cond.code (gnm Γ y) (gby Γ y) (gmx Γ y) (grt Γ y)
  | h :: t => Cond.codeWith (gnm Γ y) (gby Γ y) (gmx Γ y) (grt Γ y) (h :: t)
theorem cwd_spec {Γ : gT} {y : Nat} {args : Array Value} {s : State} {mk : MethodId} (hn : s.methodNamed? (gnm Γ y) = some mk) (h : (cwd Γ y).before args s = true) :
    ∃ meth c, s.vm.method? mk = some meth ∧ meth.code = some c ∧ c.code = gby Γ y ∧ c.maxLocals = gmx Γ y ∧ meth.sig.returnType = grt Γ y ∧ meth.locks = false ∧ c.exceptionTable.toList.map (fun h => (h.startPc, h.endPc, h.handlerPc, h.catchType)) = gex Γ y ∧ parseMethodDescriptor (gnm Γ y).desc = some meth.sig := by
  unfold cwd at h
  cases hx : gex Γ y with
  | nil =>
    rw [hx] at h
    obtain ⟨meth, c, h1, h2, h3, h4, h5, h6, h7, h8⟩ := Cond.code_spec hn h
    refine ⟨meth, c, h1, h2, h3, h4, h5, h6, ?_, h8⟩
    have : c.exceptionTable = #[] := by simpa using h7
    rw [this]; rfl
  | cons a t =>
    rw [hx] at h
    obtain ⟨m', meth, c, h0, h1, h2, h3, h4, h5, h6, h7, h8⟩ := Cond.codeWith_spec h
    cases hn.symm.trans h0
    exact ⟨meth, c, h1, h2, h3, h4, h6, h7, h5, h8⟩
def rmOf (d : Nat) (m : mM) : Room := { frames := d + 8, locals := 60 * d + 160, cells := (CXm - m.2.2.2.1).toNat, slots := (SXm - m.2.2.2.2).toNat }
def Pz (Γ : gT) (as : List mV) (ad : Int → Nat) (m : mM) : Array Value → State → Prop := fun args U => args = (as.map (gvv ad)).toArray ∧ AbH Γ ad m U.heap ∧ (∀ w ∈ lw_tbl, nstW w = true → va_Nw w U) ∧ (va_AO "java/lang/Object" U ∧ va_AO "TrustDesk$Fund" U) ∧ va_K (gD Γ) (gcl Γ) (gtys Γ) U ∧ gC Γ U U.heap ad ∧ (∀ q, U.heap.size ≤ q → gA Γ q) ∧ m.2.2.2.1 ≤ CXm ∧ m.2.2.2.2 ≤ SXm
def Qz (Γ : gT) (ad : Int → Nat) (m : mM) (K : mQ mM) : Array Value → State → Outcome → State → Prop := fun _ st o t => ∃ (out : mO) (m' : mM) (ad' : Int → Nat) (L : List Loc), st.WarmedH t.vm ∧ st.sameButNew ({ t with vm := st.vm } : State) L (m'.2.2.2.1 - m.2.2.2.1).toNat (m'.2.2.2.2 - m.2.2.2.2).toNat ∧
  va_S (gA Γ) st.heap t.heap L ∧ (m.2.2.2.1 ≤ m'.2.2.2.1 ∧ m'.2.2.2.1 ≤ CXm) ∧ (m.2.2.2.2 ≤ m'.2.2.2.2 ∧ m'.2.2.2.2 ≤ SXm) ∧ (∀ z, z < m.2.2.2.1 → ad' z = ad z) ∧ AbH Γ ad' m' t.heap ∧ OutR ad' m'.2.2.2.1 out o ∧ K out m'
theorem Z_met {Γ : gT} {d y u : Nat} {as : List mV} {m : mM} {K : mQ mM} (hZ : Zs Γ d y (0, entL u as, [], m) K) (hpl : plainName (gnm Γ y).cls = true) (hcw : cwd Γ y ∈ lw_all) (hlen : (entL u as).length = gmx Γ y) (hws : ∀ v ∈ as, wfv m.2.2.2.1 v) (ad : Int → Nat) (hn : NX0 ≤ m.2.2.2.1) (l : Launch) (hst : l.stackTraces = false) :
    MetFree l (gnm Γ y) (headSpec lw_all (rmOf d m)) (Pz Γ as ad m) (fun _ _ _ _ _ => True) (Qz Γ ad m K) := by
  refine MetFree.of_bodyS (code := gby Γ y) (maxLocals := gmx Γ y) (ret := grt Γ y) hpl ?_ ?_
  · intro args s mk h hnm
    obtain ⟨meth, c, h1, h2, h3, h4, h5, h6, -, -⟩ := cwd_spec hnm (atoms_spec (ws := lw_all) h _ hcw)
    exact ⟨meth, c, h1, h2, h3, h4, h5, h6⟩
  · intro p e s mid args below meth c s₁ B hml hP _
    obtain ⟨hargs, hab, hnst, hao, hK, hC, hA, hx1, hx2⟩ := hP
    have hts : ∀ w ∈ lw_all, w.before args s = true := atoms_spec (ws := lw_all) B.pre
    obtain ⟨meth', c', h1, h2, -, -, -, -, hex, -⟩ := cwd_spec B.named (hts _ hcw)
    have hm' : meth' = meth := Option.some.inj (h1.symm.trans B.method)
    subst hm'
    have hc' : c' = c := by
      have h := (Stand.of_body B).code
      exact Option.some.inj (h2.symm.trans h)
    subst hc'
    have hcx : Cx Γ y p s mid args meth' c' ad := ⟨B.exec, B.bytes, hml, B.returns, B.notSynchronized, findClass_of_methodNamed B.named, (name_of_methodNamed B.named B.method).1, hts, hnst, hao, hK, hC, hex, hA⟩
    have hrm : Rm l (headSpec lw_all (rmOf d m)).room d m.2.2.2.1 m.2.2.2.2 := by
      refine ⟨Nat.le_refl _, Nat.le_refl _, ?_, ?_, hst⟩
      · show CXm - m.2.2.2.1 ≤ ((CXm - m.2.2.2.1).toNat : Int)
        omega
      · show SXm - m.2.2.2.2 ≤ ((SXm - m.2.2.2.2).toNat : Int)
        omega
    have hw := hZ p l e (headSpec lw_all (rmOf d m)).room s mid args below meth' c' ad m.2.2.2.1 m.2.2.2.2 hcx hrm hn ad s.heap [] _ hab ⟨Nat.le_refl _, fun _ _ _ => rfl, fun q hq => by cases hq⟩ (LH_entry (n := gmx Γ y) hlen) (by rw [hml]; exact hlen.symm) (fun k v hk => hws v (entL_args ad u as 0 k v hk).2) (fun v hv => by cases hv) (fun _ _ => rfl) ⟨Int.le_refl _, hx1⟩ ⟨Int.le_refl _, hx2⟩
    have hh0 : s₁.heap = s.heap := by rw [B.state]; rfl
    have he : entryFrame mid args (gmx Γ y) = F0 mid 0 ((lg_sl (as.map (gvv ad)) ++ List.replicate (gmx Γ y - (lg_sl (as.map (gvv ad))).length) Slot.unset).toArray) [] := by rw [hargs]; exact lg_entry_eq mid _ _
    obtain ⟨t, a1, o, out, m', ad', L, b1, b2, b3, b4, b5, b6, b7, b8, b9, b10, b11⟩ := hw s₁ hh0 (stand_widen (Stand.of_body B) (Nat.zero_le _) (Nat.zero_le _))
    refine ⟨t, o, ?_, b1, b2, out, m', ad', L, b3, b4, b5, b6, b7, b8, b9, b10, b11⟩
    rw [he]
    exact a1
