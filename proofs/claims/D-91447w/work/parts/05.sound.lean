/-! SOUNDNESS of the mini-VM over the raw memory, against the machine: the frame of the proof -/
/-- static tables: classes, their fields' types, the methods; then what the start gives: class numbers and slots, array classes, the addresses that may be changed, what is known of old cells -/
abbrev gT : Type := ((List vw_C) × (List (Nat → FieldType)) × (Nat → MethodName × ByteArray × Nat × Option FieldType × List (Nat × Nat × Nat × Nat))) × va_G × (Nat → ClassId) × (Nat → Prop) × (State → Heap → (Int → Nat) → Prop) × (Int → Int → Int) × (Int → Nat) × (Int → Int)
abbrev gcl (Γ : gT) : List vw_C := Γ.1.1
abbrev gty (Γ : gT) : List (Nat → FieldType) := Γ.1.2.1
abbrev gnm (Γ : gT) (y : Nat) : MethodName := (Γ.1.2.2 y).1
abbrev gby (Γ : gT) (y : Nat) : ByteArray := (Γ.1.2.2 y).2.1
abbrev gmx (Γ : gT) (y : Nat) : Nat := (Γ.1.2.2 y).2.2.1
abbrev grt (Γ : gT) (y : Nat) : Option FieldType := (Γ.1.2.2 y).2.2.2.1
abbrev gex (Γ : gT) (y : Nat) : List (Nat × Nat × Nat × Nat) := (Γ.1.2.2 y).2.2.2.2
abbrev gD (Γ : gT) : va_G := Γ.2.1
abbrev gdA (Γ : gT) : Nat → ClassId := Γ.2.2.1
abbrev gA (Γ : gT) : Nat → Prop := Γ.2.2.2.1
abbrev gC (Γ : gT) : State → Heap → (Int → Nat) → Prop := Γ.2.2.2.2.1
/-- the old cells: contents, kinds, lengths -/
abbrev gM (Γ : gT) : (Int → Int → Int) × (Int → Nat) × (Int → Int) := Γ.2.2.2.2.2
abbrev gtys (Γ : gT) : List (ClassId × FieldType) := [(gdA Γ 103, .byte), (gdA Γ 104, .boolean), (gdA Γ 105, .int), (gdA Γ 106, .long), (gdA Γ 107, .object "java/lang/Object"), (gdA Γ 108, .object "TrustDesk$Fund")]
def tgOf (ty : FieldType) : Nat := match ty with
  | .long => 1
  | .object _ => 2
  | .array _ => 2
  | _ => 0
/-- a class's number of fields; the sort of a field (k: the kind, the class's number and one) -/
def nfl (cl : List vw_C) (k : Nat) : Nat := match cl[k - 1]? with
  | some q => q.2.2
  | none => 0
def ftg (tyl : List (Nat → FieldType)) (k j : Nat) : Nat := match tyl[k - 1]? with
  | some f => tgOf (f j)
  | none => 0
/-- the kinds that cells of the run may have -/
def dynK (cl : List vw_C) (k : Nat) : Prop := (1 ≤ k ∧ k ≤ 50 ∧ k - 1 < cl.length) ∨ (103 ≤ k ∧ k ≤ 108)
def acont (ad : Int → Nat) (k : Nat) (f : Int → Int) : ((Nat → Int32) ⊕ (Nat → Int64) ⊕ (Nat → UInt32) ⊕ (Nat → UInt64) ⊕ (Nat → Option Nat)) :=
  if k ≤ 105 then .inl (fun j => Int32.ofInt (f j)) else if k = 106 then .inr (.inl (fun j => Int64.ofInt (f j))) else .inr (.inr (.inr (.inr (fun j => gr ad (f j)))))
def ent (Γ : gT) (ad : Int → Nat) (m : mM) (z : Int) : va_E :=
  if m.2.1 z ≤ 50 then .inr (m.2.1 z - 1, (List.range (nfl (gcl Γ) (m.2.1 z))).map (fun j => gvv ad (mtag (ftg (gty Γ) (m.2.1 z) j) (m.1 z j))))
  else .inl (gdA Γ (m.2.1 z), (m.2.2.1 z).toNat, acont ad (m.2.1 z) (m.1 z))
def wsO (Γ : gT) (ad : Int → Nat) (m : mM) : va_W := (List.range (m.2.2.2.1 - NX0).toNat).map (fun (i : Nat) => (ad (NX0 + (i : Int)), ent Γ ad m (NX0 + (i : Int))))
/-- the values of a cell are in range, its references are names -/
def wfc (Γ : gT) (m : mM) (z : Int) : Prop :=
  (m.2.1 z ≤ 50 → ∀ j : Nat, j < nfl (gcl Γ) (m.2.1 z) → wfv m.2.2.2.1 (mtag (ftg (gty Γ) (m.2.1 z) j) (m.1 z j))) ∧
  (50 < m.2.1 z → (0 ≤ m.2.2.1 z ∧ m.2.2.1 z ≤ 65536) ∧ ∀ j : Int, wfv m.2.2.2.1 (if m.2.1 z ≤ 105 then mI (m.1 z j) else if m.2.1 z = 106 then mJ (m.1 z j) else mR (m.1 z j))) ∧
  (m.2.1 z = 103 → ∀ j : Int, -128 ≤ m.1 z j ∧ m.1 z j ≤ 127) ∧
  (m.2.1 z = 107 → ∀ j : Int, m.1 z j = 0 ∨ (1 ≤ m.2.1 (m.1 z j) ∧ m.2.1 (m.1 z j) ≤ 50))
def wfm (Γ : gT) (m : mM) : Prop := NX0 ≤ m.2.2.2.1 ∧ (∀ z, m.2.1 z ≠ 0 → 0 < z ∧ z < m.2.2.2.1) ∧ (∀ z, NX0 ≤ z → z < m.2.2.2.1 → dynK (gcl Γ) (m.2.1 z) ∧ wfc Γ m z) ∧ (∀ z, z < NX0 → ¬ dynK (gcl Γ) (m.2.1 z) ∧ m.1 z = (gM Γ).1 z ∧ m.2.1 z = (gM Γ).2.1 z ∧ m.2.2.1 z = (gM Γ).2.2 z)
/-- a heap holds the memory -/
def AbH (Γ : gT) (ad : Int → Nat) (m : mM) (H : Heap) : Prop := va_P (gD Γ) (gcl Γ) (wsO Γ ad m) H ∧ va_D (gA Γ) (wsO Γ ad m) ∧ wfm Γ m
/-- words that don't ride in lw_all -/
def nstW : Cond → Bool
  | .fieldLinkNest _ _ _ _ _ _ => true
  | .methodLinkNest _ _ _ _ => true
  | .castable _ _ => true
  | .declares _ => true
  | _ => false
theorem nstW_warm {w : Cond} (h : nstW w = true) {s U : State} (hW : s.WarmedH U.vm) (hZ : va_Nw w s) : va_Nw w U := by
  cases w <;> first | (simp [nstW] at h; done) | exact va_Nw.warmF hW hZ | exact va_Nw.warmM hW hZ | exact va_Nw.warmC hW hZ | exact va_Nw.warmD hW hZ
/-- an activation of the method y -/
def Cx (Γ : gT) (y : Nat) (p : Program) (s : State) (mid : MethodId) (args : Array Value) (meth : Method) (c : Code) (ad0 : Int → Nat) : Prop :=
  p.tables.exec = Jvm.exec ∧ c.code = gby Γ y ∧ c.maxLocals = gmx Γ y ∧ meth.sig.returnType = grt Γ y ∧ meth.locks = false ∧ s.vm.findClass (gnm Γ y).cls = some mid.cls ∧ meth.name = (gnm Γ y).name ∧
  (∀ w ∈ lw_all, w.before args s = true) ∧ (∀ w ∈ lw_tbl, nstW w = true → va_Nw w s) ∧ (va_AO "java/lang/Object" s ∧ va_AO "TrustDesk$Fund" s) ∧ va_K (gD Γ) (gcl Γ) (gtys Γ) s ∧ gC Γ s s.heap ad0 ∧
  c.exceptionTable.toList.map (fun h => (h.startPc, h.endPc, h.handlerPc, h.catchType)) = gex Γ y ∧ (∀ q, s.heap.size ≤ q → gA Γ q)
/-- from this configuration the activation comes to a state with Qm -/
def WA (Γ : gT) (p : Program) (l : Launch) (e : Env) (R : Room) (s : State) (mid : MethodId) (args : Array Value) (below : List Frame) (meth : Method) (c : Code) (ad0 : Int → Nat) (n0 s0 : Int) (Qm : State → Prop) (g : mG mM) : Prop :=
  ∀ (ad : Int → Nat) (H : Heap) (locs : List Loc) (ls : Array Slot), AbH Γ ad g.2.2.2 H → va_S (gA Γ) s.heap H locs → LH ad ls g.2.1 → c.maxLocals = g.2.1.length → wfL g.2.2.2.2.2.2.1 g.2.1 → (∀ v ∈ g.2.2.1, wfv g.2.2.2.2.2.2.1 v) →
    (∀ z, z < n0 → ad z = ad0 z) → (n0 ≤ g.2.2.2.2.2.2.1 ∧ g.2.2.2.2.2.2.1 ≤ CXm) → (s0 ≤ g.2.2.2.2.2.2.2 ∧ g.2.2.2.2.2.2.2 ≤ SXm) → W p l e R s mid args below meth c H locs (g.2.2.2.2.2.2.1 - n0).toNat (g.2.2.2.2.2.2.2 - s0).toNat Qm (F0 mid g.1 ls (g.2.2.1.map (gvv ad)))
def OutR (ad : Int → Nat) (nx : Int) : mO → Outcome → Prop
  | .inl none, o => o = .returned none
  | .inl (some v), o => o = .returned (some (gvv ad v)) ∧ wfv nx v
  | .inr a, o => o = .threw (ad a) ∧ 0 < a ∧ a < nx
/-- how an activation ends -/
def EQ (Γ : gT) (s : State) (below : List Frame) (ad0 : Int → Nat) (n0 s0 : Int) (Q : mQ mM) : State → Prop := fun t =>
  ∃ (o : Outcome) (out : mO) (m' : mM) (ad' : Int → Nat) (L : List Loc), t.status = .running ∧ Ended t below o ∧ s.WarmedH t.vm ∧ s.sameButNew ({ t with vm := s.vm } : State) L (m'.2.2.2.1 - n0).toNat (m'.2.2.2.2 - s0).toNat ∧
    va_S (gA Γ) s.heap t.heap L ∧ (n0 ≤ m'.2.2.2.1 ∧ m'.2.2.2.1 ≤ CXm) ∧ (s0 ≤ m'.2.2.2.2 ∧ m'.2.2.2.2 ≤ SXm) ∧ (∀ z, z < n0 → ad' z = ad0 z) ∧ AbH Γ ad' m' t.heap ∧ OutR ad' m'.2.2.2.1 out o ∧ Q out m'
/-- the room that is left: d frames, 60 words each -/
def Rm (l : Launch) (R : Room) (d : Nat) (n0 s0 : Int) : Prop := d + 8 ≤ R.frames ∧ 60 * d + 160 ≤ R.locals ∧ CXm - n0 ≤ (R.cells : Int) ∧ SXm - s0 ≤ (R.slots : Int) ∧ l.stackTraces = false
/-- what a step's result asks of the machine -/
def SM (Γ : gT) (p : Program) (l : Launch) (e : Env) (R : Room) (s : State) (mid : MethodId) (args : Array Value) (below : List Frame) (meth : Method) (c : Code) (ad0 : Int → Nat) (n0 s0 : Int) (g : mG mM) (r : mRes mM) : Prop :=
  match r with
  | none => True
  | some (.inl g') => ∀ Qm, WA Γ p l e R s mid args below meth c ad0 n0 s0 Qm g' → WA Γ p l e R s mid args below meth c ad0 n0 s0 Qm g
  | some (.inr (.inl (C, g'))) => C → ∀ Qm, WA Γ p l e R s mid args below meth c ad0 n0 s0 Qm g' → WA Γ p l e R s mid args below meth c ad0 n0 s0 Qm g
  | some (.inr (.inr (.inl (op, x, z, t, g')))) => ∀ Qm, m_br op x z (WA Γ p l e R s mid args below meth c ad0 n0 s0 Qm (t, g'.2)) (WA Γ p l e R s mid args below meth c ad0 n0 s0 Qm g') → WA Γ p l e R s mid args below meth c ad0 n0 s0 Qm g
  | some (.inr (.inr (.inr (.inl (x, tb, g'))))) => ∀ Qm, m_sw x (fun t => WA Γ p l e R s mid args below meth c ad0 n0 s0 Qm (t, g'.2)) (WA Γ p l e R s mid args below meth c ad0 n0 s0 Qm g') tb → WA Γ p l e R s mid args below meth c ad0 n0 s0 Qm g
  | some (.inr (.inr (.inr (.inr (.inl (_, _, _)))))) => True
  | some (.inr (.inr (.inr (.inr (.inr (.inl (o, m'))))))) => ∀ Q : mQ mM, Q o m' → WA Γ p l e R s mid args below meth c ad0 n0 s0 (EQ Γ s below ad0 n0 s0 Q) g
  | some (.inr (.inr (.inr (.inr (.inr (.inr (C, o, m'))))))) => C → ∀ Q : mQ mM, Q o m' → WA Γ p l e R s mid args below meth c ad0 n0 s0 (EQ Γ s below ad0 n0 s0 Q) g
/-- ONE STEP at pc of the method y is right -/
def SS (Γ : gT) (y pc : Nat) (it : mIt) : Prop :=
  ∀ (p : Program) (l : Launch) (e : Env) (R : Room) (s : State) (mid : MethodId) (args : Array Value) (below : List Frame) (meth : Method) (c : Code) (ad0 : Int → Nat) (n0 s0 : Int) (d : Nat), Cx Γ y p s mid args meth c ad0 → Rm l R d n0 s0 → NX0 ≤ n0 → ∀ (L : mL) (S : List mV) (m : mM),
  SM Γ p l e R s mid args below meth c ad0 n0 s0 (pc, L, S, m) (stp rO it L S m)
