/-! THE ROW CHECK: a row of the table against the decoded instruction and the facts of the constant pool -/
set_option maxHeartbeats 3200000
/-- what a fact says (own: the class whose pool it is) -/
def fm (Γ : gT) (own : String) (q : List Nat) : Prop := match q with
  | [0, idx, j, t, lo, hi] => ∀ k, lo ≤ k → k ≤ hi → fdOk Γ own idx j t k
  | [1, idx, j, t, lo, hi] => ∀ nm k, lo ≤ k → k ≤ hi → fdOkP Γ own nm idx j t k
  | [2, idx, j, t, lo, hi] => ∀ k, lo ≤ k → k ≤ hi → fdOkP Γ own "<init>" idx j t k
  | [3, idx, j, t, lo, od] => fdOk Γ own idx j t lo ∧ ∃ (C n dsc ref : String), oF Γ od C n dsc j t ∧ Cond.fieldLink own idx ref n dsc ∈ lw_all ∧ (ref = C ∨ Cond.sameField ref C n dsc ∈ lw_all)
  | [4, idx, k, n] => ∃ (C : String) (T : u_T) (ty : Nat → FieldType), clOk Γ k C T n ty ∧ (∀ j, j < n → defaultValue (ty j) = gvv (fun _ => 0) (mtag (tgOf (ty j)) 0)) ∧ Cond.classLink own idx C ∈ lw_all ∧ Cond.instantiable C n ∈ lw_all ∧ Cond.initialized C ∈ lw_all
  | [5, idx, lo, hi, od] => ∃ nm : String, (∀ k, (lo ≤ k ∧ k ≤ hi) ∨ k = od → castOk Γ k nm) ∧ Cond.classLink own idx nm ∈ lw_all
  | [6, idx, k] => ∃ (C : String) (t0 : Nat), Cond.classLink own idx C ∈ lw_all ∧ ((k = 107 ∧ t0 = 4 ∧ C = "java/lang/Object") ∨ (k = 108 ∧ t0 = 5 ∧ C = "TrustDesk$Fund"))
  | [7, idx, a, b] => ∃ v : Int32, Cond.constant own idx v ∈ lw_all ∧ i32 ((a : Int) - (b : Int)) ∧ v = Int32.ofInt ((a : Int) - (b : Int))
  | [8, idx, a, b] => ∃ v : Int64, Cond.constantLong own idx v ∈ lw_all ∧ i64 ((a : Int) - (b : Int)) ∧ v = Int64.ofInt ((a : Int) - (b : Int))
  | [9, idx, z] => (0 < z ∧ z < 1000) ∧ ∃ tx : String, ∀ s ad, gC Γ s s.heap ad → vk_R own idx tx (ad z) s
  | [10, idx, z] => (0 < z ∧ z < 1000) ∧ ∃ C : String, (∀ s ad, gC Γ s s.heap ad → va_Mi C (ad z) s) ∧ Cond.classLink own idx C ∈ lw_all
  | [11, idx, k] => ∃ (C n dsc ref : String), (∀ s ad, gC Γ s s.heap ad → va_Z C n dsc (va_rf (gr ad ((gM Γ).1 (-1) k))) (gA Γ) s s.heap ∧ 0 ≤ (gM Γ).1 (-1) k ∧ (gM Γ).1 (-1) k < NX0) ∧ Cond.fieldLink own idx ref n dsc ∈ lw_all ∧ (ref = C ∨ Cond.sameField ref C n dsc ∈ lw_all)
  | [12, idx, z] => ∃ (C n dsc ref : String), z < 1000 ∧ (∀ s ad, gC Γ s s.heap ad → va_Z C n dsc (.int (Int32.ofInt z)) (gA Γ) s s.heap) ∧ Cond.fieldLink own idx ref n dsc ∈ lw_all ∧ (ref = C ∨ Cond.sameField ref C n dsc ∈ lw_all)
  | [13, idx] => Cond.methodLink own idx Lib.objectInit ∈ lw_all
  | [14, idx] => Cond.methodLink own idx arraycopyName ∈ lw_all
  | [15, idx] => Cond.methodLink own idx gcN ∈ lw_all
  | [16, idx] => Cond.methodLink own idx clA ∈ lw_all
  | [17, idx, ic] => Cond.classLink own idx nseN ∈ lw_all ∧ Cond.methodLink own ic (Bundle.init0 nseN) ∈ lw_all
  | [18, idx] => Cond.classLink own idx "[B" ∈ lw_all
  | [19, idx, 0] => Cond.methodLink own idx Lib.Math.max.name ∈ lw_all
  | [19, idx, 1] => Cond.methodLink own idx Lib.Math.min.name ∈ lw_all
  | [19, idx, 2] => Cond.methodLink own idx Lib.MathLoose.max_long.x ∈ lw_all
  | [19, idx, 3] => Cond.methodLink own idx Lib.MathLoose.min_long.x ∈ lw_all
  | [20, idx, n, c] => ∀ y pc, (gnm Γ y).cls = own → decode (gby Γ y) pc = .ok (.invokestatic idx, 3) → CO Γ y pc (pc + 3) n c (fun _ _ => True)
  | [21, idx, n, c, lo, hi, od] => ∀ y pc, (gnm Γ y).cls = own → decode (gby Γ y) pc = .ok (.invokevirtual idx, 3) → CO Γ y pc (pc + 3) n c (fun m as => (lo ≤ m.2.1 (m_recv as) ∧ m.2.1 (m_recv as) ≤ hi) ∨ m.2.1 (m_recv as) = od)
  | [22, idx, n, c, lo, hi, od] => ∀ y pc, (gnm Γ y).cls = own → decode (gby Γ y) pc = .ok (.invokespecial idx, 3) → CO Γ y pc (pc + 3) n c (fun m as => (lo ≤ m.2.1 (m_recv as) ∧ m.2.1 (m_recv as) ≤ hi) ∨ m.2.1 (m_recv as) = od)
  | [23, idx, n, c, lo, hi] => ∀ y pc, (gnm Γ y).cls = own → decode (gby Γ y) pc = .ok (.invokevirtual idx, 3) → CO Γ y pc (pc + 3) n c (fun m as => lo ≤ m.2.1 (m_recv as) ∧ m.2.1 (m_recv as) ≤ hi)
  | [30, ct, hk] => ∃ (C nm : String), isC Γ hk C ∧ Cond.castable C nm ∈ lw_tbl ∧ Cond.classLink own ct nm ∈ lw_all
  | _ => False
/-- all the facts of a list -/
def allF (Γ : gT) (own : String) : List (List Nat) → Prop
  | [] => True
  | q :: r => fm Γ own q ∧ allF Γ own r
theorem allF_mem {Γ : gT} {own : String} : ∀ {f : List (List Nat)}, allF Γ own f → ∀ q ∈ f, fm Γ own q
  | [], _, q, h => by cases h
  | a :: r, h, q, hq => by
    rcases List.mem_cons.mp hq with e | e
    · rw [e]; exact h.1
    · exact allF_mem h.2 q e
def lbeq : List Nat → List Nat → Bool
  | [], [] => true
  | a :: r, b :: t => Nat.beq a b && lbeq r t
  | _, _ => false
theorem lbeq_eq : ∀ {a b : List Nat}, lbeq a b = true → a = b
  | [], [], _ => rfl
  | [], _ :: _, h => by cases h
  | _ :: _, [], h => by cases h
  | a :: r, b :: t, h => by
    unfold lbeq at h
    rw [Bool.and_eq_true] at h
    rw [Nat.eq_of_beq_eq_true h.1, lbeq_eq h.2]
def hasF : List (List Nat) → List Nat → Bool
  | [], _ => false
  | a :: r, q => bif lbeq a q then true else hasF r q
theorem hasF_mem : ∀ {f : List (List Nat)} {q : List Nat}, hasF f q = true → q ∈ f
  | [], _, h => by cases h
  | a :: r, q, h => by
    unfold hasF at h
    cases hb : lbeq a q with
    | true => rw [lbeq_eq hb]; exact List.mem_cons_self
    | false => rw [hb] at h; exact List.mem_cons_of_mem _ (hasF_mem h)
theorem m_has_mem : ∀ {l : List Nat} {q : Nat}, m_has l q = true → q ∈ l
  | [], _, h => by cases h
  | a :: r, q, h => by
    unfold m_has at h
    cases hb : Nat.beq a q with
    | true => rw [Nat.eq_of_beq_eq_true hb]; exact List.mem_cons_self
    | false => rw [hb] at h; exact List.mem_cons_of_mem _ (m_has_mem h)
/-- what holds of the whole: old arrays, array classes, the words of native methods and of exceptions -/
def gG (Γ : gT) : Prop := (gOld Γ) ∧ (oT Γ 101 .int (fun _ x => .int (Int32.ofInt x)) i32) ∧ (oT Γ 102 .byte (fun _ x => .int (Int32.ofInt x)) (fun x => -128 ≤ x ∧ x ≤ 127)) ∧ (∃ C, oT Γ 109 (.object C) (fun ad x => va_rf (gr ad x)) (fun x => 0 ≤ x ∧ x < NX0)) ∧ (Cond.arrayClass .int ∈ lw_all) ∧ (Cond.arrayClass .byte ∈ lw_all) ∧ (Cond.arrayClass .boolean ∈ lw_all) ∧ (Cond.arrayClass .long ∈ lw_all) ∧ (∀ q, 1 ≤ q → q ≤ 50 → anyOk Γ q "java/lang/Object") ∧ (anyOk Γ 14 "TrustDesk$Fund") ∧ (Cond.instanceMethod Lib.objectInit ∈ lw_all ∧ Cond.code Lib.objectInit ⟨#[0xb1]⟩ 1 none ∈ lw_all) ∧ (Cond.native arraycopyName ∈ lw_all ∧ Cond.static arraycopyName ∈ lw_all ∧ Cond.initialized "java/lang/System" ∈ lw_all) ∧ ((∀ s ad, gC Γ s s.heap ad → va_Mi "[Ljava/lang/Object;" (ad 60) s) ∧ Cond.declares gcN ∈ lw_tbl ∧ Cond.selects "[Ljava/lang/Object;" gcN gcN ∈ lw_all ∧ Cond.instanceMethod gcN ∈ lw_all ∧ Cond.native gcN ∈ lw_all) ∧ (Cond.sameMethod "[B" "java/lang/Object" "clone" "()Ljava/lang/Object;" ∈ lw_all ∧ Cond.native clO ∈ lw_all ∧ Cond.instanceMethod clO ∈ lw_all ∧ Cond.selects "[B" clA clO ∈ lw_all ∧ Cond.castable "[B" "java/lang/Cloneable" ∈ lw_tbl) ∧ (Cond.static Lib.Math.max.name ∈ lw_all ∧ Cond.initialized "java/lang/Math" ∈ lw_all ∧ Cond.code Lib.Math.max.name Lib.Math.max.code 2 (some .int) ∈ lw_all) ∧ (Cond.static Lib.Math.min.name ∈ lw_all ∧ Cond.initialized "java/lang/Math" ∈ lw_all ∧ Cond.code Lib.Math.min.name Lib.Math.min.code 2 (some .int) ∈ lw_all) ∧ (Cond.static Lib.MathLoose.max_long.x ∈ lw_all ∧ Cond.initialized "java/lang/Math" ∈ lw_all ∧ Cond.code Lib.MathLoose.max_long.x Lib.MathLoose.max_long.code 4 (some .long) ∈ lw_all) ∧ (Cond.static Lib.MathLoose.min_long.x ∈ lw_all ∧ Cond.initialized "java/lang/Math" ∈ lw_all ∧ Cond.code Lib.MathLoose.min_long.x Lib.MathLoose.min_long.code 4 (some .long) ∈ lw_all) ∧ (∀ y pc idx ic au cz, Cond.classLink (gnm Γ y).cls idx nseN ∈ lw_all → Cond.methodLink (gnm Γ y).cls ic (Bundle.init0 nseN) ∈ lw_all → decode (gby Γ y) pc = .ok (.new idx, 3) → decode (gby Γ y) (pc + 3) = .ok (.dup, 1) → decode (gby Γ y) (pc + 4) = .ok (.invokespecial ic, 3) → SS Γ y pc (.aconst_null, pc + 7, 0, au, cz))
theorem gG.old {Γ : gT} (h : gG Γ) : gOld Γ := h.1
theorem gG.o101 {Γ : gT} (h : gG Γ) : oT Γ 101 .int (fun _ x => .int (Int32.ofInt x)) i32 := h.2.1
theorem gG.o102 {Γ : gT} (h : gG Γ) : oT Γ 102 .byte (fun _ x => .int (Int32.ofInt x)) (fun x => -128 ≤ x ∧ x ≤ 127) := h.2.2.1
theorem gG.o109 {Γ : gT} (h : gG Γ) : ∃ C, oT Γ 109 (.object C) (fun ad x => va_rf (gr ad x)) (fun x => 0 ≤ x ∧ x < NX0) := h.2.2.2.1
theorem gG.ai {Γ : gT} (h : gG Γ) : Cond.arrayClass .int ∈ lw_all := h.2.2.2.2.1
theorem gG.ab {Γ : gT} (h : gG Γ) : Cond.arrayClass .byte ∈ lw_all := h.2.2.2.2.2.1
theorem gG.az {Γ : gT} (h : gG Γ) : Cond.arrayClass .boolean ∈ lw_all := h.2.2.2.2.2.2.1
theorem gG.al {Γ : gT} (h : gG Γ) : Cond.arrayClass .long ∈ lw_all := h.2.2.2.2.2.2.2.1
theorem gG.any {Γ : gT} (h : gG Γ) : ∀ q, 1 ≤ q → q ≤ 50 → anyOk Γ q "java/lang/Object" := h.2.2.2.2.2.2.2.2.1
theorem gG.anyF {Γ : gT} (h : gG Γ) : anyOk Γ 14 "TrustDesk$Fund" := h.2.2.2.2.2.2.2.2.2.1
theorem gG.oi {Γ : gT} (h : gG Γ) : Cond.instanceMethod Lib.objectInit ∈ lw_all ∧ Cond.code Lib.objectInit ⟨#[0xb1]⟩ 1 none ∈ lw_all := h.2.2.2.2.2.2.2.2.2.2.1
theorem gG.cp {Γ : gT} (h : gG Γ) : Cond.native arraycopyName ∈ lw_all ∧ Cond.static arraycopyName ∈ lw_all ∧ Cond.initialized "java/lang/System" ∈ lw_all := h.2.2.2.2.2.2.2.2.2.2.2.1
theorem gG.gc {Γ : gT} (h : gG Γ) : (∀ s ad, gC Γ s s.heap ad → va_Mi "[Ljava/lang/Object;" (ad 60) s) ∧ Cond.declares gcN ∈ lw_tbl ∧ Cond.selects "[Ljava/lang/Object;" gcN gcN ∈ lw_all ∧ Cond.instanceMethod gcN ∈ lw_all ∧ Cond.native gcN ∈ lw_all := h.2.2.2.2.2.2.2.2.2.2.2.2.1
theorem gG.cl {Γ : gT} (h : gG Γ) : Cond.sameMethod "[B" "java/lang/Object" "clone" "()Ljava/lang/Object;" ∈ lw_all ∧ Cond.native clO ∈ lw_all ∧ Cond.instanceMethod clO ∈ lw_all ∧ Cond.selects "[B" clA clO ∈ lw_all ∧ Cond.castable "[B" "java/lang/Cloneable" ∈ lw_tbl := h.2.2.2.2.2.2.2.2.2.2.2.2.2.1
theorem gG.mm0 {Γ : gT} (h : gG Γ) : Cond.static Lib.Math.max.name ∈ lw_all ∧ Cond.initialized "java/lang/Math" ∈ lw_all ∧ Cond.code Lib.Math.max.name Lib.Math.max.code 2 (some .int) ∈ lw_all := h.2.2.2.2.2.2.2.2.2.2.2.2.2.2.1
theorem gG.mm1 {Γ : gT} (h : gG Γ) : Cond.static Lib.Math.min.name ∈ lw_all ∧ Cond.initialized "java/lang/Math" ∈ lw_all ∧ Cond.code Lib.Math.min.name Lib.Math.min.code 2 (some .int) ∈ lw_all := h.2.2.2.2.2.2.2.2.2.2.2.2.2.2.2.1
theorem gG.mm2 {Γ : gT} (h : gG Γ) : Cond.static Lib.MathLoose.max_long.x ∈ lw_all ∧ Cond.initialized "java/lang/Math" ∈ lw_all ∧ Cond.code Lib.MathLoose.max_long.x Lib.MathLoose.max_long.code 4 (some .long) ∈ lw_all := h.2.2.2.2.2.2.2.2.2.2.2.2.2.2.2.2.1
theorem gG.mm3 {Γ : gT} (h : gG Γ) : Cond.static Lib.MathLoose.min_long.x ∈ lw_all ∧ Cond.initialized "java/lang/Math" ∈ lw_all ∧ Cond.code Lib.MathLoose.min_long.x Lib.MathLoose.min_long.code 4 (some .long) ∈ lw_all := h.2.2.2.2.2.2.2.2.2.2.2.2.2.2.2.2.2.1
theorem gG.nse {Γ : gT} (h : gG Γ) : ∀ y pc idx ic au cz, Cond.classLink (gnm Γ y).cls idx nseN ∈ lw_all → Cond.methodLink (gnm Γ y).cls ic (Bundle.init0 nseN) ∈ lw_all → decode (gby Γ y) pc = .ok (.new idx, 3) → decode (gby Γ y) (pc + 3) = .ok (.dup, 1) → decode (gby Γ y) (pc + 4) = .ok (.invokespecial ic, 3) → SS Γ y pc (.aconst_null, pc + 7, 0, au, cz) := h.2.2.2.2.2.2.2.2.2.2.2.2.2.2.2.2.2.2
theorem ss_nop {Γ : gT} {y pc np tg : Nat} {au : List Nat} {cz : Int} : SS Γ y pc (.nop, np, tg, au, cz) := by
  intro p l e R s mid args below meth c ad0 n0 s0 d hcx hr hn L S m
  exact True.intro
def isRefT (rt : Option FieldType) : Bool := match rt with
  | some (.object _) => true
  | some (.array _) => true
  | _ => false
theorem isRefT_ok {rt : Option FieldType} (h : isRefT rt = true) : ∃ t, rt = some t ∧ ((∃ n, t = .object n) ∨ ∃ q, t = .array q) := by
  unfold isRefT at h
  split at h
  · exact ⟨_, rfl, Or.inl ⟨_, rfl⟩⟩
  · exact ⟨_, rfl, Or.inr ⟨_, rfl⟩⟩
  · cases h
def cnd (c : ClassFile.Cond) : Nat := m_cond c
/-- two items are one -/
def eqI (a b : mIt) : Bool := decide (a = b)
theorem eqI_eq {a b : mIt} (h : eqI a b = true) : a = b := of_decide_eq_true h
/-- the next pc -/
def nxP (a b : Nat) : Bool := Nat.beq a b
/-- a jump's target -/
def tgB (pc : Nat) (off : Int) (tg : Nat) : Bool := decide ((pc : Int) + off = (tg : Int))
def evens : List Nat → List Nat
  | a :: _ :: r => a :: evens r
  | _ => []
/-- the check of a row; b: the code, f: the facts, rt: the return type, ini: in a constructor, ex: no handlers -/
def ckI (b : ByteArray) (f : List (List Nat)) (rt : Option FieldType) (ini ex : Bool) (pc : Nat) (it : mIt) (ins : Instr) (len : Nat) : Bool :=
  match ins with
  | .iadd => eqI it (.iadd, pc + 1, 0, [], 0) && Nat.beq len 1
  | .isub => eqI it (.isub, pc + 1, 0, [], 0) && Nat.beq len 1
  | .imul => eqI it (.imul, pc + 1, 0, [], 0) && Nat.beq len 1
  | .idiv => eqI it (.idiv, pc + 1, 0, [], 0) && Nat.beq len 1
  | .irem => eqI it (.irem, pc + 1, 0, [], 0) && Nat.beq len 1
  | .ineg => eqI it (.ineg, pc + 1, 0, [], 0) && Nat.beq len 1
  | .ladd => eqI it (.ladd, pc + 1, 0, [], 0) && Nat.beq len 1
  | .lsub => eqI it (.lsub, pc + 1, 0, [], 0) && Nat.beq len 1
  | .lmul => eqI it (.lmul, pc + 1, 0, [], 0) && Nat.beq len 1
  | .ldiv => eqI it (.ldiv, pc + 1, 0, [], 0) && Nat.beq len 1
  | .iand => eqI it (.iand, pc + 1, 0, [], 0) && Nat.beq len 1
  | .ior => eqI it (.ior, pc + 1, 0, [], 0) && Nat.beq len 1
  | .ixor => eqI it (.ixor, pc + 1, 0, [], 0) && Nat.beq len 1
  | .ishl => eqI it (.ishl, pc + 1, 0, [], 0) && Nat.beq len 1
  | .ishr => eqI it (.ishr, pc + 1, 0, [], 0) && Nat.beq len 1
  | .iushr => eqI it (.iushr, pc + 1, 0, [], 0) && Nat.beq len 1
  | .i2b => eqI it (.i2b, pc + 1, 0, [], 0) && Nat.beq len 1
  | .i2c => eqI it (.i2c, pc + 1, 0, [], 0) && Nat.beq len 1
  | .i2l => eqI it (.i2l, pc + 1, 0, [], 0) && Nat.beq len 1
  | .l2i => eqI it (.l2i, pc + 1, 0, [], 0) && Nat.beq len 1
  | .dup => eqI it (.dup, pc + 1, 0, [], 0) && Nat.beq len 1
  | .dup_x1 => eqI it (.dup_x1, pc + 1, 0, [], 0) && Nat.beq len 1
  | .dup2 => eqI it (.dup2, pc + 1, 0, [], 0) && Nat.beq len 1
  | .pop => eqI it (.pop, pc + 1, 0, [], 0) && Nat.beq len 1
  | .iload k => eqI it (.iload k, pc + 2, 0, [], 0) && Nat.beq len 2
  | .iload_n j => eqI it (.iload (j : Nat), pc + 1, 0, [], 0) && Nat.beq len 1
  | .lload k => eqI it (.lload k, pc + 2, 0, [], 0) && Nat.beq len 2
  | .lload_n j => eqI it (.lload (j : Nat), pc + 1, 0, [], 0) && Nat.beq len 1
  | .aload k => eqI it (.aload k, pc + 2, 0, [], 0) && Nat.beq len 2
  | .aload_n j => eqI it (.aload (j : Nat), pc + 1, 0, [], 0) && Nat.beq len 1
  | .istore k => eqI it (.istore k, pc + 2, 0, [], 0) && Nat.beq len 2
  | .istore_n j => eqI it (.istore (j : Nat), pc + 1, 0, [], 0) && Nat.beq len 1
  | .lstore k => eqI it (.lstore k, pc + 2, 0, [], 0) && Nat.beq len 2
  | .lstore_n j => eqI it (.lstore (j : Nat), pc + 1, 0, [], 0) && Nat.beq len 1
  | .astore k => eqI it (.astore k, pc + 2, 0, [], 0) && Nat.beq len 2
  | .astore_n j => eqI it (.astore (j : Nat), pc + 1, 0, [], 0) && Nat.beq len 1
  | .iconst z => eqI it (.ldc 0, pc + 1, 0, [0], z) && Nat.beq len 1 && decide (-128 ≤ z ∧ z ≤ 127)
  | .bipush z => eqI it (.ldc 0, pc + 2, 0, [0], z) && Nat.beq len 2 && decide ((-128 ≤ z ∧ z ≤ 127) ∧ (Int8.ofInt z).toInt32 = Int32.ofInt z)
  | .sipush z => eqI it (.ldc 0, pc + 3, 0, [0], z) && Nat.beq len 3 && decide ((-32768 ≤ z ∧ z ≤ 32767) ∧ (Int16.ofInt z).toInt32 = Int32.ofInt z)
  | .lconst n => eqI it (.ldc 0, pc + 1, 0, [1], ((n : Nat) : Int)) && Nat.beq len 1
  | .aconst_null => eqI it (.ldc 0, pc + 1, 0, [2], 0) && Nat.beq len 1
  | .iinc k n => eqI it (.iinc k n, pc + 3, 0, [], 0) && Nat.beq len 3
  | .ldc idx => Nat.beq len 2 && (match it with
    | (.ldc 0, np, 0, [0], z) => nxP np (pc + 2) && hasF f [7, idx, z.toNat, (-z).toNat]
    | (.ldc 0, np, 0, [2], z) => nxP np (pc + 2) && decide (0 ≤ z) && (hasF f [9, idx, z.toNat] || hasF f [10, idx, z.toNat])
    | _ => false)
  | .ldc_w idx => Nat.beq len 3 && (match it with
    | (.ldc 0, np, 0, [0], z) => nxP np (pc + 3) && hasF f [7, idx, z.toNat, (-z).toNat]
    | (.ldc 0, np, 0, [2], z) => nxP np (pc + 3) && decide (0 ≤ z) && hasF f [9, idx, z.toNat]
    | _ => false)
  | .ldc2_w idx => Nat.beq len 3 && (match it with
    | (.ldc 0, np, 0, [1], z) => nxP np (pc + 3) && hasF f [8, idx, z.toNat, (-z).toNat]
    | _ => false)
  | .if_icmp c off => Nat.beq len 3 && (match it with
    | (.if_icmp c' 0, np, tg, [], 0) => Nat.beq (cnd c) (cnd c') && nxP np (pc + 3) && tgB pc off tg
    | _ => false)
  | .ifCond c off => Nat.beq len 3 && (match it with
    | (.ifCond c' 0, np, tg, [], 0) => Nat.beq (cnd c) (cnd c') && nxP np (pc + 3) && tgB pc off tg
    | _ => false)
  | .if_acmp c off => Nat.beq len 3 && (match it with
    | (.if_acmp c' 0, np, tg, [], 0) => decide (c = c') && nxP np (pc + 3) && tgB pc off tg
    | _ => false)
  | .ifnull off => Nat.beq len 3 && (match it with
    | (.ifnull 0, np, tg, [], 0) => nxP np (pc + 3) && tgB pc off tg
    | _ => false)
  | .ifnonnull off => Nat.beq len 3 && (match it with
    | (.ifnonnull 0, np, tg, [], 0) => nxP np (pc + 3) && tgB pc off tg
    | _ => false)
  | .goto off => Nat.beq len 3 && (match it with
    | (.goto 0, tg, 0, [], 0) => tgB pc off tg
    | _ => false)
  | .lcmp => Nat.beq len 1 && (match decode b (pc + 1) with
    | .ok (.ifCond c off, 3) => (match it with
      | (.lcmp, np, tg, [k], 0) => Nat.beq (cnd c) k && nxP np (pc + 4) && tgB (pc + 1) off tg
      | _ => false)
    | _ => false)
  | .tableswitch dflt lo hi offs => (match it with
    | (.monitorenter, dpc, 0, au, 0) => decide (lo = (lo.toNat : Int)) && decide (hi = lo + ((odds au).length : Int) - 1) && decide (offs.toList = (odds au).map (fun t : Nat => (t : Int) - (pc : Int))) && tgB pc dflt dpc && lbeq au (tsw lo.toNat (odds au))
    | (.monitorexit, dpc, 0, au, cz) => decide (lo = cz) && decide (hi = cz + ((odds au).length : Int) - 1) && decide (offs.toList = (odds au).map (fun t : Nat => (t : Int) - (pc : Int))) && tgB pc dflt dpc && lbeq au (tsw 0 (odds au))
    | _ => false)
  | .ireturn => Nat.beq len 1 && (match it with
    | (.ireturn, 0, 0, [0], 0) => decide (rt = some .int)
    | (.ireturn, 0, 0, [1], 0) => decide (rt = some .boolean)
    | (.ireturn, 0, 0, [2], 0) => decide (rt = some .byte)
    | (.ireturn, 0, 0, [3], 0) => decide (rt = some .char)
    | _ => false)
  | .lreturn => eqI it (.lreturn, 0, 0, [], 0) && Nat.beq len 1 && decide (rt = some .long)
  | .areturn => eqI it (.areturn, 0, 0, [], 0) && Nat.beq len 1 && isRefT rt
  | .return_ => eqI it (.return_, 0, 0, [], 0) && Nat.beq len 1 && decide (rt = none)
  | .athrow => eqI it (.athrow, 0, 0, [], 0) && Nat.beq len 1 && ex
  | .getfield idx => Nat.beq len 3 && (match it with
    | (.getfield 0, np, 0, j :: t :: lo :: hi :: _, _) => nxP np (pc + 3) && hasF f [0, idx, j, t, lo, hi]
    | (.getstatic 0, np, 0, j :: t :: lo :: od :: _, _) => nxP np (pc + 3) && hasF f [3, idx, j, t, lo, od]
    | _ => false)
  | .putfield idx => Nat.beq len 3 && (match it with
    | (.putfield 0, np, 0, j :: t :: lo :: hi :: _, _) => nxP np (pc + 3) && (hasF f [1, idx, j, t, lo, hi] || (ini && hasF f [2, idx, j, t, lo, hi]))
    | _ => false)
  | .getstatic idx => Nat.beq len 3 && (match it with
    | (.putstatic 0, np, 0, k :: _, _) => nxP np (pc + 3) && hasF f [11, idx, k]
    | (.ldc 0, np, 0, [0], z) => nxP np (pc + 3) && decide (0 ≤ z) && hasF f [12, idx, z.toNat]
    | _ => false)
  | .iaload => Nat.beq len 1 && (match it with
    | (.iaload, np, 0, 105 :: _, 0) => nxP np (pc + 1)
    | (.iaload, np, 0, 101 :: _, _) => nxP np (pc + 1)
    | _ => false)
  | .baload => Nat.beq len 1 && (match it with
    | (.baload, np, 0, 104 :: 104 :: _, 0) => nxP np (pc + 1)
    | (.baload, np, 0, 102 :: 103 :: _, _) => nxP np (pc + 1)
    | _ => false)
  | .laload => Nat.beq len 1 && (match it with
    | (.laload, np, 0, _, 0) => nxP np (pc + 1)
    | _ => false)
  | .aaload => Nat.beq len 1 && (match it with
    | (.aaload, np, 0, 107 :: _, 0) => nxP np (pc + 1)
    | (.aaload, np, 0, 108 :: _, 0) => nxP np (pc + 1)
    | (.aaload, np, 0, 109 :: _, _) => nxP np (pc + 1)
    | _ => false)
  | .iastore => Nat.beq len 1 && (match it with
    | (.iastore, np, 0, _, 0) => nxP np (pc + 1)
    | _ => false)
  | .lastore => Nat.beq len 1 && (match it with
    | (.lastore, np, 0, _, 0) => nxP np (pc + 1)
    | _ => false)
  | .bastore => Nat.beq len 1 && (match it with
    | (.bastore, np, 0, 103 :: _, _) => nxP np (pc + 1)
    | (.bastore, np, 0, 104 :: _, _) => nxP np (pc + 1)
    | _ => false)
  | .aastore => Nat.beq len 1 && (match it with
    | (.aastore, np, 0, 107 :: 1 :: 50 :: _, _) => nxP np (pc + 1)
    | (.aastore, np, 0, 108 :: 14 :: 14 :: _, _) => nxP np (pc + 1)
    | _ => false)
  | .arraylength => Nat.beq len 1 && (match it with
    | (.arraylength, np, 0, 102 :: 103 :: _, _) => nxP np (pc + 1)
    | (.arraylength, np, 0, 101 :: 101 :: _, _) => nxP np (pc + 1)
    | (.arraylength, np, 0, 107 :: 107 :: _, 0) => nxP np (pc + 1)
    | _ => false)
  | .newarray t => Nat.beq len 2 && (match it with
    | (.anewarray 0, np, 0, 105 :: _, _) => nxP np (pc + 2) && decide (t = .int)
    | (.anewarray 0, np, 0, 103 :: _, _) => nxP np (pc + 2) && decide (t = .byte)
    | (.anewarray 0, np, 0, 104 :: _, _) => nxP np (pc + 2) && decide (t = .boolean)
    | (.anewarray 0, np, 0, 106 :: _, _) => nxP np (pc + 2) && decide (t = .long)
    | _ => false)
  | .anewarray idx => Nat.beq len 3 && (match it with
    | (.anewarray 0, np, 0, k :: _, _) => nxP np (pc + 3) && hasF f [6, idx, k]
    | _ => false)
  | .new idx => Nat.beq len 3 && (match it with
    | (.new 0, np, 0, k :: n :: _, _) => nxP np (pc + 3) && hasF f [4, idx, k, n]
    | (.aconst_null, np, 0, _, _) => nxP np (pc + 7) && (match decode b (pc + 3), decode b (pc + 4) with
      | .ok (.dup, 1), .ok (.invokespecial ic, 3) => hasF f [17, idx, ic]
      | _, _ => false)
    | _ => false)
  | .checkcast idx => Nat.beq len 3 && (match it with
    | (.checkcast 0, np, 0, lo :: hi :: od :: _, _) => nxP np (pc + 3) && ((Nat.beq lo 103 && Nat.beq hi 103 && Nat.beq od 103 && hasF f [18, idx]) || hasF f [5, idx, lo, hi, od])
    | _ => false)
  | .instanceof idx => Nat.beq len 3 && (match it with
    | (.instanceof 0, np, 0, lo :: hi :: od :: _, _) => nxP np (pc + 3) && hasF f [5, idx, lo, hi, od]
    | _ => false)
  | .invokestatic idx => Nat.beq len 3 && (match it with
    | (.swap, np, 0, 0 :: _, _) => nxP np (pc + 3) && hasF f [19, idx, 0]
    | (.swap, np, 0, 1 :: _, _) => nxP np (pc + 3) && hasF f [19, idx, 1]
    | (.swap, np, 0, 2 :: _, _) => nxP np (pc + 3) && hasF f [19, idx, 2]
    | (.swap, np, 0, 3 :: _, _) => nxP np (pc + 3) && hasF f [19, idx, 3]
    | (.invokedynamic 0, np, 0, 1 :: 105 :: 105 :: 105 :: _, _) => nxP np (pc + 3) && hasF f [14, idx]
    | (.invokedynamic 0, np, 0, 1 :: 102 :: 103 :: 103 :: _, _) => nxP np (pc + 3) && hasF f [14, idx]
    | (.invokedynamic 0, np, 0, 1 :: 107 :: 107 :: 107 :: _, _) => nxP np (pc + 3) && hasF f [14, idx]
    | _ => false)
  | .invokevirtual idx => Nat.beq len 3 && (match it with
    | (.invokedynamic 0, np, 0, 2 :: 107 :: 60 :: _, _) => nxP np (pc + 3) && hasF f [15, idx]
    | (.invokedynamic 0, np, 0, 3 :: _, _) => nxP np (pc + 3) && hasF f [16, idx]
    | _ => false)
  | .invokespecial idx => Nat.beq len 3 && (match it with
    | (.invokedynamic 0, np, 0, 4 :: _, _) => nxP np (pc + 3) && hasF f [13, idx]
    | _ => false)
  | _ => false
/-- the callees of a dispatch -/
def disB (f : List (List Nat)) (idx n : Nat) : List Nat → Bool
  | lo :: hi :: c :: r => hasF f [23, idx, n, c, lo, hi] && disB f idx n r
  | _ => true
/-- the check of a call -/
def ckCall (b : ByteArray) (f : List (List Nat)) (pc np hd : Nat) (au : List Nat) : Bool := match decode b pc with
  | .ok (.invokestatic idx, 3) => nxP np (pc + 3) && (match au with
    | 0 :: c :: _ => hasF f [20, idx, Nat.mod hd 16, c]
    | _ => false)
  | .ok (.invokevirtual idx, 3) => nxP np (pc + 3) && (match au with
    | 2 :: lo :: hi :: od :: c :: _ => hasF f [21, idx, Nat.mod hd 16, c, lo, hi, od]
    | 1 :: r => disB f idx (Nat.mod hd 16) r
    | _ => false)
  | .ok (.invokespecial idx, 3) => nxP np (pc + 3) && (match au with
    | 2 :: lo :: hi :: od :: c :: _ => hasF f [22, idx, Nat.mod hd 16, c, lo, hi, od]
    | _ => false)
  | _ => false
theorem ss_call {Γ : gT} {y pc k np tg : Nat} {au : List Nat} {cz : Int} : SS Γ y pc (.invokestatic k, np, tg, au, cz) := by
  intro p l e R s mid args below meth c ad0 n0 s0 d hcx hr hn L S m
  unfold stp
  dsimp only
  split
  · rename_i as r _
    cases Nat.beq (m_words as) (Nat.div (au.headD 0) 16) with
    | false => exact True.intro
    | true =>
      cases Nat.ble r.length 4 with
      | false => exact True.intro
      | true => exact True.intro
  · exact True.intro
theorem two {p q : Bool} (h : (p && q) = true) : p = true ∧ q = true := by
  cases p
  · cases h
  · exact ⟨rfl, h⟩
theorem nxE {a b : Nat} (h : nxP a b = true) : a = b := Nat.eq_of_beq_eq_true h
theorem tgE {pc tg : Nat} {off : Int} (h : tgB pc off tg = true) : (pc : Int) + off = (tg : Int) := of_decide_eq_true h
theorem lnE {a b : Nat} (h : Nat.beq a b = true) : a = b := Nat.eq_of_beq_eq_true h
theorem cnd_inj {a b : ClassFile.Cond} (h : Nat.beq (cnd a) (cnd b) = true) : a = b := by
  have h := Nat.eq_of_beq_eq_true h
  cases a <;> cases b <;> first | rfl | (cases h; done) | (simp [cnd, m_cond] at h; done)
theorem zEq (z : Int) : ((z.toNat : Nat) : Int) - (((-z).toNat : Nat) : Int) = z := by omega
section
variable {Γ : gT} {y pc : Nat}
theorem ckI_ok {f : List (List Nat)} {ini ex : Bool} {it : mIt} {ins : Instr} {len : Nat} (hG : gG Γ) (hd : decode (gby Γ y) pc = .ok (ins, len)) (hF : ∀ q ∈ f, fm Γ (gnm Γ y).cls q) (hini : ini = true → (gnm Γ y).name = "<init>") (hex : ex = true → gex Γ y = [])
    (h : ckI (gby Γ y) f (grt Γ y) ini ex pc it ins len = true) : SS Γ y pc it := by
  unfold ckI at h
  split at h
  · rw [eqI_eq (two h).1]; exact ss_iadd (lnE (two h).2 ▸ hd)
  · rw [eqI_eq (two h).1]; exact ss_isub (lnE (two h).2 ▸ hd)
  · rw [eqI_eq (two h).1]; exact ss_imul (lnE (two h).2 ▸ hd)
  · rw [eqI_eq (two h).1]; exact ss_idiv (lnE (two h).2 ▸ hd)
  · rw [eqI_eq (two h).1]; exact ss_irem (lnE (two h).2 ▸ hd)
  · rw [eqI_eq (two h).1]; exact ss_ineg (lnE (two h).2 ▸ hd)
  · rw [eqI_eq (two h).1]; exact ss_ladd (lnE (two h).2 ▸ hd)
  · rw [eqI_eq (two h).1]; exact ss_lsub (lnE (two h).2 ▸ hd)
  · rw [eqI_eq (two h).1]; exact ss_lmul (lnE (two h).2 ▸ hd)
  · rw [eqI_eq (two h).1]; exact ss_ldiv (lnE (two h).2 ▸ hd)
  · rw [eqI_eq (two h).1]; exact ss_iand (lnE (two h).2 ▸ hd)
  · rw [eqI_eq (two h).1]; exact ss_ior (lnE (two h).2 ▸ hd)
  · rw [eqI_eq (two h).1]; exact ss_ixor (lnE (two h).2 ▸ hd)
  · rw [eqI_eq (two h).1]; exact ss_ishl (lnE (two h).2 ▸ hd)
  · rw [eqI_eq (two h).1]; exact ss_ishr (lnE (two h).2 ▸ hd)
  · rw [eqI_eq (two h).1]; exact ss_iushr (lnE (two h).2 ▸ hd)
  · rw [eqI_eq (two h).1]; exact ss_i2b (lnE (two h).2 ▸ hd)
  · rw [eqI_eq (two h).1]; exact ss_i2c (lnE (two h).2 ▸ hd)
  · rw [eqI_eq (two h).1]; exact ss_i2l (lnE (two h).2 ▸ hd)
  · rw [eqI_eq (two h).1]; exact ss_l2i (lnE (two h).2 ▸ hd)
  · rw [eqI_eq (two h).1]; exact ss_dup (lnE (two h).2 ▸ hd)
  · rw [eqI_eq (two h).1]; exact ss_dup_x1 (lnE (two h).2 ▸ hd)
  · rw [eqI_eq (two h).1]; exact ss_dup2 (lnE (two h).2 ▸ hd)
  · rw [eqI_eq (two h).1]; exact ss_pop (lnE (two h).2 ▸ hd)
  · rw [eqI_eq (two h).1]; exact ss_iload (lnE (two h).2 ▸ hd)
  · rw [eqI_eq (two h).1]; exact ss_iload_n (lnE (two h).2 ▸ hd) rfl
  · rw [eqI_eq (two h).1]; exact ss_lload (lnE (two h).2 ▸ hd)
  · rw [eqI_eq (two h).1]; exact ss_lload_n (lnE (two h).2 ▸ hd) rfl
  · rw [eqI_eq (two h).1]; exact ss_aload (lnE (two h).2 ▸ hd)
  · rw [eqI_eq (two h).1]; exact ss_aload_n (lnE (two h).2 ▸ hd) rfl
  · rw [eqI_eq (two h).1]; exact ss_istore (lnE (two h).2 ▸ hd)
  · rw [eqI_eq (two h).1]; exact ss_istore_n (lnE (two h).2 ▸ hd) rfl
  · rw [eqI_eq (two h).1]; exact ss_lstore (lnE (two h).2 ▸ hd)
  · rw [eqI_eq (two h).1]; exact ss_lstore_n (lnE (two h).2 ▸ hd) rfl
  · rw [eqI_eq (two h).1]; exact ss_astore (lnE (two h).2 ▸ hd)
  · rw [eqI_eq (two h).1]; exact ss_astore_n (lnE (two h).2 ▸ hd) rfl
  · rw [eqI_eq (two (two h).1).1]; exact ss_iconst (lnE (two (two h).1).2 ▸ hd) (of_decide_eq_true (two h).2)
  · rw [eqI_eq (two (two h).1).1]; exact ss_bipush (lnE (two (two h).1).2 ▸ hd) (of_decide_eq_true (two h).2)
  · rw [eqI_eq (two (two h).1).1]; exact ss_sipush (lnE (two (two h).1).2 ▸ hd) (of_decide_eq_true (two h).2)
  · rename_i n
    rw [eqI_eq (two h).1]
    exact ss_lconst (lnE (two h).2 ▸ hd) ⟨⟨by have := n.isLt; omega, by have := n.isLt; omega⟩, Int64.ofInt_eq_ofNat.symm⟩
  · rw [eqI_eq (two h).1]; exact ss_null (lnE (two h).2 ▸ hd)
  · rw [eqI_eq (two h).1]; exact ss_iinc (lnE (two h).2 ▸ hd)
  · obtain ⟨hl, h⟩ := two h
    rw [lnE hl] at hd
    split at h
    · obtain ⟨h1, h2⟩ := two h
      rw [nxE h1]
      obtain ⟨v, q1, q2, q3⟩ := hF _ (hasF_mem h2)
      rw [zEq] at q2 q3
      exact ss_ldci hd q1 ⟨q2, q3⟩
    · rename_i np z _
      obtain ⟨h1, h3⟩ := two h
      obtain ⟨h1, h2⟩ := two h1
      have h2 := of_decide_eq_true h2
      rw [nxE h1]
      rw [Bool.or_eq_true] at h3
      have ez : ((z.toNat : Nat) : Int) = z := by omega
      rcases h3 with h3 | h3
      · obtain ⟨q1, tx, q2⟩ := hF _ (hasF_mem h3)
        rw [ez] at q2
        exact ss_ldcS (by omega) (by show z < (1000 : Int); omega) q2 hd
      · obtain ⟨q1, C, q2, q3⟩ := hF _ (hasF_mem h3)
        rw [ez] at q2
        exact ss_ldcM (by omega) (by show z < (1000 : Int); omega) q2 q3 hd
    · cases h
  · obtain ⟨hl, h⟩ := two h
    rw [lnE hl] at hd
    split at h
    · obtain ⟨h1, h2⟩ := two h
      rw [nxE h1]
      obtain ⟨v, q1, q2, q3⟩ := hF _ (hasF_mem h2)
      rw [zEq] at q2 q3
      exact ss_ldcwI hd q1 ⟨q2, q3⟩
    · rename_i np z _
      obtain ⟨h1, h3⟩ := two h
      obtain ⟨h1, h2⟩ := two h1
      have h2 := of_decide_eq_true h2
      rw [nxE h1]
      have ez : ((z.toNat : Nat) : Int) = z := by omega
      obtain ⟨q1, tx, q2⟩ := hF _ (hasF_mem h3)
      rw [ez] at q2
      exact ss_ldcwS (by omega) (by show z < (1000 : Int); omega) q2 hd
    · cases h
  · obtain ⟨hl, h⟩ := two h
    rw [lnE hl] at hd
    split at h
    · obtain ⟨h1, h2⟩ := two h
      rw [nxE h1]
      obtain ⟨v, q1, q2, q3⟩ := hF _ (hasF_mem h2)
      rw [zEq] at q2 q3
      exact ss_ldc2 hd q1 ⟨q2, q3⟩
    · cases h
  · rename_i c off
    obtain ⟨hl, h⟩ := two h
    rw [lnE hl] at hd
    split at h
    · obtain ⟨h1, h3⟩ := two h
      obtain ⟨h1, h2⟩ := two h1
      rw [nxE h2]
      have hc := cnd_inj h1
      rw [← hc]
      have ht := tgE h3
      clear hc h1 h
      cases c
      all_goals first | exact ss_icmp_eq hd ht | exact ss_icmp_ne hd ht | exact ss_icmp_lt hd ht | exact ss_icmp_ge hd ht | exact ss_icmp_gt hd ht | exact ss_icmp_le hd ht
    · cases h
  · rename_i c off
    obtain ⟨hl, h⟩ := two h
    rw [lnE hl] at hd
    split at h
    · obtain ⟨h1, h3⟩ := two h
      obtain ⟨h1, h2⟩ := two h1
      rw [nxE h2]
      have hc := cnd_inj h1
      rw [← hc]
      have ht := tgE h3
      clear hc h1 h
      cases c
      all_goals first | exact ss_if_eq hd ht | exact ss_if_ne hd ht | exact ss_if_lt hd ht | exact ss_if_ge hd ht | exact ss_if_gt hd ht | exact ss_if_le hd ht
    · cases h
  · rename_i c off
    obtain ⟨hl, h⟩ := two h
    rw [lnE hl] at hd
    split at h
    · obtain ⟨h1, h3⟩ := two h
      obtain ⟨h1, h2⟩ := two h1
      rw [nxE h2]
      have hc := of_decide_eq_true h1
      rw [← hc]
      have ht := tgE h3
      clear hc h1 h
      cases c
      all_goals first | exact ss_acmp_eq hG.old hd ht | exact ss_acmp_ne hG.old hd ht
    · cases h
  · obtain ⟨hl, h⟩ := two h
    rw [lnE hl] at hd
    split at h
    · obtain ⟨h1, h2⟩ := two h
      rw [nxE h1]
      exact ss_ifnull hd (tgE h2)
    · cases h
  · obtain ⟨hl, h⟩ := two h
    rw [lnE hl] at hd
    split at h
    · obtain ⟨h1, h2⟩ := two h
      rw [nxE h1]
      exact ss_ifnonnull hd (tgE h2)
    · cases h
  · obtain ⟨hl, h⟩ := two h
    rw [lnE hl] at hd
    split at h
    · exact ss_goto hd (tgE h)
    · cases h
  · obtain ⟨hl, h⟩ := two h
    rw [lnE hl] at hd
    split at h
    · rename_i c off hd2
      split at h
      · obtain ⟨h1, h3⟩ := two h
        obtain ⟨h1, h2⟩ := two h1
        rw [nxE h2, ← Nat.eq_of_beq_eq_true h1]
        have ht := tgE h3
        cases c
        all_goals first | exact ss_lcmp_eq hd hd2 ht | exact ss_lcmp_ne hd hd2 ht | exact ss_lcmp_lt hd hd2 ht | exact ss_lcmp_ge hd hd2 ht | exact ss_lcmp_gt hd hd2 ht | exact ss_lcmp_le hd hd2 ht
      · cases h
    · cases h
  · split at h
    · obtain ⟨h, h5⟩ := two h
      obtain ⟨h, h4⟩ := two h
      obtain ⟨h, h3⟩ := two h
      obtain ⟨h1, h2⟩ := two h
      rw [lbeq_eq h5]
      exact ss_tsw hd (of_decide_eq_true h1) (by rw [← of_decide_eq_true h1]; exact of_decide_eq_true h2) (of_decide_eq_true h3) (tgE h4)
    · obtain ⟨h, h5⟩ := two h
      obtain ⟨h, h4⟩ := two h
      obtain ⟨h, h3⟩ := two h
      obtain ⟨h1, h2⟩ := two h
      rw [lbeq_eq h5]
      exact ss_tsx hd (of_decide_eq_true h1) (of_decide_eq_true h2) (of_decide_eq_true h3) (tgE h4)
    · cases h
  · obtain ⟨hl, h⟩ := two h
    rw [lnE hl] at hd
    split at h
    · exact ss_iret hd (of_decide_eq_true h)
    · exact ss_zret hd (of_decide_eq_true h)
    · exact ss_bret hd (of_decide_eq_true h)
    · exact ss_cret hd (of_decide_eq_true h)
    · cases h
  · obtain ⟨h, h3⟩ := two h
    rw [eqI_eq (two h).1]; exact ss_lret (lnE (two h).2 ▸ hd) (of_decide_eq_true h3)
  · obtain ⟨h, h3⟩ := two h
    obtain ⟨t, e1, e2⟩ := isRefT_ok h3
    rw [eqI_eq (two h).1]; exact ss_aret (lnE (two h).2 ▸ hd) e1 e2
  · obtain ⟨h, h3⟩ := two h
    rw [eqI_eq (two h).1]; exact ss_vret (lnE (two h).2 ▸ hd) (of_decide_eq_true h3)
  · obtain ⟨h, h3⟩ := two h
    rw [eqI_eq (two h).1]; exact ss_athrow (lnE (two h).2 ▸ hd) (hex h3)
  · obtain ⟨hl, h⟩ := two h
    rw [lnE hl] at hd
    split at h
    · obtain ⟨h1, h2⟩ := two h
      rw [nxE h1]
      exact ss_getf hd (hF _ (hasF_mem h2))
    · obtain ⟨h1, h2⟩ := two h
      rw [nxE h1]
      obtain ⟨q1, C, n, dsc, ref, q2, q3, q4⟩ := hF _ (hasF_mem h2)
      exact ss_getf_old hd q1 q2 q3 q4
    · cases h
  · obtain ⟨hl, h⟩ := two h
    rw [lnE hl] at hd
    split at h
    · obtain ⟨h1, h2⟩ := two h
      rw [nxE h1]
      rw [Bool.or_eq_true] at h2
      rcases h2 with h2 | h2
      · exact ss_putf hd (hF _ (hasF_mem h2) _)
      · obtain ⟨h2, h3⟩ := two h2
        refine ss_putf hd ?_
        rw [hini h2]
        exact hF _ (hasF_mem h3)
    · cases h
  · obtain ⟨hl, h⟩ := two h
    rw [lnE hl] at hd
    split at h
    · obtain ⟨h1, h2⟩ := two h
      rw [nxE h1]
      obtain ⟨C, n, dsc, ref, q1, q2, q3⟩ := hF _ (hasF_mem h2)
      exact ss_gets q1 q2 q3 hd
    · rename_i np z _
      obtain ⟨h1, h3⟩ := two h
      obtain ⟨h1, h2⟩ := two h1
      have h2 := of_decide_eq_true h2
      rw [nxE h1]
      have ez : ((z.toNat : Nat) : Int) = z := by omega
      obtain ⟨C, n, dsc, ref, q0, q1, q2, q3⟩ := hF _ (hasF_mem h3)
      rw [ez] at q1
      exact ss_getsI ⟨by omega, by omega⟩ q1 q2 q3 hd
    · cases h
  · obtain ⟨hl, h⟩ := two h
    rw [lnE hl] at hd
    split at h
    · rw [nxE h]; exact ss_iald hd
    · rw [nxE h]; exact ss_iald_old hG.o101 hd
    · cases h
  · obtain ⟨hl, h⟩ := two h
    rw [lnE hl] at hd
    split at h
    · rw [nxE h]; exact ss_bald ⟨Or.inr rfl, rfl⟩ hd
    · rw [nxE h]; exact ss_bald_old hG.o102 hd
    · cases h
  · obtain ⟨hl, h⟩ := two h
    rw [lnE hl] at hd
    split at h
    · rw [nxE h]; exact ss_lald hd
    · cases h
  · obtain ⟨hl, h⟩ := two h
    rw [lnE hl] at hd
    split at h
    · rw [nxE h]; exact ss_aald (Or.inl rfl) hd
    · rw [nxE h]; exact ss_aald (Or.inr rfl) hd
    · rw [nxE h]; obtain ⟨C, hC⟩ := hG.o109; exact ss_aald_old hC hd
    · cases h
  · obtain ⟨hl, h⟩ := two h
    rw [lnE hl] at hd
    split at h
    · rw [nxE h]; exact ss_iast hd
    · cases h
  · obtain ⟨hl, h⟩ := two h
    rw [lnE hl] at hd
    split at h
    · rw [nxE h]; exact ss_last hd
    · cases h
  · obtain ⟨hl, h⟩ := two h
    rw [lnE hl] at hd
    split at h
    · rw [nxE h]; exact ss_bast hd
    · rw [nxE h]; exact ss_zast hd
    · cases h
  · obtain ⟨hl, h⟩ := two h
    rw [lnE hl] at hd
    split at h
    · rw [nxE h]; exact ss_aast (Or.inl ⟨rfl, rfl, rfl⟩) ⟨by omega, by omega⟩ hG.any hd
    · rw [nxE h]; exact ss_aast (Or.inr ⟨rfl, rfl, rfl⟩) ⟨by omega, by omega⟩ (fun q h1 h2 => (show q = 14 by omega) ▸ hG.anyF) hd
    · cases h
  · obtain ⟨hl, h⟩ := two h
    rw [lnE hl] at hd
    split at h
    · rw [nxE h]; exact ss_alen_b hG.o102 hd
    · rw [nxE h]; exact ss_alen_s hG.o101 hd
    · rw [nxE h]; exact ss_alen (by omega) (by omega) hd
    · cases h
  · obtain ⟨hl, h⟩ := two h
    rw [lnE hl] at hd
    split at h
    · obtain ⟨h1, h2⟩ := two h
      rw [of_decide_eq_true h2] at hd
      rw [nxE h1]; exact ss_newa_i hG.ai hd
    · obtain ⟨h1, h2⟩ := two h
      rw [of_decide_eq_true h2] at hd
      rw [nxE h1]; exact ss_newa_b hG.ab hd
    · obtain ⟨h1, h2⟩ := two h
      rw [of_decide_eq_true h2] at hd
      rw [nxE h1]; exact ss_newa_z hG.az hd
    · obtain ⟨h1, h2⟩ := two h
      rw [of_decide_eq_true h2] at hd
      rw [nxE h1]; exact ss_newa_l hG.al hd
    · cases h
  · obtain ⟨hl, h⟩ := two h
    rw [lnE hl] at hd
    split at h
    · obtain ⟨h1, h2⟩ := two h
      rw [nxE h1]
      obtain ⟨C, t0, q1, q2⟩ := hF _ (hasF_mem h2)
      exact ss_newq q1 q2 hd
    · cases h
  · obtain ⟨hl, h⟩ := two h
    rw [lnE hl] at hd
    split at h
    · obtain ⟨h1, h2⟩ := two h
      rw [nxE h1]
      obtain ⟨C, T, ty, q1, q2, q3, q4, q5⟩ := hF _ (hasF_mem h2)
      exact ss_new q1 q2 q3 q4 q5 hd
    · obtain ⟨h1, h2⟩ := two h
      rw [nxE h1]
      split at h2
      · rename_i hd2 hd3
        obtain ⟨q1, q2⟩ := hF _ (hasF_mem h2)
        exact hG.nse y pc _ _ _ _ q1 q2 hd hd2 hd3
      · cases h2
    · cases h
  · obtain ⟨hl, h⟩ := two h
    rw [lnE hl] at hd
    split at h
    · obtain ⟨h1, h2⟩ := two h
      rw [nxE h1]
      rw [Bool.or_eq_true] at h2
      rcases h2 with h2 | h2
      · obtain ⟨h2, h6⟩ := two h2
        obtain ⟨h2, h5⟩ := two h2
        obtain ⟨h3, h4⟩ := two h2
        rw [lnE h3, lnE h4, lnE h5]
        exact ss_castB (hF _ (hasF_mem h6)) hd
      · obtain ⟨nm, q1, q2⟩ := hF _ (hasF_mem h2)
        exact ss_castC q1 q2 hd
    · cases h
  · obtain ⟨hl, h⟩ := two h
    rw [lnE hl] at hd
    split at h
    · obtain ⟨h1, h2⟩ := two h
      rw [nxE h1]
      obtain ⟨nm, q1, q2⟩ := hF _ (hasF_mem h2)
      exact ss_inst q1 q2 hd
    · cases h
  · obtain ⟨hl, h⟩ := two h
    rw [lnE hl] at hd
    split at h
    · obtain ⟨h1, h2⟩ := two h
      rw [nxE h1]
      exact ss_mm0 (hF _ (hasF_mem h2)) hG.mm0 hd
    · obtain ⟨h1, h2⟩ := two h
      rw [nxE h1]
      exact ss_mm1 (hF _ (hasF_mem h2)) hG.mm1 hd
    · obtain ⟨h1, h2⟩ := two h
      rw [nxE h1]
      exact ss_mm2 (hF _ (hasF_mem h2)) hG.mm2 hd
    · obtain ⟨h1, h2⟩ := two h
      rw [nxE h1]
      exact ss_mm3 (hF _ (hasF_mem h2)) hG.mm3 hd
    · obtain ⟨h1, h2⟩ := two h
      rw [nxE h1]
      exact ss_cpi ⟨hF _ (hasF_mem h2), hG.cp⟩ hd
    · obtain ⟨h1, h2⟩ := two h
      rw [nxE h1]
      exact ss_cpb hG.o102 ⟨hF _ (hasF_mem h2), hG.cp⟩ hd
    · obtain ⟨h1, h2⟩ := two h
      rw [nxE h1]
      exact ss_cpq hG.any ⟨hF _ (hasF_mem h2), hG.cp⟩ hd
    · cases h
  · obtain ⟨hl, h⟩ := two h
    rw [lnE hl] at hd
    split at h
    · obtain ⟨h1, h2⟩ := two h
      rw [nxE h1]
      exact ss_getC (by omega) (by omega) hG.gc.1 (hF _ (hasF_mem h2)) hG.gc.2.1 hG.gc.2.2.1 hG.gc.2.2.2.1 hG.gc.2.2.2.2 hd
    · obtain ⟨h1, h2⟩ := two h
      rw [nxE h1]
      exact ss_clone (hF _ (hasF_mem h2)) hG.cl.1 hG.cl.2.1 hG.cl.2.2.1 hG.cl.2.2.2.1 hG.cl.2.2.2.2 hd
    · cases h
  · obtain ⟨hl, h⟩ := two h
    rw [lnE hl] at hd
    split at h
    · obtain ⟨h1, h2⟩ := two h
      rw [nxE h1]
      exact ss_oinit (hF _ (hasF_mem h2)) hG.oi.1 hG.oi.2 hd
    · cases h
  · cases h
end
