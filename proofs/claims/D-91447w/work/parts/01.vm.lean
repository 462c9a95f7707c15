/-! THE MINI-VM: a Prop-valued interpreter of (normalised) bytecode over mathematical integers.
 values: int, long, reference (a name; 0 is null). A machine is given by its memory type M, its heap instructions O and the kinds of names. -/
abbrev mV : Type := Int ⊕ (Int ⊕ Int)
abbrev mI (z : Int) : mV := Sum.inl z
abbrev mJ (z : Int) : mV := Sum.inr (Sum.inl z)
abbrev mR (z : Int) : mV := Sum.inr (Sum.inr z)
/-- a way out: returned (nothing or a value), or thrown (the name) -/
abbrev mO : Type := (Option mV) ⊕ Int
abbrev mL : Type := List (Option mV)
abbrev mG (M : Type) : Type := Nat × mL × List mV × M
abbrev mQ (M : Type) : Type := mO → M → Prop
/-- an instruction: the sort, the next pc, the target, small numbers, a constant -/
abbrev mIt : Type := Instr × Nat × Nat × List Nat × Int
abbrev i32 (z : Int) : Prop := -2147483648 ≤ z ∧ z ≤ 2147483647
abbrev i64 (z : Int) : Prop := -9223372036854775808 ≤ z ∧ z ≤ 9223372036854775807
def zand (a b : Int) : Int := (Int32.ofInt a &&& Int32.ofInt b).toInt
def zor (a b : Int) : Int := (Int32.ofInt a ||| Int32.ofInt b).toInt
def zxor (a b : Int) : Int := (Int32.ofInt a ^^^ Int32.ofInt b).toInt
def zshl (a b : Int) : Int := (Int32.ofInt a <<< (Int32.ofInt b &&& 31)).toInt
def zshr (a b : Int) : Int := (Int32.ofInt a >>> (Int32.ofInt b &&& 31)).toInt
def zushr (a b : Int) : Int := ((Int32.ofInt a).toUInt32 >>> ((Int32.ofInt b).toUInt32 &&& Int32.toUInt32 31)).toInt32.toInt
def zi2b (a : Int) : Int := (a + 128) % 256 - 128
def zi2c (a : Int) : Int := a % 65536
def mtag (t : Nat) (z : Int) : mV := match t with
  | 0 => mI z
  | 1 => mJ z
  | _ => mR z
abbrev mRes (M : Type) : Type := Option (mG M ⊕ ((Prop × mG M) ⊕ ((Nat × Int × Int × Nat × mG M) ⊕ ((Int × List Nat × mG M) ⊕ ((List Nat × List mV × mG M) ⊕ ((mO × M) ⊕ (Prop × mO × M)))))))
abbrev mHeap (M : Type) : Type := mIt → List mV → M → Option (Option Prop × List mV × M)
section
variable {M : Type}
def r_go (g : mG M) : mRes M := some (.inl g)
def r_ck (P : Prop) (g : mG M) : mRes M := some (.inr (.inl (P, g)))
def r_br (op : Nat) (x y : Int) (t : Nat) (g : mG M) : mRes M := some (.inr (.inr (.inl (op, x, y, t, g))))
def r_sw (x : Int) (tb : List Nat) (g : mG M) : mRes M := some (.inr (.inr (.inr (.inl (x, tb, g)))))
def r_call (au : List Nat) (as : List mV) (g : mG M) : mRes M := some (.inr (.inr (.inr (.inr (.inl (au, as, g))))))
def r_ret (o : mO) (m : M) : mRes M := some (.inr (.inr (.inr (.inr (.inr (.inl (o, m)))))))
def r_retP (P : Prop) (o : mO) (m : M) : mRes M := some (.inr (.inr (.inr (.inr (.inr (.inr (P, o, m)))))))
def m_ii (S : List mV) (f : Int → Int → List mV → mRes M) : mRes M := match S with
  | .inl y :: .inl x :: r => f x y r
  | _ => none
def m_jj (S : List mV) (f : Int → Int → List mV → mRes M) : mRes M := match S with
  | .inr (.inl y) :: .inr (.inl x) :: r => f x y r
  | _ => none
def m_i (S : List mV) (f : Int → List mV → mRes M) : mRes M := match S with
  | .inl x :: r => f x r
  | _ => none
def m_cond (c : ClassFile.Cond) : Nat := match c with
  | .eq => 0
  | .ne => 1
  | .lt => 2
  | .ge => 3
  | .gt => 4
  | .le => 5
/-- a store of one word at k: a long at k - 1 is lost; the new list is handed on as it stands -/
def m_st1 {R : Type _} : Nat → mV → mL → (mL → Option R) → Option R
  | 0, v, _ :: r, k => k (some v :: r)
  | 1, v, some (.inr (.inl _)) :: _ :: r, k => k (none :: some v :: r)
  | 1, v, x :: _ :: r, k => k (x :: some v :: r)
  | n + 2, v, x :: r, k => m_st1 (n + 1) v r (fun r' => k (x :: r'))
  | _, _, _, _ => none
def m_st2 {R : Type _} : Nat → mV → mL → (mL → Option R) → Option R
  | 0, v, _ :: _ :: r, k => k (some v :: none :: r)
  | 1, v, some (.inr (.inl _)) :: _ :: _ :: r, k => k (none :: some v :: none :: r)
  | 1, v, x :: _ :: _ :: r, k => k (x :: some v :: none :: r)
  | n + 2, v, x :: r, k => m_st2 (n + 1) v r (fun r' => k (x :: r'))
  | _, _, _, _ => none
def m_ld {R : Type _} : Nat → mL → (mV → Option R) → Option R
  | 0, some v :: _, k => k v
  | n + 1, _ :: r, k => m_ld n r k
  | _, _, _ => none
def m_has : List Nat → Nat → Bool
  | [], _ => false
  | a :: r, x => bif Nat.beq a x then true else m_has r x
/-- the arguments off the stack (the last on top), the first first -/
def m_take : Nat → List mV → List mV → Option (List mV × List mV)
  | 0, S, acc => some (acc, S)
  | n + 1, v :: S, acc => m_take n S (v :: acc)
  | _ + 1, [], _ => none
/-- the locals at a method's start: the arguments, then n unset ones; handed on as they stand -/
def m_unset : Nat → mL
  | 0 => []
  | n + 1 => none :: m_unset n
def m_unsetK : Nat → mL → (mL → Prop) → Prop
  | 0, acc, k => k acc
  | n + 1, acc, k => m_unsetK n (none :: acc) k
def m_entK (u : Nat) : List mV → (mL → Prop) → Prop
  | [], k => m_unsetK u [] k
  | .inr (.inl z) :: r, k => m_entK u r (fun L => k (some (mJ z) :: none :: L))
  | .inl z :: r, k => m_entK u r (fun L => k (some (mI z) :: L))
  | .inr (.inr z) :: r, k => m_entK u r (fun L => k (some (mR z) :: L))
def m_isJv (v : mV) : Bool := match v with
  | .inr (.inl _) => true
  | _ => false
/-- the words that arguments take -/
def m_words : List mV → Nat
  | [] => 0
  | .inr (.inl _) :: r => Nat.succ (Nat.succ (m_words r))
  | .inl _ :: r => Nat.succ (m_words r)
  | .inr (.inr _) :: r => Nat.succ (m_words r)
def stp (O : mHeap M) (it : mIt) (L : mL) (S : List mV) (m : M) : mRes M :=
  match it with
  | (ins, np, tg, au, cz) => match ins with
  | .iload k => m_ld k L (fun v => match v with
    | .inl x => r_go (np, L, mI x :: S, m)
    | _ => none)
  | .lload k => m_ld k L (fun v => match v with
    | .inr (.inl x) => r_go (np, L, mJ x :: S, m)
    | _ => none)
  | .aload k => m_ld k L (fun v => match v with
    | .inr (.inr x) => r_go (np, L, mR x :: S, m)
    | _ => none)
  | .ldc _ => r_go (np, L, mtag (au.headD 0) cz :: S, m)
  | .istore k => match S with
    | .inl v :: r => m_st1 k (mI v) L (fun L' => r_go (np, L', r, m))
    | _ => none
  | .astore k => match S with
    | .inr (.inr v) :: r => m_st1 k (mR v) L (fun L' => r_go (np, L', r, m))
    | _ => none
  | .lstore k => match S with
    | .inr (.inl v) :: r => m_st2 k (mJ v) L (fun L' => r_go (np, L', r, m))
    | _ => none
  | .getfield _ | .putfield _ | .getstatic _ | .putstatic _ | .iaload | .iastore | .laload | .lastore | .baload | .bastore | .aaload | .aastore | .arraylength | .new _ | .anewarray _ | .checkcast _ | .instanceof _ | .aconst_null | .swap | .invokedynamic _ => match O it S m with
    | some (none, S', m') => r_go (np, L, S', m')
    | some (some P, S', m') => r_ck P (np, L, S', m')
    | none => none
  | .invokestatic _ => match m_take (Nat.mod (au.headD 0) 16) S [] with
    | some (as, r) => bif Nat.beq (m_words as) (Nat.div (au.headD 0) 16) then bif Nat.ble r.length 4 then r_call au as (np, L, r, m) else none else none
    | none => none
  | .if_icmp c _ => m_ii S (fun x y r => r_br (m_cond c) x y tg (np, L, r, m))
  | .ifCond c _ => m_i S (fun x r => r_br (m_cond c) x 0 tg (np, L, r, m))
  | .ifnull _ => match S with
    | .inr (.inr x) :: r => r_br 0 x 0 tg (np, L, r, m)
    | _ => none
  | .ifnonnull _ => match S with
    | .inr (.inr x) :: r => r_br 1 x 0 tg (np, L, r, m)
    | _ => none
  | .if_acmp c _ => match S with
    | .inr (.inr y) :: .inr (.inr x) :: r => r_br (match c with | .eq => 6 | .ne => 7) x y tg (np, L, r, m)
    | _ => none
  | .lcmp => m_jj S (fun x y r => r_br (au.headD 0) x y tg (np, L, r, m))
  | .goto _ => r_go (np, L, S, m)
  | .monitorenter => m_i S (fun x r => r_sw x au (np, L, r, m))
  | .monitorexit => m_i S (fun x r => r_sw (x - cz) au (np, L, r, m))
  | .iadd => m_ii S (fun x y r => r_ck (i32 (x + y)) (np, L, mI (x + y) :: r, m))
  | .isub => m_ii S (fun x y r => r_ck (i32 (x - y)) (np, L, mI (x - y) :: r, m))
  | .imul => m_ii S (fun x y r => r_ck (i32 (x * y)) (np, L, mI (x * y) :: r, m))
  | .idiv => m_ii S (fun x y r => r_ck (0 ≤ x ∧ 0 < y) (np, L, mI (x / y) :: r, m))
  | .irem => m_ii S (fun x y r => r_ck (0 ≤ x ∧ 0 < y) (np, L, mI (x % y) :: r, m))
  | .ineg => m_i S (fun x r => r_ck (i32 (-x)) (np, L, mI (-x) :: r, m))
  | .iand => m_ii S (fun x y r => r_go (np, L, mI (zand x y) :: r, m))
  | .ior => m_ii S (fun x y r => r_go (np, L, mI (zor x y) :: r, m))
  | .ixor => m_ii S (fun x y r => r_go (np, L, mI (zxor x y) :: r, m))
  | .ishl => m_ii S (fun x y r => r_go (np, L, mI (zshl x y) :: r, m))
  | .ishr => m_ii S (fun x y r => r_go (np, L, mI (zshr x y) :: r, m))
  | .iushr => m_ii S (fun x y r => r_go (np, L, mI (zushr x y) :: r, m))
  | .i2b => m_i S (fun x r => r_go (np, L, mI (zi2b x) :: r, m))
  | .i2c => m_i S (fun x r => r_go (np, L, mI (zi2c x) :: r, m))
  | .i2l => m_i S (fun x r => r_go (np, L, mJ x :: r, m))
  | .l2i => match S with
    | .inr (.inl x) :: r => r_ck (i32 x) (np, L, mI x :: r, m)
    | _ => none
  | .ladd => m_jj S (fun x y r => r_ck (i64 (x + y)) (np, L, mJ (x + y) :: r, m))
  | .lsub => m_jj S (fun x y r => r_ck (i64 (x - y)) (np, L, mJ (x - y) :: r, m))
  | .lmul => m_jj S (fun x y r => r_ck (i64 (x * y)) (np, L, mJ (x * y) :: r, m))
  | .ldiv => m_jj S (fun x y r => r_ck (0 ≤ x ∧ 0 < y) (np, L, mJ (x / y) :: r, m))
  | .iinc k n => m_ld k L (fun v => match v with
    | .inl x => m_st1 k (mI (x + n)) L (fun L' => r_ck (i32 (x + n)) (np, L', S, m))
    | _ => none)
  | .dup => match S with
    | v :: r => bif m_isJv v then none else r_go (np, L, v :: v :: r, m)
    | _ => none
  | .dup_x1 => match S with
    | v :: w :: r => bif m_isJv v then none else bif m_isJv w then none else r_go (np, L, v :: w :: v :: r, m)
    | _ => none
  | .dup2 => match S with
    | .inr (.inl v) :: r => r_go (np, L, mJ v :: mJ v :: r, m)
    | v :: w :: r => bif m_isJv w then none else r_go (np, L, v :: w :: v :: w :: r, m)
    | _ => none
  | .pop => match S with
    | v :: r => bif m_isJv v then none else r_go (np, L, r, m)
    | _ => none
  | .ireturn => match S with
    | [.inl x] => match au with
      | 0 :: _ => r_ret (.inl (some (mI x))) m
      | 1 :: _ => r_retP (0 ≤ x ∧ x ≤ 1) (.inl (some (mI x))) m
      | 2 :: _ => r_retP (-128 ≤ x ∧ x ≤ 127) (.inl (some (mI x))) m
      | 3 :: _ => r_retP (0 ≤ x ∧ x ≤ 65535) (.inl (some (mI x))) m
      | _ => none
    | _ => none
  | .lreturn => match S with
    | [.inr (.inl x)] => r_ret (.inl (some (mJ x))) m
    | _ => none
  | .areturn => match S with
    | [.inr (.inr x)] => r_ret (.inl (some (mR x))) m
    | _ => none
  | .return_ => match S with
    | [] => r_ret (.inl none) m
    | _ => none
  | .athrow => match S with
    | .inr (.inr x) :: _ => r_retP (0 < x) (.inr x) m
    | _ => none
  | _ => none
/-- what a call comes back with: nothing, an int, a long, a reference; or it throws -/
def kV (t : Int → M → Prop) (k : M → Prop) : mQ M := fun o m => match o with
  | .inl none => k m
  | .inr a => t a m
  | _ => False
def kI (t : Int → M → Prop) (k : Int → M → Prop) : mQ M := fun o m => match o with
  | .inl (some (.inl z)) => k z m
  | .inr a => t a m
  | _ => False
def kJ (t : Int → M → Prop) (k : Int → M → Prop) : mQ M := fun o m => match o with
  | .inl (some (.inr (.inl z))) => k z m
  | .inr a => t a m
  | _ => False
def kR (t : Int → M → Prop) (k : Int → M → Prop) : mQ M := fun o m => match o with
  | .inl (some (.inr (.inr z))) => k z m
  | .inr a => t a m
  | _ => False
def kT (Q : mQ M) : Int → M → Prop := fun a m => Q (.inr a) m
/-- the branch: eq, ne, lt, ge, gt, le; of references: eq, ne (not of two old cells) -/
def m_br (op : Nat) (x y : Int) (A B : Prop) : Prop := match op with
  | 0 => if x = y then A else B
  | 1 => if x = y then B else A
  | 2 => if x < y then A else B
  | 3 => if x < y then B else A
  | 4 => if y < x then A else B
  | 5 => if y < x then B else A
  | 6 => (((1000 ≤ x ∨ 1000 ≤ y) ∧ (x < 60 ∨ 65 < x) ∧ (y < 60 ∨ 65 < y)) ∨ x = 0 ∨ y = 0 ∨ x = y) ∧ if x = y then A else B
  | _ => (((1000 ≤ x ∨ 1000 ≤ y) ∧ (x < 60 ∨ 65 < x) ∧ (y < 60 ∨ 65 < y)) ∨ x = 0 ∨ y = 0 ∨ x = y) ∧ if x = y then B else A
/-- the switch: keys and targets -/
def m_sw (x : Int) (k : Nat → Prop) (d : Prop) : List Nat → Prop
  | key :: t :: r => if x = (key : Int) then k t else m_sw x k d r
  | _ => d
/-- the callee by the receiver's kind -/
def m_dis (kd : Nat) (k : Nat → Prop) : List Nat → Prop
  | lo :: hi :: y :: r => if lo ≤ kd ∧ kd ≤ hi then k y else m_dis kd k r
  | _ => False
def m_recv (as : List mV) : Int := match as with
  | .inr (.inr a) :: _ => a
  | _ => 0
def m_th (kd : M → Int → Nat) (nx : mG M → Prop) (L' : mL) (Q : mQ M) (h hk : Nat) : Int → M → Prop := match h with
  | 0 => kT Q
  | h + 1 => fun a m => kd m a = hk ∧ nx (h + 1, L', [mR a], m)
def m_K (th : Int → M → Prop) (nx : mG M → Prop) (pc' : Nat) (L' : mL) (S' : List mV) (rs : Nat) : mQ M := match rs with
  | 0 => kV th (fun m => nx (pc', L', S', m))
  | 1 => kI th (fun z m => nx (pc', L', mI z :: S', m))
  | 2 => kJ th (fun z m => nx (pc', L', mJ z :: S', m))
  | _ => kR th (fun z m => nx (pc', L', mR z :: S', m))
/-- au of a call: arguments, return sort (0 void, 1 int, 2 long, 3 ref), the handler's pc (0: none), its kind, 0: the callee | 1: lo hi callee .. | 2: lo hi old: the receiver's kind, the callee -/
def wp (O : mHeap M) (kd : M → Int → Nat) (P : Nat → Nat → mIt) (ml : Nat → Nat) (Rr : Nat → Nat → mG M → mQ M → Prop) (inl stops : List Nat) : Nat → Nat → Nat → mG M → mQ M → Prop
  | 0, d, y, g, Q => Rr d y g Q
  | n + 1, d, y, (pc, L, S, m), Q =>
    let nx : mG M → Prop := fun g' => match g' with
      | (pc', L', S', m') => bif m_has stops (10000 * y + pc') then Rr d y (pc', L', S', m') Q else wp O kd P ml Rr inl stops n d y (pc', L', S', m') Q
    match stp O (P y pc) L S m with
    | none => False
    | some (.inl g') => nx g'
    | some (.inr (.inl (C, g'))) => C ∧ nx g'
    | some (.inr (.inr (.inl (op, x, z, t, (pc', L', S', m'))))) => m_br op x z (nx (t, L', S', m')) (nx (pc', L', S', m'))
    | some (.inr (.inr (.inr (.inl (x, tb, (pc', L', S', m')))))) => m_sw x (fun t => nx (t, L', S', m')) (nx (pc', L', S', m')) tb
    | some (.inr (.inr (.inr (.inr (.inl (au, as, (pc', L', S', m'))))))) =>
      match d with
      | 0 => False
      | d' + 1 => match au with
        | _ :: rs :: h :: hk :: au' =>
          let K : mQ M := m_K (m_th kd nx L' Q h hk) nx pc' L' S' rs
          let go : Nat → Prop := fun c => m_entK (ml c) as (fun L0 => bif m_has inl c then wp O kd P ml Rr inl stops n d' c (0, L0, [], m') K else Rr d' c (0, L0, [], m') K)
          match au' with
          | 0 :: c :: _ => go c
          | 1 :: r => m_dis (kd m' (m_recv as)) go r
          | 2 :: lo :: hi :: od :: c :: _ => ((lo ≤ kd m' (m_recv as) ∧ kd m' (m_recv as) ≤ hi) ∨ kd m' (m_recv as) = od) ∧ go c
          | _ => False
        | _ => False
    | some (.inr (.inr (.inr (.inr (.inr (.inl (o, m))))))) => Q o m
    | some (.inr (.inr (.inr (.inr (.inr (.inr (C, o, m))))))) => C ∧ Q o m
/-- THE MACHINE: the least predicate that holds where one step leads into it -/
def Rn (O : mHeap M) (kd : M → Int → Nat) (P : Nat → Nat → mIt) (ml : Nat → Nat) (d y : Nat) (g : mG M) (Q : mQ M) : Prop :=
  ∀ Z : Nat → Nat → mG M → mQ M → Prop, (∀ d y g Q, wp O kd P ml Z [] [] 1 d y g Q → Z d y g Q) → Z d y g Q
theorem m_br_mono {op : Nat} {x y : Int} {A B A' B' : Prop} (h : m_br op x y A B) (hA : A → A') (hB : B → B') : m_br op x y A' B' := by
  have aux : ∀ {c : Prop} [Decidable c] {X Y X' Y' : Prop}, (X → X') → (Y → Y') → (if c then X else Y) → (if c then X' else Y') := by
    intro c _ X Y X' Y' h1 h2 h
    by_cases hc : c
    · rw [if_pos hc] at h ⊢; exact h1 h
    · rw [if_neg hc] at h ⊢; exact h2 h
  unfold m_br at h ⊢
  split at h
  · exact aux hA hB h
  · exact aux hB hA h
  · exact aux hA hB h
  · exact aux hB hA h
  · exact aux hA hB h
  · exact aux hB hA h
  · exact ⟨h.1, aux hA hB h.2⟩
  · exact ⟨h.1, aux hB hA h.2⟩
theorem m_sw_mono {x : Int} {k k' : Nat → Prop} {d d' : Prop} (hk : ∀ t, k t → k' t) (hd : d → d') : ∀ (tb : List Nat), m_sw x k d tb → m_sw x k' d' tb
  | [], h => hd h
  | [_], h => hd h
  | key :: t :: r, h => by
    unfold m_sw at h ⊢
    split at h
    · rename_i hc
      rw [if_pos hc]
      exact hk _ h
    · rename_i hc
      rw [if_neg hc]
      exact m_sw_mono hk hd r h
theorem m_dis_mono {kd : Nat} {k k' : Nat → Prop} (hk : ∀ t, k t → k' t) : ∀ (tb : List Nat), m_dis kd k tb → m_dis kd k' tb
  | [], h => h
  | [_], h => h
  | [_, _], h => h
  | lo :: hi :: y :: r, h => by
    unfold m_dis at h ⊢
    split at h
    · rename_i hc
      rw [if_pos hc]
      exact hk _ h
    · rename_i hc
      rw [if_neg hc]
      exact m_dis_mono hk r h
theorem m_unsetK_mono {k k' : mL → Prop} (hk : ∀ L, k L → k' L) : ∀ (n : Nat) (acc : mL), m_unsetK n acc k → m_unsetK n acc k'
  | 0, _, h => hk _ h
  | n + 1, _, h => m_unsetK_mono hk n _ h
theorem m_entK_mono {u : Nat} : ∀ (as : List mV) {k k' : mL → Prop}, (∀ L, k L → k' L) → m_entK u as k → m_entK u as k'
  | [], _, _, hk, h => m_unsetK_mono hk u [] h
  | .inr (.inl z) :: r, _, _, hk, h => m_entK_mono r (fun L hL => hk _ hL) h
  | .inl z :: r, _, _, hk, h => m_entK_mono r (fun L hL => hk _ hL) h
  | .inr (.inr z) :: r, _, _, hk, h => m_entK_mono r (fun L hL => hk _ hL) h
theorem kV_mono {t t' : Int → M → Prop} {k k' : M → Prop} (ht : ∀ a m, t a m → t' a m) (hk : ∀ m, k m → k' m) : ∀ o m, kV t k o m → kV t' k' o m := by
  intro o m h
  rcases o with (_ | v) | a
  · exact hk _ h
  · exact h
  · exact ht _ _ h
theorem kI_mono {t t' : Int → M → Prop} {k k' : Int → M → Prop} (ht : ∀ a m, t a m → t' a m) (hk : ∀ z m, k z m → k' z m) : ∀ o m, kI t k o m → kI t' k' o m := by
  intro o m h
  rcases o with (_ | v | v | v) | a
  · exact h
  · exact hk _ _ h
  · exact h
  · exact h
  · exact ht _ _ h
theorem kJ_mono {t t' : Int → M → Prop} {k k' : Int → M → Prop} (ht : ∀ a m, t a m → t' a m) (hk : ∀ z m, k z m → k' z m) : ∀ o m, kJ t k o m → kJ t' k' o m := by
  intro o m h
  rcases o with (_ | v | v | v) | a
  · exact h
  · exact h
  · exact hk _ _ h
  · exact h
  · exact ht _ _ h
theorem kR_mono {t t' : Int → M → Prop} {k k' : Int → M → Prop} (ht : ∀ a m, t a m → t' a m) (hk : ∀ z m, k z m → k' z m) : ∀ o m, kR t k o m → kR t' k' o m := by
  intro o m h
  rcases o with (_ | v | v | v) | a
  · exact h
  · exact h
  · exact h
  · exact hk _ _ h
  · exact ht _ _ h
theorem m_K_mono {th th' : Int → M → Prop} {nx nx' : mG M → Prop} {pc' : Nat} {L' : mL} {S' : List mV} {rs : Nat} (hth : ∀ a m, th a m → th' a m) (hn : ∀ L S m, nx (pc', L, S, m) → nx' (pc', L, S, m)) : ∀ o m, m_K th nx pc' L' S' rs o m → m_K th' nx' pc' L' S' rs o m := by
  match rs with
  | 0 => exact kV_mono hth (fun m => hn L' S' m)
  | 1 => exact kI_mono hth (fun z m => hn L' (mI z :: S') m)
  | 2 => exact kJ_mono hth (fun z m => hn L' (mJ z :: S') m)
  | k + 3 => exact kR_mono hth (fun z m => hn L' (mR z :: S') m)
variable {O : mHeap M} {kd : M → Int → Nat} {P : Nat → Nat → mIt} {ml : Nat → Nat}
theorem wp_G {Rr Rr' : Nat → Nat → mG M → mQ M → Prop} {inl stops : List Nat} {n : Nat}
    (h1 : ∀ d y g (Q Q' : mQ M), (∀ o m, Q o m → Q' o m) → Rr d y g Q → Rr' d y g Q')
    (h2 : ∀ d y g (Q Q' : mQ M), (∀ o m, Q o m → Q' o m) → wp O kd P ml Rr inl stops n d y g Q → Rr' d y g Q')
    {d y : Nat} {g : mG M} {Q Q' : mQ M} (hQ : ∀ o m, Q o m → Q' o m) (h : wp O kd P ml Rr inl stops (n + 1) d y g Q) : wp O kd P ml Rr' [] [] 1 d y g Q' := by
  obtain ⟨pc, L, S, m⟩ := g
  unfold wp at h ⊢
  have hn : ∀ (pc' : Nat) (L' : mL) (S' : List mV) (m' : M), (bif m_has stops (10000 * y + pc') then Rr d y (pc', L', S', m') Q else wp O kd P ml Rr inl stops n d y (pc', L', S', m') Q) →
      (bif m_has [] (10000 * y + pc') then Rr' d y (pc', L', S', m') Q' else wp O kd P ml Rr' [] [] 0 d y (pc', L', S', m') Q') := by
    intro pc' L' S' m' h
    show Rr' d y (pc', L', S', m') Q'
    cases hs : m_has stops (10000 * y + pc') with
    | true => rw [hs] at h; exact h1 _ _ _ _ _ hQ h
    | false => rw [hs] at h; exact h2 _ _ _ _ _ hQ h
  dsimp only at h ⊢
  generalize stp O (P y pc) L S m = r at h ⊢
  rcases r with _ | g' | ⟨C, g'⟩ | ⟨op, x, z, t, pc', L', S', m'⟩ | ⟨x, tb, pc', L', S', m'⟩ | ⟨au, as, pc', L', S', m'⟩ | ⟨o, m'⟩ | ⟨C, o, m'⟩
  · exact h
  · exact hn _ _ _ _ h
  · exact ⟨h.1, hn _ _ _ _ h.2⟩
  · exact m_br_mono h (hn _ _ _ _) (hn _ _ _ _)
  · exact m_sw_mono (fun t => hn _ _ _ _) (hn _ _ _ _) tb h
  · dsimp only at h ⊢
    rcases d with _ | d'
    · exact h
    · rcases au with _ | ⟨a0, _ | ⟨rs, _ | ⟨hh, _ | ⟨hk, au'⟩⟩⟩⟩
      · exact h
      · exact h
      · exact h
      · exact h
      · dsimp only at h ⊢
        have hgo : ∀ (K K' : mQ M), (∀ o m, K o m → K' o m) → ∀ c, m_entK (ml c) as (fun L0 => bif m_has inl c then wp O kd P ml Rr inl stops n d' c (0, L0, [], m') K else Rr d' c (0, L0, [], m') K) →
            m_entK (ml c) as (fun L0 => bif m_has [] c then wp O kd P ml Rr' [] [] 0 d' c (0, L0, [], m') K' else Rr' d' c (0, L0, [], m') K') := by
          intro K K' hK c
          refine m_entK_mono as (fun L hL => ?_)
          show Rr' d' c (0, L, [], m') K'
          cases hs : m_has inl c with
          | true => rw [hs] at hL; exact h2 _ _ _ _ _ hK hL
          | false => rw [hs] at hL; exact h1 _ _ _ _ _ hK hL
        have hth : ∀ a m, m_th kd (fun g' : mG M => match g' with | (pc', L', S', m') => bif m_has stops (10000 * y + pc') then Rr (d' + 1) y (pc', L', S', m') Q else wp O kd P ml Rr inl stops n (d' + 1) y (pc', L', S', m') Q) L' Q hh hk a m →
            m_th kd (fun g' : mG M => match g' with | (pc', L', S', m') => bif m_has [] (10000 * y + pc') then Rr' (d' + 1) y (pc', L', S', m') Q' else wp O kd P ml Rr' [] [] 0 (d' + 1) y (pc', L', S', m') Q') L' Q' hh hk a m := by
          intro a m hm
          cases hh with
          | zero => exact hQ _ _ hm
          | succ k => exact ⟨hm.1, hn _ _ _ _ hm.2⟩
        have hK := m_K_mono (pc' := pc') (L' := L') (S' := S') (rs := rs) hth (nx := fun g' : mG M => match g' with | (pc', L', S', m') => bif m_has stops (10000 * y + pc') then Rr (d' + 1) y (pc', L', S', m') Q else wp O kd P ml Rr inl stops n (d' + 1) y (pc', L', S', m') Q) (nx' := fun g' : mG M => match g' with | (pc', L', S', m') => bif m_has [] (10000 * y + pc') then Rr' (d' + 1) y (pc', L', S', m') Q' else wp O kd P ml Rr' [] [] 0 (d' + 1) y (pc', L', S', m') Q') (fun L S m => hn pc' L S m)
        rcases au' with _ | ⟨_ | _ | _ | k, r⟩
        · exact h
        · rcases r with _ | ⟨c, r⟩
          · exact h
          · exact hgo _ _ hK c h
        · exact m_dis_mono (hgo _ _ hK) _ h
        · rcases r with _ | ⟨lo, _ | ⟨hi, _ | ⟨od, _ | ⟨c, r⟩⟩⟩⟩
          · exact h
          · exact h
          · exact h
          · exact h
          · exact ⟨h.1, hgo _ _ hK c h.2⟩
        · exact h
  · exact hQ _ _ h
  · exact ⟨h.1, hQ _ _ h.2⟩
theorem Rn.ind {Z : Nat → Nat → mG M → mQ M → Prop} (hZ : ∀ d y g Q, wp O kd P ml Z [] [] 1 d y g Q → Z d y g Q) {d y : Nat} {g : mG M} {Q : mQ M} (h : Rn O kd P ml d y g Q) : Z d y g Q := h Z hZ
theorem Rn.mono_aux {d y : Nat} {g : mG M} {Q : mQ M} (h : Rn O kd P ml d y g Q) : ∀ Q' : mQ M, (∀ o m, Q o m → Q' o m) → Rn O kd P ml d y g Q' := by
  refine Rn.ind (Z := fun d y g Q => ∀ Q' : mQ M, (∀ o m, Q o m → Q' o m) → Rn O kd P ml d y g Q') ?_ h
  intro d y g Q hw Q' hQ Z hZ
  refine hZ _ _ _ _ (wp_G (Rr' := Z) (fun d y g Q Q' hQ h => h Q' hQ Z hZ) (fun d y g Q Q' hQ h => ?_) hQ hw)
  unfold wp at h
  exact h Q' hQ Z hZ
theorem Rn.mono {d y : Nat} {g : mG M} {Q Q' : mQ M} (h : Rn O kd P ml d y g Q) (hQ : ∀ o m, Q o m → Q' o m) : Rn O kd P ml d y g Q' := Rn.mono_aux h Q' hQ
theorem Rn.step {d y : Nat} {g : mG M} {Q : mQ M} (h : wp O kd P ml (Rn O kd P ml) [] [] 1 d y g Q) : Rn O kd P ml d y g Q := by
  intro Z hZ
  refine hZ _ _ _ _ (wp_G (Rr := Rn O kd P ml) (Rr' := Z) (fun d y g Q Q' hQ h => (Rn.mono h hQ) Z hZ) (fun d y g Q Q' hQ h => ?_) (fun _ _ h => h) h)
  unfold wp at h
  exact (Rn.mono h hQ) Z hZ
/-- many steps at once: to the stops, into the methods that are to be opened -/
theorem Rn.run (inl stops : List Nat) (n : Nat) {d y : Nat} {g : mG M} {Q : mQ M} (h : wp O kd P ml (Rn O kd P ml) inl stops n d y g Q) : Rn O kd P ml d y g Q := by
  have hall : ∀ n d y g (Q Q' : mQ M), (∀ o m, Q o m → Q' o m) → wp O kd P ml (Rn O kd P ml) inl stops n d y g Q → Rn O kd P ml d y g Q' := by
    intro n
    induction n with
    | zero =>
      intro d y g Q Q' hQ h
      unfold wp at h
      exact Rn.mono h hQ
    | succ n ih =>
      intro d y g Q Q' hQ h
      exact Rn.step (wp_G (Rr := Rn O kd P ml) (Rr' := Rn O kd P ml) (fun d y g Q Q' hQ h => Rn.mono h hQ) ih hQ h)
  exact hall n d y g Q Q (fun _ _ h => h) h
end
