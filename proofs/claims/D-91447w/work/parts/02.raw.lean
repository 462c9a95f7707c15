/-! THE RAW MEMORY: what a name holds at an index, its kind, its length; the next name; the slots so far -/
abbrev mM : Type := (Int → Int → Int) × (Int → Nat) × (Int → Int) × Int × Int
abbrev NX0 : Int := 1000
abbrev CXm : Int := 1000 + 1201024
abbrev SXm : Int := 5493034
def mst (m : mM) (a i v : Int) : mM := (fun b j => if b = a ∧ j = i then v else m.1 b j, m.2)
def mnew (m : mM) (k : Nat) (len n : Int) : mM := (fun b j => if b = m.2.2.2.1 then 0 else m.1 b j, fun b => if b = m.2.2.2.1 then k else m.2.1 b, fun b => if b = m.2.2.2.1 then len else m.2.2.1 b, m.2.2.2.1 + 1, m.2.2.2.2 + n)
def mcpy (m : mM) (src sp dst dp n : Int) : mM := (fun b j => if b = dst ∧ dp ≤ j ∧ j < dp + n then m.1 src (sp + (j - dp)) else m.1 b j, m.2)
/-- a new byte array, as a is -/
def mclo (m : mM) (a : Int) : mM := (fun b j => if b = m.2.2.2.1 then m.1 a j else m.1 b j, (mnew m 103 (m.2.2.1 a) (m.2.2.1 a)).2)
/-- a new NoSuchElementException, its constructor run -/
def mnse (m : mM) : mM := mst (mst (mst (mnew m 6 0 6) m.2.2.2.1 0 m.2.2.2.1) m.2.2.2.1 1 (m.1 (-1) 3)) m.2.2.2.1 2 (m.1 (-1) 4)
def rO : mHeap mM := fun it S m => match it with
  | (ins, _, _, au, _) => match ins with
  | .getfield _ => match S, au with
    | .inr (.inr a) :: r, k :: t :: lo :: hi :: _ => some (some (lo ≤ m.2.1 a ∧ m.2.1 a ≤ hi), mtag t (m.1 a k) :: r, m)
    | _, _ => none
  | .putfield _ => match S, au with
    | .inl v :: .inr (.inr a) :: r, k :: 0 :: lo :: hi :: _ => some (some (lo ≤ m.2.1 a ∧ m.2.1 a ≤ hi), r, mst m a k v)
    | .inl v :: .inr (.inr a) :: r, k :: 3 :: lo :: hi :: _ => some (some ((lo ≤ m.2.1 a ∧ m.2.1 a ≤ hi) ∧ 0 ≤ v ∧ v ≤ 1), r, mst m a k v)
    | .inl v :: .inr (.inr a) :: r, k :: 4 :: lo :: hi :: _ => some (some ((lo ≤ m.2.1 a ∧ m.2.1 a ≤ hi) ∧ -128 ≤ v ∧ v ≤ 127), r, mst m a k v)
    | .inl v :: .inr (.inr a) :: r, k :: 5 :: lo :: hi :: _ => some (some ((lo ≤ m.2.1 a ∧ m.2.1 a ≤ hi) ∧ 0 ≤ v ∧ v ≤ 65535), r, mst m a k v)
    | .inr (.inl v) :: .inr (.inr a) :: r, k :: 1 :: lo :: hi :: _ => some (some (lo ≤ m.2.1 a ∧ m.2.1 a ≤ hi), r, mst m a k v)
    | .inr (.inr v) :: .inr (.inr a) :: r, k :: 2 :: lo :: hi :: _ => some (some (lo ≤ m.2.1 a ∧ m.2.1 a ≤ hi), r, mst m a k v)
    | _, _ => none
  | .iaload => match S, au with
    | .inl i :: .inr (.inr a) :: r, k :: _ => some (some (m.2.1 a = k ∧ 0 ≤ i ∧ i < m.2.2.1 a), mI (m.1 a i) :: r, m)
    | _, _ => none
  | .laload => match S with
    | .inl i :: .inr (.inr a) :: r => some (some (m.2.1 a = 106 ∧ 0 ≤ i ∧ i < m.2.2.1 a), mJ (m.1 a i) :: r, m)
    | _ => none
  | .baload => match S, au with
    | .inl i :: .inr (.inr a) :: r, lo :: hi :: _ => some (some ((lo ≤ m.2.1 a ∧ m.2.1 a ≤ hi) ∧ 0 ≤ i ∧ i < m.2.2.1 a), mI (m.1 a i) :: r, m)
    | _, _ => none
  | .aaload => match S, au with
    | .inl i :: .inr (.inr a) :: r, k :: _ => some (some (m.2.1 a = k ∧ 0 ≤ i ∧ i < m.2.2.1 a), mR (m.1 a i) :: r, m)
    | _, _ => none
  | .iastore => match S with
    | .inl v :: .inl i :: .inr (.inr a) :: r => some (some (m.2.1 a = 105 ∧ 0 ≤ i ∧ i < m.2.2.1 a), r, mst m a i v)
    | _ => none
  | .lastore => match S with
    | .inr (.inl v) :: .inl i :: .inr (.inr a) :: r => some (some (m.2.1 a = 106 ∧ 0 ≤ i ∧ i < m.2.2.1 a), r, mst m a i v)
    | _ => none
  | .bastore => match S, au with
    | .inl v :: .inl i :: .inr (.inr a) :: r, 103 :: _ => some (some (m.2.1 a = 103 ∧ 0 ≤ i ∧ i < m.2.2.1 a), r, mst m a i (zi2b v))
    | .inl v :: .inl i :: .inr (.inr a) :: r, 104 :: _ => some (some (m.2.1 a = 104 ∧ (0 ≤ i ∧ i < m.2.2.1 a) ∧ 0 ≤ v ∧ v ≤ 1), r, mst m a i v)
    | _, _ => none
  | .aastore => match S, au with
    | .inr (.inr v) :: .inl i :: .inr (.inr a) :: r, k :: lo :: hi :: _ => some (some (m.2.1 a = k ∧ (0 ≤ i ∧ i < m.2.2.1 a) ∧ (v = 0 ∨ (lo ≤ m.2.1 v ∧ m.2.1 v ≤ hi))), r, mst m a i v)
    | _, _ => none
  | .arraylength => match S, au with
    | .inr (.inr a) :: r, lo :: hi :: _ => some (some (lo ≤ m.2.1 a ∧ m.2.1 a ≤ hi), mI (m.2.2.1 a) :: r, m)
    | _, _ => none
  | .new _ => match au with
    | k :: n :: _ => some (some (m.2.2.2.1 + 1 ≤ CXm ∧ m.2.2.2.2 + n ≤ SXm), mR m.2.2.2.1 :: S, mnew m k 0 n)
    | _ => none
  | .anewarray _ => match S, au with
    | .inl n :: r, k :: _ => some (some ((0 ≤ n ∧ n ≤ 65536) ∧ m.2.2.2.1 + 1 ≤ CXm ∧ m.2.2.2.2 + n ≤ SXm), mR m.2.2.2.1 :: r, mnew m k n n)
    | _, _ => none
  | .checkcast _ => match S, au with
    | .inr (.inr a) :: r, lo :: hi :: od :: _ => some (some (a = 0 ∨ (lo ≤ m.2.1 a ∧ m.2.1 a ≤ hi) ∨ m.2.1 a = od), mR a :: r, m)
    | _, _ => none
  | .instanceof _ => match S, au with
    | .inr (.inr a) :: r, lo :: hi :: od :: _ => some (some ((lo ≤ m.2.1 a ∧ m.2.1 a ≤ hi) ∨ m.2.1 a = od), mI 1 :: r, m)
    | _, _ => none
  | .getstatic _ => match S, au with
    | .inr (.inr a) :: r, k :: t :: lo :: od :: _ => some (some (m.2.1 a = lo ∨ m.2.1 a = od), mtag t (m.1 a k) :: r, m)
    | _, _ => none
  | .putstatic _ => match au with
    | k :: _ => some (none, mR (m.1 (-1) k) :: S, m)
    | _ => none
  | .aconst_null => bif Nat.ble S.length 4 then some (some (m.2.2.2.1 + 1 ≤ CXm ∧ m.2.2.2.2 + 6 ≤ SXm), mR m.2.2.2.1 :: S, mnse m) else none
  | .swap => match S, au with
    | .inl y :: .inl x :: r, 0 :: _ => bif Nat.ble r.length 4 then some (none, mI (max x y) :: r, m) else none
    | .inl y :: .inl x :: r, 1 :: _ => bif Nat.ble r.length 4 then some (none, mI (min x y) :: r, m) else none
    | .inr (.inl y) :: .inr (.inl x) :: r, 2 :: _ => bif Nat.ble r.length 4 then some (none, mJ (max x y) :: r, m) else none
    | .inr (.inl y) :: .inr (.inl x) :: r, 3 :: _ => bif Nat.ble r.length 4 then some (none, mJ (min x y) :: r, m) else none
    | _, _ => none
  | .invokedynamic _ => match S, au with
    | .inl n :: .inl dp :: .inr (.inr dst) :: .inl sp :: .inr (.inr src) :: r, 1 :: slo :: shi :: dk :: _ => bif Nat.ble r.length 4 then some (some ((slo ≤ m.2.1 src ∧ m.2.1 src ≤ shi) ∧ m.2.1 dst = dk ∧ 0 ≤ n ∧ (0 ≤ sp ∧ sp + n ≤ m.2.2.1 src) ∧ (0 ≤ dp ∧ dp + n ≤ m.2.2.1 dst)), r, mcpy m src sp dst dp n) else none
    | .inr (.inr a) :: r, 3 :: _ => bif Nat.ble r.length 4 then some (some (m.2.1 a = 103 ∧ m.2.2.2.1 + 1 ≤ CXm ∧ m.2.2.2.2 + m.2.2.1 a ≤ SXm), mR m.2.2.2.1 :: r, mclo m a) else none
    | .inr (.inr a) :: r, 4 :: _ => bif Nat.ble r.length 4 then some (some (m.2.1 a ≠ 0), r, m) else none
    | .inr (.inr a) :: r, 2 :: k :: c :: _ => bif Nat.ble r.length 4 then some (some (m.2.1 a = k), mR c :: r, m) else none
    | _, _ => none
  | _ => none
abbrev rK : mM → Int → Nat := fun m a => m.2.1 a
