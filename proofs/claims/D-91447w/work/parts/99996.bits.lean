/-! BITS -/
set_option maxHeartbeats 3200000
set_option maxRecDepth 100000
/-- a bit of a number -/
def bB (x : Int) (i : Nat) : Bool := (Int32.ofInt x).toBitVec.getLsbD i
theorem zbit (x : Int) {i : Nat} (hi : i < 32) : zand (zshr x (i : Int)) 1 = if bB x i then 1 else 0 := by
  show (Int32.ofInt (zshr x (i : Int)) &&& Int32.ofInt 1).toInt = _
  have e1 : (Int32.ofInt (i : Int) &&& 31) = Int32.ofInt i := by
    have : ∀ k : Nat, k < 32 → (Int32.ofInt (k : Int) &&& 31) = Int32.ofInt k := by decide
    exact this i hi
  have e2 : (Int32.ofInt (i : Int)).toBitVec.smod 32 = BitVec.ofNat 32 i := by
    have : ∀ k : Nat, k < 32 → (Int32.ofInt (k : Int)).toBitVec.smod 32 = BitVec.ofNat 32 k := by decide
    exact this i hi
  have e3 : (Int32.ofInt (zshr x (i : Int))).toBitVec = (Int32.ofInt x).toBitVec.sshiftRight i := by
    show (Int32.ofInt (Int32.ofInt x >>> (Int32.ofInt (i : Int) &&& 31)).toInt).toBitVec = _
    rw [Int32.ofInt_toInt, e1, Int32.toBitVec_shiftRight, e2]
    show (Int32.ofInt x).toBitVec.sshiftRight (BitVec.ofNat 32 i).toNat = _
    rw [BitVec.toNat_ofNat, Nat.mod_eq_of_lt (show i < 2 ^ 32 by omega)]
  rw [← Int32.toInt_toBitVec, Int32.toBitVec_and, e3]
  have e4 : (Int32.ofInt 1).toBitVec = 1#32 := by decide
  rw [e4, BitVec.and_one_eq_setWidth_ofBool_getLsbD, BitVec.getLsbD_sshiftRight]
  have e5 : (!decide (32 ≤ 0) && if i + 0 < 32 then (Int32.ofInt x).toBitVec.getLsbD (i + 0) else (Int32.ofInt x).toBitVec.msb) = bB x i := by
    rw [if_pos (by omega)]
    simp [bB]
  rw [e5]
  cases bB x i <;> decide
theorem B_and (a b : Int) (i : Nat) : bB (zand a b) i = (bB a i && bB b i) := by
  unfold bB zand
  rw [Int32.ofInt_toInt, Int32.toBitVec_and, BitVec.getLsbD_and]
theorem B_or (a b : Int) (i : Nat) : bB (zor a b) i = (bB a i || bB b i) := by
  unfold bB zor
  rw [Int32.ofInt_toInt, Int32.toBitVec_or, BitVec.getLsbD_or]
theorem B_xor (a b : Int) (i : Nat) : bB (zxor a b) i = (bB a i ^^ bB b i) := by
  unfold bB zxor
  rw [Int32.ofInt_toInt, Int32.toBitVec_xor, BitVec.getLsbD_xor]
theorem B_m1 {i : Nat} (hi : i < 32) : bB (-1) i = true := by
  have : ∀ i : Nat, i < 32 → bB (-1) i = true := by decide
  exact this i hi
theorem B_n (n i : Nat) (hn : n < 2147483648) : bB (n : Int) i = n.testBit i := by
  unfold bB
  have ea : (Int32.ofInt (n : Int)).toBitVec = BitVec.ofNat 32 n := by
    rw [Int32.toBitVec_ofInt]; exact BitVec.ofInt_natCast ..
  rw [ea, BitVec.getLsbD_ofNat]
  by_cases h : i < 32
  · simp [h]
  · have : n < 2 ^ i := Nat.lt_of_lt_of_le (show n < 2 ^ 31 by omega) (Nat.pow_le_pow_right (by omega) (by omega))
    rw [Nat.testBit_lt_two_pow this]
    simp
theorem B_lt {x : Int} {k i : Nat} (hx : 0 ≤ x ∧ x < 2 ^ k) (hk : k ≤ 31) (hi : k ≤ i) : bB x i = false := by
  have hp : (2 : Nat) ^ k ≤ 2 ^ 31 := Nat.pow_le_pow_right (by omega) hk
  have hx2 : x.toNat < 2 ^ k := by
    have : ((2 ^ k : Nat) : Int) = (2 : Int) ^ k := by rw [Int.natCast_pow]; rfl
    omega
  have := B_n x.toNat i (by omega)
  rw [show ((x.toNat : Nat) : Int) = x by omega] at this
  rw [this]
  exact Nat.testBit_lt_two_pow (Nat.lt_of_lt_of_le hx2 (Nat.pow_le_pow_right (by omega) hi))
theorem zor_n (a b : Nat) (ha : a < 2147483648) (hb : b < 2147483648) : zor (a : Int) (b : Int) = ((a ||| b : Nat) : Int) := by
  show (Int32.ofInt a ||| Int32.ofInt b).toInt = ((a ||| b : Nat) : Int)
  have h : (a ||| b) < 2 ^ 31 := Nat.or_lt_two_pow (show a < 2 ^ 31 by omega) (show b < 2 ^ 31 by omega)
  rw [← Int32.toInt_toBitVec, Int32.toBitVec_or]
  have ea : (Int32.ofInt a).toBitVec = BitVec.ofNat 32 a := by
    rw [Int32.toBitVec_ofInt]; exact BitVec.ofInt_natCast ..
  have eb : (Int32.ofInt b).toBitVec = BitVec.ofNat 32 b := by
    rw [Int32.toBitVec_ofInt]; exact BitVec.ofInt_natCast ..
  rw [ea, eb]
  have e : (BitVec.ofNat 32 a ||| BitVec.ofNat 32 b).toNat = a ||| b := by
    rw [BitVec.toNat_or, BitVec.toNat_ofNat, BitVec.toNat_ofNat, Nat.mod_eq_of_lt (by omega), Nat.mod_eq_of_lt (by omega)]
  rw [BitVec.toInt_eq_toNat_of_lt (by rw [e]; omega), e]
theorem zand_r {a b : Int} (ha : 0 ≤ a ∧ a < 2147483648) (hb : 0 ≤ b ∧ b < 2147483648) : 0 ≤ zand a b ∧ zand a b ≤ a ∧ zand a b ≤ b := by
  have := zand_n a.toNat b.toNat (by omega) (by omega)
  rw [show ((a.toNat : Nat) : Int) = a by omega, show ((b.toNat : Nat) : Int) = b by omega] at this
  rw [this]
  have h1 : a.toNat &&& b.toNat ≤ a.toNat := Nat.and_le_left
  have h2 : a.toNat &&& b.toNat ≤ b.toNat := Nat.and_le_right
  omega
theorem zor_r {a b : Int} {k : Nat} (hk : k ≤ 31) (ha : 0 ≤ a ∧ a < ((2 ^ k : Nat) : Int)) (hb : 0 ≤ b ∧ b < ((2 ^ k : Nat) : Int)) : 0 ≤ zor a b ∧ zor a b < ((2 ^ k : Nat) : Int) := by
  have hp : (2 : Nat) ^ k ≤ 2 ^ 31 := Nat.pow_le_pow_right (by omega) hk
  have := zor_n a.toNat b.toNat (by omega) (by omega)
  rw [show ((a.toNat : Nat) : Int) = a by omega, show ((b.toNat : Nat) : Int) = b by omega] at this
  rw [this]
  have h1 := Nat.or_lt_two_pow (show a.toNat < 2 ^ k by omega) (show b.toNat < 2 ^ k by omega)
  omega
/-- bits counted -/
theorem popN_B (x : Int) : ∀ k : Nat, k ≤ 32 → popN x k = cnt (fun i => bB x i.toNat) k
  | 0, _ => by rw [show ((0 : Nat) : Int) = 0 from rfl, cnt_0]; rfl
  | k + 1, hk => by
    rw [show ((k + 1 : Nat) : Int) = (k : Int) + 1 by omega, cnt_s _ (by omega), ← popN_B x k (by omega)]
    show popN x k + zand (zshr x (k : Nat)) 1 = _
    rw [zbit x (by omega), show ((k : Int)).toNat = k by omega]
theorem cnt_ext {p : Int → Bool} {a : Nat} : ∀ b : Nat, a ≤ b → (∀ i : Int, a ≤ i → i < b → p i = false) → cnt p b = cnt p a
  | 0, h, _ => by rw [show a = 0 by omega]
  | b + 1, h, hz => by
    by_cases e : a = b + 1
    · rw [e]
    · rw [show ((b + 1 : Nat) : Int) = (b : Int) + 1 by omega, cnt_s _ (by omega), cnt_ext b (by omega) (fun i i0 i1 => hz i i0 (by omega)), hz b (by omega) (by omega)]
      simp
theorem pc_B {x : Int} {k : Nat} (hk : k ≤ 16) (hx : 0 ≤ x ∧ x < 2 ^ k) : pc x = cnt (fun i => bB x i.toNat) k := by
  rw [pc_eq, popN_B x 16 (by omega)]
  exact cnt_ext 16 hk (fun i i0 i1 => B_lt hx (by omega) (by omega))
theorem pop_B {x : Int} {k : Nat} (hk : k ≤ 12) (hx : 0 ≤ x ∧ x < 2 ^ k) : pop x = cnt (fun i => bB x i.toNat) k := by
  rw [pop_eq, popN_B x 12 (by omega)]
  exact cnt_ext 12 hk (fun i i0 i1 => B_lt hx (by omega) (by omega))
theorem pc_pop {x : Int} (hx : 0 ≤ x ∧ x < 4096) : pc x = pop x := by
  rw [pc_B (k := 12) (by omega) (by omega), pop_B (k := 12) (by omega) (by omega)]
theorem cnt_add {p q r : Int → Bool} : ∀ n : Nat, (∀ i : Int, 0 ≤ i → i < n → (p i = (q i || r i)) ∧ (q i && r i) = false) → cnt p n = cnt q n + cnt r n
  | 0, _ => by rw [show ((0 : Nat) : Int) = 0 from rfl, cnt_0, cnt_0, cnt_0]; rfl
  | n + 1, h => by
    rw [show ((n + 1 : Nat) : Int) = (n : Int) + 1 by omega, cnt_s _ (by omega), cnt_s _ (by omega), cnt_s _ (by omega), cnt_add n (fun i i0 i1 => h i i0 (by omega))]
    have := h n (by omega) (by omega)
    rw [this.1]
    revert this
    cases q n <;> cases r n <;> simp <;> omega
/-- those that are in b, and those that aren't -/
theorem pop_split {a b : Int} (ha : 0 ≤ a ∧ a ≤ 255) (hb : 0 ≤ b ∧ b ≤ 255) : pop (zand a (zxor b (-1))) = pc a - pc (zand a b) := by
  have h1 := zand_r (a := a) (b := b) (by omega) (by omega)
  rw [pc_B (x := a) (k := 12) (by omega) (by omega), pc_B (x := zand a b) (k := 12) (by omega) (by omega), pop_eq, popN_B _ 12 (by omega)]
  have := cnt_add (p := fun i => bB a i.toNat) (q := fun i => bB (zand a (zxor b (-1))) i.toNat) (r := fun i => bB (zand a b) i.toNat) 12 (fun i i0 i1 => by
    rw [B_and, B_and, B_xor, B_m1 (by omega)]
    cases bB a i.toNat <;> cases bB b i.toNat <;> decide)
  omega
