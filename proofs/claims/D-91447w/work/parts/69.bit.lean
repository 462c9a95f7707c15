/-! bits counted -/
set_option maxHeartbeats 1600000
set_option maxRecDepth 100000
def btY (n : Nat) : Nat := n - (Nat.land (Nat.shiftRight n 1) 1431655765)
def btZ (y : Nat) : Nat := Nat.land y 858993459 + Nat.land (Nat.shiftRight y 2) 858993459
def btW (z : Nat) : Nat := Nat.land (z + Nat.shiftRight z 4) 252645135
def btV (w : Nat) : Nat := w + Nat.shiftRight w 8
def btU (v : Nat) : Nat := v + Nat.shiftRight v 16
def pcN (n : Nat) : Nat → Nat
  | 0 => 0
  | k + 1 => pcN n k + Nat.land (Nat.shiftRight n k) 1
def bt (n : Nat) : Bool := Nat.ble (Nat.land (Nat.shiftRight n 1) 1431655765) n && (Nat.ble (btZ (btY n)) 65535 && (Nat.ble (btU (btV (btW (btZ (btY n))))) 65535 && Nat.beq (Nat.land (btU (btV (btW (btZ (btY n))))) 63) (pcN n 16)))
def all2 (p : Nat → Bool) : Nat → Nat → Bool
  | 0, b => p b
  | k + 1, b => all2 p k (2 * b) && all2 p k (2 * b + 1)
theorem zand_n (a b : Nat) (ha : a < 2147483648) (hb : b < 2147483648) : zand (a : Int) (b : Int) = ((a &&& b : Nat) : Int) := by
  show (Int32.ofInt a &&& Int32.ofInt b).toInt = ((a &&& b : Nat) : Int)
  have h : (a &&& b) < 2147483648 := Nat.lt_of_le_of_lt Nat.and_le_left ha
  rw [← Int32.toInt_toBitVec, Int32.toBitVec_and]
  have ea : (Int32.ofInt a).toBitVec = BitVec.ofNat 32 a := by
    rw [Int32.toBitVec_ofInt]; exact BitVec.ofInt_natCast ..
  have eb : (Int32.ofInt b).toBitVec = BitVec.ofNat 32 b := by
    rw [Int32.toBitVec_ofInt]; exact BitVec.ofInt_natCast ..
  rw [ea, eb]
  have e : (BitVec.ofNat 32 a &&& BitVec.ofNat 32 b).toNat = a &&& b := by
    rw [BitVec.toNat_and, BitVec.toNat_ofNat, BitVec.toNat_ofNat, Nat.mod_eq_of_lt (by omega), Nat.mod_eq_of_lt (by omega)]
  rw [BitVec.toInt_eq_toNat_of_lt (by rw [e]; omega), e]
theorem zshr_n (a k : Nat) (ha : a < 2147483648) (hk : k < 32) : zshr (a : Int) (k : Int) = ((a >>> k : Nat) : Int) := by
  show (Int32.ofInt a >>> (Int32.ofInt k &&& 31)).toInt = ((a >>> k : Nat) : Int)
  have e1 : (Int32.ofInt k &&& 31) = Int32.ofInt k := by
    have : ∀ k : Nat, k < 32 → (Int32.ofInt (k : Int) &&& 31) = Int32.ofInt k := by decide
    exact this k hk
  have e2 : (Int32.ofInt (k : Int)).toBitVec.smod 32 = BitVec.ofNat 32 k := by
    have : ∀ k : Nat, k < 32 → (Int32.ofInt (k : Int)).toBitVec.smod 32 = BitVec.ofNat 32 k := by decide
    exact this k hk
  rw [e1, ← Int32.toInt_toBitVec, Int32.toBitVec_shiftRight, e2]
  have ea : (Int32.ofInt a).toBitVec = BitVec.ofNat 32 a := by
    rw [Int32.toBitVec_ofInt]; exact BitVec.ofInt_natCast ..
  rw [ea]
  show ((BitVec.ofNat 32 a).sshiftRight (BitVec.ofNat 32 k).toNat).toInt = _
  rw [BitVec.toInt_sshiftRight, BitVec.toNat_ofNat, Nat.mod_eq_of_lt (show k < 2 ^ 32 by omega)]
  have e : (BitVec.ofNat 32 a).toNat = a := by rw [BitVec.toNat_ofNat, Nat.mod_eq_of_lt (by omega)]
  rw [BitVec.toInt_eq_toNat_of_lt (by rw [e]; omega), e]
  rfl
theorem zushr_n (a k : Nat) (ha : a < 2147483648) (hk : k < 32) : zushr (a : Int) (k : Int) = ((a >>> k : Nat) : Int) := by
  show ((Int32.ofInt a).toUInt32 >>> ((Int32.ofInt k).toUInt32 &&& Int32.toUInt32 31)).toInt32.toInt = ((a >>> k : Nat) : Int)
  have e1 : ((Int32.ofInt (k : Int)).toUInt32 &&& Int32.toUInt32 31) = UInt32.ofNat k := by
    have : ∀ k : Nat, k < 32 → ((Int32.ofInt (k : Int)).toUInt32 &&& Int32.toUInt32 31) = UInt32.ofNat k := by decide
    exact this k hk
  have ea : (Int32.ofInt (a : Int)).toUInt32 = UInt32.ofNat a := by
    apply UInt32.toBitVec_inj.mp
    show (Int32.ofInt (a : Int)).toBitVec = BitVec.ofNat 32 a
    rw [Int32.toBitVec_ofInt]; exact BitVec.ofInt_natCast ..
  rw [e1, ea]
  have e : (UInt32.ofNat a >>> UInt32.ofNat k).toBitVec.toNat = a >>> k := by
    show (UInt32.ofNat a >>> UInt32.ofNat k).toNat = _
    rw [UInt32.toNat_shiftRight, UInt32.toNat_ofNat', UInt32.toNat_ofNat', Nat.mod_eq_of_lt (show a < 2 ^ 32 by omega), Nat.mod_eq_of_lt (show k < 2 ^ 32 by omega), Nat.mod_eq_of_lt hk]
  show (UInt32.ofNat a >>> UInt32.ofNat k).toBitVec.toInt = _
  have : a >>> k ≤ a := Nat.shiftRight_le a k
  rw [BitVec.toInt_eq_toNat_of_lt (by rw [e]; omega), e]
theorem bt_all : all2 bt 14 0 = true := by decide +kernel
theorem all2_in {p : Nat → Bool} : ∀ (k b : Nat), all2 p k b = true → ∀ n, 2 ^ k * b ≤ n → n < 2 ^ k * (b + 1) → p n = true
  | 0, b, h, n, h1, h2 => by
    have : n = b := by rw [Nat.pow_zero] at h1 h2; omega
    rw [this]
    exact h
  | k + 1, b, h, n, h1, h2 => by
    obtain ⟨a1, a2⟩ := two h
    have e1 : 2 ^ (k + 1) * b = 2 ^ k * (2 * b) := by rw [Nat.pow_succ, Nat.mul_assoc]
    have e2 : 2 ^ (k + 1) * (b + 1) = 2 ^ k * (2 * b + 1 + 1) := by rw [Nat.pow_succ, Nat.mul_assoc]; rfl
    by_cases hc : n < 2 ^ k * (2 * b + 1)
    · exact all2_in k (2 * b) a1 n (by omega) hc
    · exact all2_in k (2 * b + 1) a2 n (by omega) (by omega)
theorem popN_n (n : Nat) (hn : n < 2147483648) : ∀ k : Nat, k ≤ 31 → popN (n : Int) k = (pcN n k : Int)
  | 0, _ => rfl
  | k + 1, hk => by
    have ih := popN_n n hn k (by omega)
    show popN (n : Int) k + zand (zshr (n : Int) (k : Int)) 1 = ((pcN n k + Nat.land (Nat.shiftRight n k) 1 : Nat) : Int)
    have hl : n >>> k ≤ n := Nat.shiftRight_le n k
    rw [ih, zshr_n n k hn (by omega)]
    have := zand_n (n >>> k) 1 (by omega) (by omega)
    rw [show ((1 : Nat) : Int) = 1 from rfl] at this
    rw [this]
    rfl
theorem bit_in {x : Int} (h : 0 ≤ x ∧ x < 16384) : ∃ y z w v u : Int, x - zand (zushr x 1) 1431655765 = y ∧ zand y 858993459 + zand (zushr y 2) 858993459 = z ∧ zand (z + zushr z 4) 252645135 = w ∧ w + zushr w 8 = v ∧ v + zushr v 16 = u ∧ zand u 63 = pc x ∧ i32 y ∧ i32 z ∧ i32 (z + zushr z 4) ∧ i32 v ∧ i32 u := by
  obtain ⟨n, rfl⟩ : ∃ n : Nat, x = n := ⟨x.toNat, by omega⟩
  have hb := all2_in 14 0 bt_all n (by omega) (by omega)
  obtain ⟨b1, hb⟩ := two hb
  obtain ⟨b2, hb⟩ := two hb
  obtain ⟨b3, b4⟩ := two hb
  have c1 := Nat.le_of_ble_eq_true b1
  have c2 := Nat.le_of_ble_eq_true b2
  have c3 := Nat.le_of_ble_eq_true b3
  have c4 := Nat.eq_of_beq_eq_true b4
  have ly : btY n ≤ n := Nat.sub_le _ _
  have s4 : Nat.shiftRight (btZ (btY n)) 4 ≤ btZ (btY n) := Nat.shiftRight_le _ 4
  have lw : btW (btZ (btY n)) ≤ btZ (btY n) + Nat.shiftRight (btZ (btY n)) 4 := Nat.and_le_left
  have lv : btV (btW (btZ (btY n))) ≤ btU (btV (btW (btZ (btY n)))) := Nat.le_add_right _ _
  have l1 : n >>> 1 ≤ n := Nat.shiftRight_le n 1
  have l2 : btY n >>> 2 ≤ btY n := Nat.shiftRight_le _ 2
  have e1 : (n : Int) - zand (zushr (n : Int) 1) 1431655765 = (btY n : Int) := by
    have q1 := zushr_n n 1 (by omega) (by omega)
    have q2 := zand_n (n >>> 1) 1431655765 (by omega) (by omega)
    rw [show zushr (n : Int) 1 = ((n >>> 1 : Nat) : Int) from q1, show zand ((n >>> 1 : Nat) : Int) 1431655765 = (((n >>> 1) &&& 1431655765 : Nat) : Int) from q2]
    show _ = ((n - Nat.land (Nat.shiftRight n 1) 1431655765 : Nat) : Int)
    rw [Int.ofNat_sub c1]
    rfl
  have e2 : zand (btY n : Int) 858993459 + zand (zushr (btY n : Int) 2) 858993459 = (btZ (btY n) : Int) := by
    have q1 := zushr_n (btY n) 2 (by omega) (by omega)
    have q2 := zand_n (btY n >>> 2) 858993459 (by omega) (by omega)
    have q3 := zand_n (btY n) 858993459 (by omega) (by omega)
    rw [show zushr (btY n : Int) 2 = ((btY n >>> 2 : Nat) : Int) from q1, show zand ((btY n >>> 2 : Nat) : Int) 858993459 = (((btY n >>> 2) &&& 858993459 : Nat) : Int) from q2, show zand (btY n : Int) 858993459 = ((btY n &&& 858993459 : Nat) : Int) from q3]
    rfl
  have e3a : zushr (btZ (btY n) : Int) 4 = ((Nat.shiftRight (btZ (btY n)) 4 : Nat) : Int) := zushr_n (btZ (btY n)) 4 (by omega) (by omega)
  have e3 : zand ((btZ (btY n) : Int) + zushr (btZ (btY n) : Int) 4) 252645135 = (btW (btZ (btY n)) : Int) := by
    rw [e3a]
    exact zand_n (btZ (btY n) + Nat.shiftRight (btZ (btY n)) 4) 252645135 (by omega) (by omega)
  have e4a : zushr (btW (btZ (btY n)) : Int) 8 = ((Nat.shiftRight (btW (btZ (btY n))) 8 : Nat) : Int) := zushr_n (btW (btZ (btY n))) 8 (by omega) (by omega)
  have e5a : zushr (btV (btW (btZ (btY n))) : Int) 16 = ((Nat.shiftRight (btV (btW (btZ (btY n)))) 16 : Nat) : Int) := zushr_n (btV (btW (btZ (btY n)))) 16 (by omega) (by omega)
  refine ⟨btY n, btZ (btY n), btW (btZ (btY n)), btV (btW (btZ (btY n))), btU (btV (btW (btZ (btY n)))), e1, e2, e3, by rw [e4a]; rfl, by rw [e5a]; rfl, ?_, by unfold i32; omega, by unfold i32; omega, by rw [e3a]; unfold i32; omega, by unfold i32; omega, by unfold i32; omega⟩
  rw [pc_eq, popN_n n (by omega) 16 (by omega), ← c4]
  exact zand_n (btU (btV (btW (btZ (btY n))))) 63 (by omega) (by omega)
theorem J_319 {d : Nat} {m : mM} {x : Int} {Q : mQ mM} (h : 0 ≤ x ∧ x < 16384) (hq : Q (rI (pc x)) m) : RJ d 319 (0, [some (mI x)], [], m) Q := by
  obtain ⟨y, z, w, v, u, e1, e2, e3, e4, e5, e6, i1, i2, i3, i4, i5⟩ := bit_in h
  rw [← e6] at hq
  subst e1 e2 e3 e4 e5
  refine RJr [] [] 80 ?_
  repeat' first | (refine ⟨fun _ => ?_, fun _ => ?_⟩ <;> try omega) | (refine ⟨by first | omega | assumption | (refine ⟨by omega, by omega⟩) | fail, ?_⟩) | (refine ⟨i1, ?_⟩) | (refine ⟨i2, ?_⟩) | (refine ⟨i3, ?_⟩) | (refine ⟨i4, ?_⟩) | (refine ⟨i5, ?_⟩) | (exact hq) | omega | fail
