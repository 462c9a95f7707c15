/-! numbers: Int against Int32, Int64 -/
theorem o32 {x : Int} (h : i32 x) : (Int32.ofInt x).toInt = x := Int32.toInt_ofInt_of_le (by have := h.1; omega) (by have := h.2; omega)
theorem o64 {x : Int} (h : i64 x) : (Int64.ofInt x).toInt = x := Int64.toInt_ofInt_of_le (by have := h.1; omega) (by have := h.2; omega)
theorem o32_b (a : Int32) : i32 a.toInt := ⟨by have := a.le_toInt; omega, by have := a.toInt_lt; omega⟩
theorem o64_b (a : Int64) : i64 a.toInt := ⟨by have := a.le_toInt; omega, by have := a.toInt_lt; omega⟩
theorem o32_lt {x y : Int} (hx : i32 x) (hy : i32 y) : Int32.ofInt x < Int32.ofInt y ↔ x < y := by rw [Int32.lt_iff_toInt_lt, o32 hx, o32 hy]
theorem o32_le {x y : Int} (hx : i32 x) (hy : i32 y) : Int32.ofInt x ≤ Int32.ofInt y ↔ x ≤ y := by rw [Int32.le_iff_toInt_le, o32 hx, o32 hy]
theorem o32_eq {x y : Int} (hx : i32 x) (hy : i32 y) : Int32.ofInt x = Int32.ofInt y ↔ x = y := by rw [← Int32.toInt_inj, o32 hx, o32 hy]
theorem o64_lt {x y : Int} (hx : i64 x) (hy : i64 y) : Int64.ofInt x < Int64.ofInt y ↔ x < y := by rw [Int64.lt_iff_toInt_lt, o64 hx, o64 hy]
theorem o64_eq {x y : Int} (hx : i64 x) (hy : i64 y) : Int64.ofInt x = Int64.ofInt y ↔ x = y := by rw [← Int64.toInt_inj, o64 hx, o64 hy]
theorem o32_0 : Int32.ofInt 0 = 0 := by decide
theorem o32_i : i32 0 := ⟨by omega, by omega⟩
theorem o32_div {x y : Int} (hx : i32 x) (hy : i32 y) (h0 : 0 ≤ x) (h1 : 0 < y) : Int32.ofInt x / Int32.ofInt y = Int32.ofInt (x / y) := by
  have hq : i32 (x / y) := by
    have h2 : 0 ≤ x / y := Int.ediv_nonneg h0 (by omega)
    have h3 : x / y ≤ x := Int.ediv_le_self y h0
    have := hx.2
    exact ⟨by omega, by omega⟩
  rw [← Int32.toInt_inj, Int32.toInt_div, o32 hx, o32 hy, o32 hq, Int.tdiv_eq_ediv_of_nonneg h0]
  have h4 := hq.1
  have h5 := hq.2
  generalize x / y = q at *
  rw [Int.bmod_def]
  omega
theorem o64_div {x y : Int} (hx : i64 x) (hy : i64 y) (h0 : 0 ≤ x) (h1 : 0 < y) : Int64.ofInt x / Int64.ofInt y = Int64.ofInt (x / y) := by
  have hq : i64 (x / y) := by
    have h2 : 0 ≤ x / y := Int.ediv_nonneg h0 (by omega)
    have h3 : x / y ≤ x := Int.ediv_le_self y h0
    have := hx.2
    exact ⟨by omega, by omega⟩
  rw [← Int64.toInt_inj, Int64.toInt_div, o64 hx, o64 hy, o64 hq, Int.tdiv_eq_ediv_of_nonneg h0]
  have h4 := hq.1
  have h5 := hq.2
  generalize x / y = q at *
  rw [Int.bmod_def]
  omega
theorem o32_divb {x y : Int} (hx : i32 x) (h0 : 0 ≤ x) (h1 : 0 < y) : i32 (x / y) := by
  have h2 : 0 ≤ x / y := Int.ediv_nonneg h0 (by omega)
  have h3 : x / y ≤ x := Int.ediv_le_self y h0
  have := hx.2
  exact ⟨by omega, by omega⟩
theorem o64_divb {x y : Int} (hx : i64 x) (h0 : 0 ≤ x) (h1 : 0 < y) : i64 (x / y) := by
  have h2 : 0 ≤ x / y := Int.ediv_nonneg h0 (by omega)
  have h3 : x / y ≤ x := Int.ediv_le_self y h0
  have := hx.2
  exact ⟨by omega, by omega⟩
theorem o32_remb {x y : Int} (hx : i32 x) (h0 : 0 ≤ x) (h1 : 0 < y) : i32 (x % y) := by
  have h2 : 0 ≤ x % y := Int.emod_nonneg x (by omega)
  have h3 : x % y ≤ x := by
    have h4 := Int.emod_def x y
    have h5 : 0 ≤ y * (x / y) := Int.mul_nonneg (by omega) (Int.ediv_nonneg h0 (by omega))
    omega
  have := hx.2
  exact ⟨by omega, by omega⟩
theorem o32_rem {x y : Int} (hx : i32 x) (hy : i32 y) (h0 : 0 ≤ x) (h1 : 0 < y) : Int32.ofInt x - Int32.ofInt x / Int32.ofInt y * Int32.ofInt y = Int32.ofInt (x % y) := by
  rw [o32_div hx hy h0 h1, ← Int32.ofInt_mul, ← Int32.ofInt_sub, Int.emod_def, Int.mul_comm]
theorem o32_ne0 {y : Int} (hy : i32 y) (h : 0 < y) : ¬ Int32.ofInt y = 0 := by
  rw [← o32_0, o32_eq hy o32_i]
  omega
theorem o64_ne0 {y : Int} (hy : i64 y) (h : 0 < y) : ¬ Int64.ofInt y = 0 := by
  rw [show (0 : Int64) = Int64.ofInt 0 from by decide, o64_eq hy ⟨by omega, by omega⟩]
  omega
theorem o32_i2b (x : Int) : (Int32.ofInt x).toInt8.toInt32 = Int32.ofInt (zi2b x) := by
  have hb : i32 (zi2b x) := by unfold zi2b; exact ⟨by omega, by omega⟩
  rw [← Int32.toInt_inj, o32 hb, Int8.toInt_toInt32, Int32.toInt_toInt8, Int32.toInt_ofInt]
  unfold zi2b
  rw [Int.bmod_def, Int.bmod_def, show ((Int32.size : Nat) : Int) = 4294967296 from rfl]
  omega
theorem zi2b_b (x : Int) : i32 (zi2b x) := by unfold zi2b; exact ⟨by omega, by omega⟩
theorem zi2c_b (x : Int) : i32 (zi2c x) := by unfold zi2c; exact ⟨by omega, by omega⟩
theorem o32_i2c (x : Int) : ((Int32.ofInt x).toUInt32 % 65536).toInt32 = Int32.ofInt (zi2c x) := by
  rw [pk_char]
  have h1 : (Int32.ofInt x).toBitVec.toNat = (x % 4294967296).toNat := by
    show (BitVec.ofInt 32 x).toNat = _
    simp [BitVec.toNat_ofInt]
  rw [h1]
  have h2 : (((x % 4294967296).toNat % 65536 : Nat) : Int) = zi2c x := by unfold zi2c; omega
  show Int32.ofNat _ = _
  rw [← h2]
  exact (Int32.ofInt_eq_ofNat).symm
theorem o32_l {x : Int} (h : i32 x) : (Int32.ofInt x).toInt64 = Int64.ofInt x := by
  rw [← Int64.toInt_inj, Int32.toInt_toInt64, o32 h, o64 ⟨by have := h.1; omega, by have := h.2; omega⟩]
theorem o64_i {x : Int} (h : i32 x) : (Int64.ofInt x).toInt32 = Int32.ofInt x := by
  rw [← Int32.toInt_inj, Int64.toInt_toInt32, o32 h, o64 ⟨by have := h.1; omega, by have := h.2; omega⟩]
  have h1 := h.1
  have h2 := h.2
  rw [Int.bmod_def]
  omega
theorem o32_and (x y : Int) : Int32.ofInt x &&& Int32.ofInt y = Int32.ofInt (zand x y) := (Int32.ofInt_toInt _).symm
theorem o32_or (x y : Int) : Int32.ofInt x ||| Int32.ofInt y = Int32.ofInt (zor x y) := (Int32.ofInt_toInt _).symm
theorem o32_xor (x y : Int) : Int32.ofInt x ^^^ Int32.ofInt y = Int32.ofInt (zxor x y) := (Int32.ofInt_toInt _).symm
theorem o32_shl (x y : Int) : Int32.ofInt x <<< (Int32.ofInt y &&& 31) = Int32.ofInt (zshl x y) := (Int32.ofInt_toInt _).symm
theorem o32_shr (x y : Int) : Int32.ofInt x >>> (Int32.ofInt y &&& 31) = Int32.ofInt (zshr x y) := (Int32.ofInt_toInt _).symm
theorem o32_ushr (x y : Int) : ((Int32.ofInt x).toUInt32 >>> ((Int32.ofInt y).toUInt32 &&& Int32.toUInt32 31)).toInt32 = Int32.ofInt (zushr x y) := (Int32.ofInt_toInt _).symm
theorem o32_cl {x : Int} (h : i32 x) (h0 : 0 ≤ x) : (Int32.ofInt x).toNatClampNeg = x.toNat := by
  show (Int32.ofInt x).toInt.toNat = x.toNat
  rw [o32 h]
theorem o32_in {x : Int} {n : Nat} (h : i32 x) (h0 : 0 ≤ x) (h1 : x < n) : vp_in (Int32.ofInt x) n := by
  rw [vp_in_iff, o32 h]
  exact ⟨h0, h1⟩
