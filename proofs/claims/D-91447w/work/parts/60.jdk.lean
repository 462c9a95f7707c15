/-! THE JDK's METHODS on the raw memory -/
set_option maxHeartbeats 1600000
set_option maxRecDepth 100000
theorem zshr0 {x : Int} (h : i32 x) : zshr x 0 = x := by
  unfold zshr
  have e : (Int32.ofInt x >>> (Int32.ofInt 0 &&& 31)) = Int32.ofInt x := by
    rw [show Int32.ofInt 0 &&& 31 = 0 from by decide]
    exact Int32.shiftRight_zero
  rw [e, o32 h]
/-- a text: its bytes -/
def txA (m : mM) (a e n : Int) : Prop := (m.2.1 a = 27 ∨ m.2.1 a = 28) ∧ m.1 a 1 = 0 ∧ m.1 a 0 = e ∧ (102 ≤ m.2.1 e ∧ m.2.1 e ≤ 103) ∧ m.2.2.1 e = n ∧ (0 ≤ n ∧ n ≤ 65536)
theorem hub_j {A : Prop} {d y : Nat} {g : mG mM} {Q : mQ mM} (ha : A) (h : RJ d y g Q) : A ∧ RJ d y g Q := ⟨ha, h⟩
section
variable {d : Nat} {m : mM} {a : Int} {Q : mQ mM}
theorem J_coder (h1 : m.2.1 a = 27 ∨ m.2.1 a = 28) (h2 : m.1 a ((1 : Nat) : Int) = 0) (hq : Q (rI 0) m) : RJ d 212 (0, [some (mR a)], [], m) Q := by
  rw [← h2] at hq
  refine RJr [] [] 40 ?_
  repeat' first | (refine ⟨fun _ => ?_, fun _ => ?_⟩ <;> try omega) | (refine ⟨by first | omega | assumption | (refine ⟨by omega, by omega⟩) | fail, ?_⟩) | (exact hq) | omega | fail
theorem J_isL (h1 : m.2.1 a = 27 ∨ m.2.1 a = 28) (h2 : m.1 a ((1 : Nat) : Int) = 0) (hq : Q (rI 1) m) : RJ d 214 (0, [some (mR a)], [], m) Q := by
  refine RJr [] [] 40 ?_
  repeat' first | (refine ⟨fun _ => ?_, fun _ => ?_⟩ <;> try omega) | (refine ⟨by first | omega | assumption | (refine ⟨by omega, by omega⟩) | fail, ?_⟩) | (exact hq) | omega | fail
theorem J_len {e n : Int} (h : txA m a e n) (hq : Q (rI n) m) : RJ (d + 1) 211 (0, [some (mR a)], [], m) Q := by
  obtain ⟨h1, h2, h3, h4, h5, h6⟩ := h
  subst h3 h5
  have h2 : m.1 a ((1 : Nat) : Int) = 0 := h2
  have h4 : 102 ≤ m.2.1 (m.1 a ((0 : Nat) : Int)) ∧ m.2.1 (m.1 a ((0 : Nat) : Int)) ≤ 103 := h4
  have fin : Q (rI (zshr (m.2.2.1 (m.1 a ((0 : Nat) : Int))) 0)) m := by
    rw [zshr0 (by show -2147483648 ≤ m.2.2.1 (m.1 a 0) ∧ m.2.2.1 (m.1 a 0) ≤ 2147483647; omega)]
    exact hq
  refine RJr [] [] 40 ?_
  repeat' first | (refine ⟨fun _ => ?_, fun _ => ?_⟩ <;> try omega) | (refine ⟨by first | omega | assumption | (refine ⟨by omega, by omega⟩) | fail, ?_⟩) | (refine hub_j (by dsimp only [rK]; first | omega | (simp only [mst_2]; omega) | fail) (J_coder h1 h2 ?_)) | (exact fin) | omega | fail
theorem zand255 {x : Int} (h : 0 ≤ x ∧ x ≤ 127) : zi2c (zand x 255) = x := by
  obtain ⟨n, rfl⟩ : ∃ n : Nat, x = n := ⟨x.toNat, by omega⟩
  have h1 : n < 128 := by omega
  have : ∀ n : Nat, n < 128 → zi2c (zand (n : Int) 255) = n := by decide
  exact this n h1
theorem J_257 {i n b : Int} (hi : 0 ≤ i ∧ i < n) (hq : Q (rI i) m) : RJ d 257 (0, [some (mI i), some (mI n), some (mR b)], [], m) Q := by
  refine RJr [] [] 40 ?_
  repeat' first | (refine ⟨fun _ => ?_, fun _ => ?_⟩ <;> try omega) | (refine ⟨by first | omega | assumption | (refine ⟨by omega, by omega⟩) | fail, ?_⟩) | (exact hq) | omega | fail
theorem J_220 {i n : Int} (hi : 0 ≤ i ∧ i < n) (hq : Q rV m) : RJ (d + 1) 220 (0, [some (mI i), some (mI n)], [], m) Q := by
  refine RJr [] [] 40 ?_
  repeat' first | (refine ⟨fun _ => ?_, fun _ => ?_⟩ <;> try omega) | (refine ⟨by first | omega | assumption | (refine ⟨by omega, by omega⟩) | fail, ?_⟩) | (refine J_257 hi ?_) | (exact hq) | omega | fail
theorem J_228 {i : Int} (h4 : 102 ≤ m.2.1 a ∧ m.2.1 a ≤ 103) (hi : 0 ≤ i ∧ i < m.2.2.1 a) (hv : 0 ≤ zi2c (zand (m.1 a i) 255) ∧ zi2c (zand (m.1 a i) 255) ≤ 65535) (hq : Q (rI (zi2c (zand (m.1 a i) 255))) m) : RJ (d + 2) 228 (0, [some (mR a), some (mI i)], [], m) Q := by
  refine RJr [] [] 40 ?_
  repeat' first | (refine ⟨fun _ => ?_, fun _ => ?_⟩ <;> try omega) | (refine ⟨by first | omega | assumption | (refine ⟨by omega, by omega⟩) | fail, ?_⟩) | (refine J_220 hi ?_) | (exact hq) | omega | fail
theorem J_charAt {e n i : Int} (h : txA m a e n) (hi : 0 ≤ i ∧ i < n) (hv : 0 ≤ zi2c (zand (m.1 e i) 255) ∧ zi2c (zand (m.1 e i) 255) ≤ 65535) (hq : Q (rI (zi2c (zand (m.1 e i) 255))) m) : RJ (d + 3) 219 (0, [some (mR a), some (mI i)], [], m) Q := by
  obtain ⟨h1, h2, h3, h4, h5, h6⟩ := h
  subst h3 h5
  have h2 : m.1 a ((1 : Nat) : Int) = 0 := h2
  have h4 : 102 ≤ m.2.1 (m.1 a ((0 : Nat) : Int)) ∧ m.2.1 (m.1 a ((0 : Nat) : Int)) ≤ 103 := h4
  have hi : 0 ≤ i ∧ i < m.2.2.1 (m.1 a ((0 : Nat) : Int)) := hi
  have hv : 0 ≤ zi2c (zand (m.1 (m.1 a ((0 : Nat) : Int)) i) 255) ∧ zi2c (zand (m.1 (m.1 a ((0 : Nat) : Int)) i) 255) ≤ 65535 := hv
  have fin : Q (rI (zi2c (zand (m.1 (m.1 a ((0 : Nat) : Int)) i) 255))) m := hq
  refine RJr [] [] 80 ?_
  repeat' first | (refine ⟨fun _ => ?_, fun _ => ?_⟩ <;> try omega) | (refine ⟨by first | omega | assumption | (refine ⟨by omega, by omega⟩) | fail, ?_⟩) | (refine hub_j (by dsimp only [rK]; first | omega | (simp only [mst_2]; omega) | fail) (J_isL h1 h2 ?_)) | (refine J_228 h4 hi hv ?_) | (exact fin) | omega | fail
end
