/-! THE JDK's METHODS on the raw memory: removal, search, Integers -/
set_option maxHeartbeats 1600000
set_option maxRecDepth 100000
section
variable {d : Nat} {m : mM} {a : Int} {Q : mQ mM}
/-- what is left where the place i of n goes -/
def gone (m : mM) (a e i n : Int) : mM := if n - 1 ≤ i then mst m a ((0 : Nat) : Int) (m.1 a ((0 : Nat) : Int) + 1) else mcpy (mst m a ((0 : Nat) : Int) (m.1 a ((0 : Nat) : Int) + 1)) e (i + 1) e i (n - 1 - i)
theorem J_72 {e i n : Int} (h1 : m.2.1 a = 24) (h2 : m.2.1 e = 107) (hs : m.1 a ((2 : Nat) : Int) = n) (hc : 0 ≤ m.1 a ((0 : Nat) : Int) ∧ m.1 a ((0 : Nat) : Int) ≤ 5000000) (hn : 0 ≤ i ∧ i < n ∧ n ≤ m.2.2.1 e ∧ n ≤ 65536) (hne : e ≠ a)
    (hq : Q rV (mst (mst (gone m a e i n) a ((2 : Nat) : Int) (n - 1)) e (n - 1) 0)) : RJ d 72 (0, [some (mR a), some (mR e), some (mI i), none], [], m) Q := by
  have f2 : (mst m a ((0 : Nat) : Int) (m.1 a ((0 : Nat) : Int) + 1)).1 a ((2 : Nat) : Int) = n := by rw [mst_i (by decide)]; exact hs
  have kk : ∀ m' : mM, m'.2 = m.2 → (24 ≤ m'.2.1 a ∧ m'.2.1 a ≤ 24) ∧ m'.2.1 e = 107 ∧ m'.2.2.1 e = m.2.2.1 e := fun m' e' => by rw [e']; omega
  have k1 := (kk (mst m a ((0 : Nat) : Int) (m.1 a ((0 : Nat) : Int) + 1)) rfl)
  unfold gone at hq
  by_cases hi : n - 1 ≤ i
  · rw [if_pos hi] at hq
    have k2 := (kk (mst m a ((0 : Nat) : Int) (m.1 a ((0 : Nat) : Int) + 1)) rfl).1
    have k3 : (mst (mst m a ((0 : Nat) : Int) (m.1 a ((0 : Nat) : Int) + 1)) a ((2 : Nat) : Int) (n - 1)).2.1 e = 107 ∧ (0 ≤ n - 1 ∧ n - 1 < (mst (mst m a ((0 : Nat) : Int) (m.1 a ((0 : Nat) : Int) + 1)) a ((2 : Nat) : Int) (n - 1)).2.2.1 e) ∧ ((0 : Int) = 0 ∨ (1 ≤ (mst (mst m a ((0 : Nat) : Int) (m.1 a ((0 : Nat) : Int) + 1)) a ((2 : Nat) : Int) (n - 1)).2.1 0 ∧ (mst (mst m a ((0 : Nat) : Int) (m.1 a ((0 : Nat) : Int) + 1)) a ((2 : Nat) : Int) (n - 1)).2.1 0 ≤ 50)) := by
      have := kk (mst (mst m a ((0 : Nat) : Int) (m.1 a ((0 : Nat) : Int) + 1)) a ((2 : Nat) : Int) (n - 1)) rfl
      exact ⟨this.2.1, by omega, Or.inl rfl⟩
    rw [← f2] at hn hq hi k3
    refine RJr [] [] 80 ?_
    repeat' first | (refine ⟨fun _ => ?_, fun _ => ?_⟩ <;> try omega) | (refine ⟨by first | omega | assumption | (refine ⟨by omega, by omega⟩) | fail, ?_⟩) | (refine ⟨k1.1, ?_⟩) | (refine ⟨k3, ?_⟩) | (exact hq) | omega | fail
  · rw [if_neg hi] at hq
    have k2 := (kk (mcpy (mst m a ((0 : Nat) : Int) (m.1 a ((0 : Nat) : Int) + 1)) e (i + 1) e i (n - 1 - i)) rfl).1
    have kc : (107 ≤ (mst m a ((0 : Nat) : Int) (m.1 a ((0 : Nat) : Int) + 1)).2.1 e ∧ (mst m a ((0 : Nat) : Int) (m.1 a ((0 : Nat) : Int) + 1)).2.1 e ≤ 107) ∧ (mst m a ((0 : Nat) : Int) (m.1 a ((0 : Nat) : Int) + 1)).2.1 e = 107 ∧ 0 ≤ n - 1 - i ∧ (0 ≤ i + 1 ∧ i + 1 + (n - 1 - i) ≤ (mst m a ((0 : Nat) : Int) (m.1 a ((0 : Nat) : Int) + 1)).2.2.1 e) ∧ (0 ≤ i ∧ i + (n - 1 - i) ≤ (mst m a ((0 : Nat) : Int) (m.1 a ((0 : Nat) : Int) + 1)).2.2.1 e) := by
      refine ⟨by omega, by omega, by omega, by omega, by omega⟩
    have k3 : (mst (mcpy (mst m a ((0 : Nat) : Int) (m.1 a ((0 : Nat) : Int) + 1)) e (i + 1) e i (n - 1 - i)) a ((2 : Nat) : Int) (n - 1)).2.1 e = 107 ∧ (0 ≤ n - 1 ∧ n - 1 < (mst (mcpy (mst m a ((0 : Nat) : Int) (m.1 a ((0 : Nat) : Int) + 1)) e (i + 1) e i (n - 1 - i)) a ((2 : Nat) : Int) (n - 1)).2.2.1 e) ∧ ((0 : Int) = 0 ∨ (1 ≤ (mst (mcpy (mst m a ((0 : Nat) : Int) (m.1 a ((0 : Nat) : Int) + 1)) e (i + 1) e i (n - 1 - i)) a ((2 : Nat) : Int) (n - 1)).2.1 0 ∧ (mst (mcpy (mst m a ((0 : Nat) : Int) (m.1 a ((0 : Nat) : Int) + 1)) e (i + 1) e i (n - 1 - i)) a ((2 : Nat) : Int) (n - 1)).2.1 0 ≤ 50)) := by
      have := kk (mst (mcpy (mst m a ((0 : Nat) : Int) (m.1 a ((0 : Nat) : Int) + 1)) e (i + 1) e i (n - 1 - i)) a ((2 : Nat) : Int) (n - 1)) rfl
      exact ⟨this.2.1, by omega, Or.inl rfl⟩
    rw [← f2] at hn hq hi k2 kc k3
    refine RJr [] [] 80 ?_
    repeat' first | (refine ⟨fun _ => ?_, fun _ => ?_⟩ <;> try omega) | (refine ⟨by first | omega | assumption | (refine ⟨by omega, by omega⟩) | fail, ?_⟩) | (refine ⟨k1.1, ?_⟩) | (refine ⟨kc, ?_⟩) | (refine ⟨k2, ?_⟩) | (refine ⟨k3, ?_⟩) | (exact hq) | omega | fail
theorem J_71 {e i n : Int} (h1 : m.2.1 a = 24) (h2 : m.2.1 e = 107) (hea : m.1 a ((1 : Nat) : Int) = e) (hs : m.1 a ((2 : Nat) : Int) = n) (hc : 0 ≤ m.1 a ((0 : Nat) : Int) ∧ m.1 a ((0 : Nat) : Int) ≤ 5000000) (hn : 0 ≤ i ∧ i < n ∧ n ≤ m.2.2.1 e ∧ n ≤ 65536) (hne : e ≠ a)
    (hq : Q (rR (m.1 e i)) (mst (mst (gone m a e i n) a ((2 : Nat) : Int) (n - 1)) e (n - 1) 0)) : RJ (d + 2) 71 (0, [some (mR a), some (mI i), none, none], [], m) Q := by
  subst hea hs
  refine RJr [] [] 80 ?_
  repeat' first | (refine ⟨fun _ => ?_, fun _ => ?_⟩ <;> try omega) | (refine ⟨by first | omega | assumption | (refine ⟨by omega, by omega⟩) | fail, ?_⟩) | (refine J_289 ⟨hn.1, hn.2.1⟩ ?_) | (refine hub_j (by dsimp only [rK]; first | omega | (simp only [mst_2]; omega) | fail) (J_72 h1 h2 rfl hc hn hne ?_)) | (exact hq) | omega | fail
theorem J_74 {e n : Int} (h1 : m.2.1 a = 24) (h2 : m.2.1 e = 107) (hea : m.1 a ((1 : Nat) : Int) = e) (hs : m.1 a ((2 : Nat) : Int) = n) (hc : 0 ≤ m.1 a ((0 : Nat) : Int) ∧ m.1 a ((0 : Nat) : Int) ≤ 5000000) (hn : 0 ≤ n ∧ n ≤ m.2.2.1 e ∧ n ≤ 65536) (hne : e ≠ a)
    (hq : ∀ m', m'.2 = m.2 → (∀ b, b ≠ a → b ≠ e → m'.1 b = m.1 b) → (m'.1 a ((0 : Nat) : Int) = m.1 a ((0 : Nat) : Int) + 1 ∧ m'.1 a ((1 : Nat) : Int) = e ∧ m'.1 a ((2 : Nat) : Int) = 0) → Q rV m') : RJ d 74 (0, [some (mR a), none, none, none], [], m) Q := by
  have f1 : (mst m a ((0 : Nat) : Int) (m.1 a ((0 : Nat) : Int) + 1)).1 a ((1 : Nat) : Int) = e := by rw [mst_i (by decide)]; exact hea
  have f2 : (mst m a ((0 : Nat) : Int) (m.1 a ((0 : Nat) : Int) + 1)).1 a ((2 : Nat) : Int) = n := by rw [mst_i (by decide)]; exact hs
  have key : ∀ k, 0 ≤ k → k ≤ n → ∀ m', m'.2 = m.2 → (∀ b, b ≠ a → b ≠ e → m'.1 b = m.1 b) → (m'.1 a ((0 : Nat) : Int) = m.1 a ((0 : Nat) : Int) + 1 ∧ m'.1 a ((1 : Nat) : Int) = e ∧ m'.1 a ((2 : Nat) : Int) = 0) → RJ d 74 (27, [some (mR a), some (mR e), some (mI n), some (mI k)], [], m') Q := by
    refine up_ind ?_ ?_
    · intro m' g1 g2 g3
      have fin := hq m' g1 g2 g3
      refine RJr [] [740027] 80 ?_
      repeat' first | (refine ⟨fun _ => ?_, fun _ => ?_⟩ <;> try omega) | (refine ⟨by first | omega | assumption | (refine ⟨by omega, by omega⟩) | fail, ?_⟩) | (exact fin) | omega | fail
    · intro k h0 hk ih m' g1 g2 g3
      have fin := ih (mst m' e k 0) g1 (fun b b1 b2 => by rw [mst_o b2]; exact g2 b b1 b2) (by rw [mst_o (fun q => hne q.symm)]; exact g3)
      have k3 : m'.2.1 e = 107 ∧ (0 ≤ k ∧ k < m'.2.2.1 e) ∧ ((0 : Int) = 0 ∨ (1 ≤ m'.2.1 0 ∧ m'.2.1 0 ≤ 50)) := by
        rw [g1]
        exact ⟨h2, by omega, Or.inl rfl⟩
      clear ih
      refine RJr [] [740027] 80 ?_
      repeat' first | (refine ⟨fun _ => ?_, fun _ => ?_⟩ <;> try omega) | (refine ⟨by first | omega | assumption | (refine ⟨by omega, by omega⟩) | fail, ?_⟩) | (refine ⟨k3, ?_⟩) | (exact fin) | omega | fail
  have kk : ∀ m' : mM, m'.2 = m.2 → (24 ≤ m'.2.1 a ∧ m'.2.1 a ≤ 24) := fun m' e' => by rw [e']; omega
  have k1 := kk (mst m a ((0 : Nat) : Int) (m.1 a ((0 : Nat) : Int) + 1)) rfl
  have fin := key 0 (by omega) (by omega) (mst (mst m a ((0 : Nat) : Int) (m.1 a ((0 : Nat) : Int) + 1)) a ((2 : Nat) : Int) 0) rfl (fun b b1 b2 => by rw [mst_o b1, mst_o b1]) ⟨by rw [mst_i (by decide), mst_s], by rw [mst_i (by decide)]; exact f1, mst_s⟩
  rw [← f1, ← f2] at fin
  clear key
  refine RJr [] [740027] 80 ?_
  repeat' first | (refine ⟨fun _ => ?_, fun _ => ?_⟩ <;> try omega) | (refine ⟨by first | omega | assumption | (refine ⟨by omega, by omega⟩) | fail, ?_⟩) | (refine ⟨k1, ?_⟩) | (exact fin) | omega | fail
theorem J_323 (h1 : m.2.1 a = 26 ∨ m.2.1 a = 30) (hq : Q (rI (m.1 a ((0 : Nat) : Int))) m) : RJ d 323 (0, [some (mR a)], [], m) Q := by
  refine RJr [] [] 80 ?_
  repeat' first | (refine ⟨fun _ => ?_, fun _ => ?_⟩ <;> try omega) | (refine ⟨by first | omega | assumption | (refine ⟨by omega, by omega⟩) | fail, ?_⟩) | (exact hq) | omega | fail
theorem J_322 {b : Int} (h1 : m.2.1 a = 26 ∨ m.2.1 a = 30) (h2 : m.2.1 b = 26 ∨ m.2.1 b = 30) (hq1 : m.1 a ((0 : Nat) : Int) = m.1 b ((0 : Nat) : Int) → Q (rI 1) m) (hq0 : m.1 a ((0 : Nat) : Int) ≠ m.1 b ((0 : Nat) : Int) → Q (rI 0) m) : RJ (d + 1) 322 (0, [some (mR a), some (mR b)], [], m) Q := by
  refine RJr [] [] 80 ?_
  repeat' first | (refine ⟨fun _ => ?_, fun _ => ?_⟩ <;> try omega) | (refine ⟨by first | omega | assumption | (refine ⟨by omega, by omega⟩) | fail, ?_⟩) | (refine hub_j (by dsimp only [rK]; first | omega | (simp only [mst_2]; omega) | fail) (J_323 h2 ?_)) | (exact hq1 (by omega)) | (exact hq0 (by omega)) | omega | fail
end
