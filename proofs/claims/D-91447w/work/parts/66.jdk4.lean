/-! THE JDK's METHODS on the raw memory: search, new Integers, Exceptions -/
set_option maxHeartbeats 1600000
set_option maxRecDepth 100000
section
variable {d : Nat} {m : mM} {a : Int} {Q : mQ mM}
theorem dJ_call {b : Int} {X : Nat} {K : mQ mM} (hX : X = m.2.1 a) (hx : m.2.1 a = 26 ∨ m.2.1 a = 30) (h : RJ d 322 (0, [some (mR a), some (mR b)], [], m) K) : (26 ≤ X ∧ X ≤ 26 → RJ d 322 (0, [some (mR a), some (mR b)], [], m) K) ∧ (¬ (26 ≤ X ∧ X ≤ 26) → (30 ≤ X ∧ X ≤ 30 → RJ d 322 (0, [some (mR a), some (mR b)], [], m) K) ∧ (¬ (30 ≤ X ∧ X ≤ 30) → False)) := by
  subst hX
  exact ⟨fun _ => h, fun _ => ⟨fun _ => h, fun _ => by omega⟩⟩
theorem J_70 {x e n : Int} (h1 : m.2.1 a = 24) (h2 : m.2.1 e = 107) (hea : m.1 a ((1 : Nat) : Int) = e) (hn : 0 ≤ n ∧ n ≤ m.2.2.1 e ∧ n ≤ 65536) (hx0 : x ≠ 0) (hx : m.2.1 x = 26 ∨ m.2.1 x = 30) (hel : ∀ i, 0 ≤ i → i < n → m.2.1 (m.1 e i) = 26 ∨ m.2.1 (m.1 e i) = 30)
    (hq : Q (rI (fst (fun i => decide (m.1 (m.1 e i) 0 = m.1 x 0)) n)) m) : RJ (d + 2) 70 (0, [some (mR a), some (mR x), some (mI 0), some (mI n), none, none], [], m) Q := by
  have key : ∀ k, 0 ≤ k → k ≤ n → fstN (fun i => decide (m.1 (m.1 e i) 0 = m.1 x 0)) (n - k).toNat k = fst (fun i => decide (m.1 (m.1 e i) 0 = m.1 x 0)) n → RJ (d + 2) 70 (42, [some (mR a), some (mR x), some (mI 0), some (mI n), some (mR e), some (mI k)], [], m) Q := by
    refine up_ind ?_ ?_
    · intro hf
      have e0 : (n - n).toNat = 0 := by omega
      rw [e0] at hf
      rw [← hf] at hq
      refine RJr [] [700042] 80 ?_
      repeat' first | (refine ⟨fun _ => ?_, fun _ => ?_⟩ <;> try omega) | (refine ⟨by first | omega | assumption | (refine ⟨by omega, by omega⟩) | fail, ?_⟩) | (exact hq) | omega | fail
    · intro k h0 hk ih hf
      rw [fstN_s _ hk] at hf
      have hek := hel k h0 hk
      have hy : m.1 x ((0 : Nat) : Int) = m.1 (m.1 e k) ((0 : Nat) : Int) → Q (rI k) m := by
        intro q
        have q : m.1 x 0 = m.1 (m.1 e k) 0 := q
        rw [if_pos (by simp [q])] at hf
        rw [hf]
        exact hq
      have hz : m.1 x ((0 : Nat) : Int) ≠ m.1 (m.1 e k) ((0 : Nat) : Int) → RJ (d + 2) 70 (42, [some (mR a), some (mR x), some (mI 0), some (mI n), some (mR e), some (mI (k + 1))], [], m) Q := by
        intro q
        have q : m.1 x 0 ≠ m.1 (m.1 e k) 0 := q
        rw [if_neg (by simp; exact fun h => q h.symm)] at hf
        exact ih hf
      clear ih hq
      have k1 : m.2.1 e = 107 ∧ 0 ≤ k ∧ k < m.2.2.1 e := by omega
      refine RJr [] [700042] 80 ?_
      repeat' first | (refine dJ_call rfl hx (J_322 hx hek (fun q => ?_) (fun q => ?_))) | (refine ⟨fun _ => ?_, fun _ => ?_⟩ <;> try omega) | (refine ⟨by first | omega | assumption | (refine ⟨by omega, by omega⟩) | fail, ?_⟩) | (exact hy q) | (exact hz q) | omega | fail
  have fin := key 0 (by omega) (by omega) (by rw [Int.sub_zero]; rfl)
  rw [← hea] at fin
  clear key
  refine RJr [] [700042] 80 ?_
  repeat' first | (refine ⟨fun _ => ?_, fun _ => ?_⟩ <;> try omega) | (refine ⟨by first | omega | assumption | (refine ⟨by omega, by omega⟩) | fail, ?_⟩) | (exact fin) | omega | fail
theorem J_69 {x e n : Int} (h1 : m.2.1 a = 24) (h2 : m.2.1 e = 107) (hea : m.1 a ((1 : Nat) : Int) = e) (hs : m.1 a ((2 : Nat) : Int) = n) (hn : 0 ≤ n ∧ n ≤ m.2.2.1 e ∧ n ≤ 65536) (hx0 : x ≠ 0) (hx : m.2.1 x = 26 ∨ m.2.1 x = 30) (hel : ∀ i, 0 ≤ i → i < n → m.2.1 (m.1 e i) = 26 ∨ m.2.1 (m.1 e i) = 30)
    (hq : Q (rI (fst (fun i => decide (m.1 (m.1 e i) 0 = m.1 x 0)) n)) m) : RJ (d + 3) 69 (0, [some (mR a), some (mR x)], [], m) Q := by
  subst hs
  refine RJr [] [] 80 ?_
  repeat' first | (refine ⟨fun _ => ?_, fun _ => ?_⟩ <;> try omega) | (refine ⟨by first | omega | assumption | (refine ⟨by omega, by omega⟩) | fail, ?_⟩) | (refine hub_j (by dsimp only [rK]; first | omega | (simp only [mst_2]; omega) | fail) (J_70 h1 h2 hea hn hx0 hx hel ?_)) | (exact hq) | omega | fail
theorem J_68 {x e n : Int} (h1 : m.2.1 a = 24) (h2 : m.2.1 e = 107) (hea : m.1 a ((1 : Nat) : Int) = e) (hs : m.1 a ((2 : Nat) : Int) = n) (hn : 0 ≤ n ∧ n ≤ m.2.2.1 e ∧ n ≤ 65536) (hx0 : x ≠ 0) (hx : m.2.1 x = 26 ∨ m.2.1 x = 30) (hel : ∀ i, 0 ≤ i → i < n → m.2.1 (m.1 e i) = 26 ∨ m.2.1 (m.1 e i) = 30)
    (hq0 : fst (fun i => decide (m.1 (m.1 e i) 0 = m.1 x 0)) n < 0 → Q (rI 0) m) (hq1 : 0 ≤ fst (fun i => decide (m.1 (m.1 e i) 0 = m.1 x 0)) n → Q (rI 1) m) : RJ (d + 4) 68 (0, [some (mR a), some (mR x)], [], m) Q := by
  refine RJr [] [] 80 ?_
  repeat' first | (refine ⟨fun _ => ?_, fun _ => ?_⟩ <;> try omega) | (refine ⟨by first | omega | assumption | (refine ⟨by omega, by omega⟩) | fail, ?_⟩) | (refine hub_j (by dsimp only [rK]; first | omega | (simp only [mst_2]; omega) | fail) (J_69 h1 h2 hea hs hn hx0 hx hel ?_)) | (exact hq0 (by omega)) | (exact hq1 (by omega)) | omega | fail
theorem J_318 (h1 : m.2.1 a = 26) (hq : Q rV m) : RJ d 318 (0, [some (mR a)], [], m) Q := by
  refine RJr [] [] 80 ?_
  repeat' first | (refine ⟨fun _ => ?_, fun _ => ?_⟩ <;> try omega) | (refine ⟨by first | omega | assumption | (refine ⟨by omega, by omega⟩) | fail, ?_⟩) | (exact hq) | omega | fail
theorem J_321 {x : Int} (h1 : m.2.1 a = 26) (hq : Q rV (mst m a ((0 : Nat) : Int) x)) : RJ (d + 1) 321 (0, [some (mR a), some (mI x)], [], m) Q := by
  refine RJr [] [] 80 ?_
  repeat' first | (refine ⟨fun _ => ?_, fun _ => ?_⟩ <;> try omega) | (refine ⟨by first | omega | assumption | (refine ⟨by omega, by omega⟩) | fail, ?_⟩) | (refine hub_j (by dsimp only [rK]; first | omega | (simp only [mst_2]; omega) | fail) (J_318 h1 ?_)) | (exact hq) | omega | fail
theorem J_320 {x : Int} (h59 : m.2.1 59 = 109 ∧ m.2.2.1 59 = 256 ∧ m.1 (-1) ((2 : Nat) : Int) = 59) (hr : m.2.2.2.1 + 1 ≤ CXm ∧ m.2.2.2.2 + 1 ≤ SXm)
    (hq1 : -128 ≤ x → x ≤ 127 → Q (rR (m.1 59 (x + 128))) m) (hq2 : Q (rR m.2.2.2.1) (mst (mnew m 26 0 ((1 : Nat) : Int)) m.2.2.2.1 ((0 : Nat) : Int) x)) : RJ (d + 2) 320 (0, [some (mI x)], [], m) Q := by
  obtain ⟨p1, p2, p3⟩ := h59
  have s2 := (mnew_s (m := m) (k := 26) (len := 0) (n := ((1 : Nat) : Int))).2.1
  have c1 : -128 ≤ x → x ≤ 127 → m.2.1 (m.1 (-1) ((2 : Nat) : Int)) = 109 ∧ 0 ≤ x + 128 ∧ x + 128 < m.2.2.1 (m.1 (-1) ((2 : Nat) : Int)) := by
    intro _ _
    rw [p3]
    omega
  rw [← p3] at hq1
  have hs : 26 ≤ (mnew m 26 0 ((1 : Nat) : Int)).2.1 m.2.2.2.1 ∧ (mnew m 26 0 ((1 : Nat) : Int)).2.1 m.2.2.2.1 ≤ 26 := by omega
  have hk : ((26 ≤ (mnew m 26 0 ((1 : Nat) : Int)).2.1 m.2.2.2.1 ∧ (mnew m 26 0 ((1 : Nat) : Int)).2.1 m.2.2.2.1 ≤ 26) ∨ (mnew m 26 0 ((1 : Nat) : Int)).2.1 m.2.2.2.1 = 26) := Or.inl hs
  refine RJr [] [] 80 ?_
  repeat' first | (refine hub_j hk (J_321 s2 ?_)) | (refine ⟨fun _ => ?_, fun _ => ?_⟩ <;> try omega) | (refine ⟨by first | omega | assumption | (refine ⟨by omega, by omega⟩) | fail, ?_⟩) | (refine ⟨c1 (by omega) (by omega), ?_⟩) | (refine ⟨hr, ?_⟩) | (exact hq1 (by omega) (by omega)) | (exact hq2) | omega | fail
theorem J_268 (h1 : m.2.1 a = 5) (hq : ∀ m', m'.2 = m.2 → (∀ b, b ≠ a → m'.1 b = m.1 b) → (∀ j, 6 ≤ j → m'.1 a j = m.1 a j) → Q rV m') : RJ d 268 (0, [some (mR a), some (mR 0), some (mR 0), some (mI 0), some (mI 0)], [], m) Q := by
  have kk : ∀ m' : mM, m'.2 = m.2 → (5 ≤ m'.2.1 a ∧ m'.2.1 a ≤ 6) := fun m' e' => by rw [e']; omega
  refine RJr [] [] 80 ?_
  repeat' first | (refine ⟨fun _ => ?_, fun _ => ?_⟩ <;> try omega) | (refine ⟨by first | omega | assumption | (refine ⟨by omega, by omega⟩) | fail, ?_⟩) | (refine ⟨kk _ rfl, ?_⟩) | omega | fail
  all_goals refine hq _ rfl (fun b hb => ?_) (fun j hj => ?_)
  · rw [mst_o hb, mst_o hb, mst_o hb, mst_o hb, mst_o hb, mst_o hb, mst_o hb]
  · rw [mst_i (by omega), mst_i (by omega), mst_i (by omega), mst_i (by omega), mst_i (by omega), mst_i (by omega), mst_i (by omega)]
theorem J_269 (h1 : m.2.1 a = 5) (hq : ∀ m', m'.2 = m.2 → (∀ b, b ≠ a → m'.1 b = m.1 b) → (∀ j, 6 ≤ j → m'.1 a j = m.1 a j) → Q rV m') : RJ (d + 1) 269 (0, [some (mR a), some (mR 0), some (mR 0), some (mI 0), some (mI 0)], [], m) Q := by
  refine RJr [] [] 80 ?_
  repeat' first | (refine ⟨fun _ => ?_, fun _ => ?_⟩ <;> try omega) | (refine ⟨by first | omega | assumption | (refine ⟨by omega, by omega⟩) | fail, ?_⟩) | (refine hub_j (by dsimp only [rK]; first | omega | (simp only [mst_2]; omega) | fail) (J_268 h1 (fun m' g1 g2 g3 => ?_))) | (exact hq _ g1 g2 g3) | omega | fail
end
