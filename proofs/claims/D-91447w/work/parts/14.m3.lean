/-! the Model: public methods on days, facts, the tape; counts of persons; looks -/
section
variable {d : Nat} {m : sg} {Q : mQ sg}
theorem upm_n {m : sg} {j a : Nat} {i v : Int} (h : a ≠ j) : upm m j i v a = m a := by unfold upm; rw [if_neg h]
theorem upm_s {m : sg} {j : Nat} {i v : Int} : upm m j i v j = upd1 (m j) i v := by unfold upm; rw [if_pos rfl]
theorem upd1_s {f : Int → Int} {i v : Int} : upd1 f i v i = v := by unfold upd1; rw [if_pos rfl]
theorem upd1_n {f : Int → Int} {i v b : Int} (h : b ≠ i) : upd1 f i v b = f b := by unfold upd1; rw [if_neg h]
theorem M_thrown (hQ : Q (rI (m 0 0)) m) : RM d 77 (0, [some (mR 1026)], [], m) Q := by
  refine RMr [] [] 40 ?_
  repeat' first | (refine ⟨fun _ => ?_, fun _ => ?_⟩ <;> try omega) | (refine ⟨by first | omega | (simp only [upm_ap, upd1_ap, Nat.reduceEqDiff, ↓reduceIte, eq_self] at * <;> omega) | fail, ?_⟩) | (exact hQ) | (simp only [upm_ap, upd1_ap, Nat.reduceEqDiff, ↓reduceIte, eq_self] at *) | omega | fail
theorem M_place (hQ : Q (rI (m 21 0)) (upm m 0 0 0)) : RM d 87 (0, [some (mR 1026)], [], m) Q := by
  refine RMr [] [] 40 ?_
  repeat' first | (refine ⟨fun _ => ?_, fun _ => ?_⟩ <;> try omega) | (refine ⟨by first | omega | (simp only [upm_ap, upd1_ap, Nat.reduceEqDiff, ↓reduceIte, eq_self] at * <;> omega) | fail, ?_⟩) | (exact hQ) | (simp only [upm_ap, upd1_ap, Nat.reduceEqDiff, ↓reduceIte, eq_self] at *) | omega | fail
theorem M_incomeOf {f year known : Int} (hn : 0 ≤ m 2 0 ∧ m 2 0 ≤ 300) (hf : 0 ≤ f ∧ f < 12) (hi : i32 (m 33 f * fA m 6 year known) ∧ i32 (m 33 f * fA m 6 year known + m 34 f)) (hQ : Q (rI (m 33 f * fA m 6 year known + m 34 f)) m) : RM (d + 1) 129 (0, [some (mR 1026), some (mI f), some (mI year), some (mI known)], [], m) Q := by
  refine RMr [] [] 40 ?_
  repeat' first | (refine ⟨fun _ => ?_, fun _ => ?_⟩ <;> try omega) | (refine ⟨by first | omega | (simp only [upm_ap, upd1_ap, Nat.reduceEqDiff, ↓reduceIte, eq_self] at * <;> omega) | fail, ?_⟩) | (refine M_factAt hn ?_) | (exact hQ) | (simp only [upm_ap, upd1_ap, Nat.reduceEqDiff, ↓reduceIte, eq_self] at *) | omega | fail
theorem M_fact {which year v : Int} (hn : 0 ≤ m 2 0 ∧ m 2 0 ≤ 300) 
    (h1 : 0 ≤ which ∧ which ≤ 7 → 0 ≤ year ∧ year ≤ 100 → 0 ≤ v ∧ v ≤ 9999 → m 2 0 < 300 → Q (rI 1) (upm (upm (upm (upm (upm (upm m 0 0 0) 3 (4 * m 2 0) which) 3 (4 * m 2 0 + 1) year) 3 (4 * m 2 0 + 2) v) 3 (4 * m 2 0 + 3) (m 1 0)) 2 0 (m 2 0 + 1)))
    (h0 : ¬ ((0 ≤ which ∧ which ≤ 7) ∧ (0 ≤ year ∧ year ≤ 100) ∧ (0 ≤ v ∧ v ≤ 9999) ∧ m 2 0 < 300) → Q (rI 0) (upm m 0 0 0)) : RM (d + 1) 79 (0, [some (mR 1026), some (mI which), some (mI year), some (mI v)], [], m) Q := by
  refine RMr [] [] 200 ?_
  repeat' first | (refine ⟨fun _ => ?_, fun _ => ?_⟩ <;> try omega) | (refine ⟨by first | omega | (simp only [upm_ap, upd1_ap, Nat.reduceEqDiff, ↓reduceIte, eq_self] at * <;> omega) | fail, ?_⟩) | (refine M_within (fun _ _ => ?_) (fun _ => ?_)) | (refine M_isYear (fun _ _ => ?_) (fun _ => ?_)) | (exact h0 (by omega)) | (exact h1 (by omega) (by omega) (by omega) (by omega)) | (simp only [upm_ap, upd1_ap, Nat.reduceEqDiff, ↓reduceIte, eq_self] at *) | omega | fail
theorem M_factOf {which year known : Int} (hn : 0 ≤ m 2 0 ∧ m 2 0 ≤ 300) 
    (h1 : 0 ≤ which ∧ which ≤ 7 → 0 ≤ year ∧ year ≤ 100 → 0 ≤ known ∧ known ≤ m 1 0 → Q (rI (fA m which year known)) (upm m 0 0 0))
    (h0 : ¬ ((0 ≤ which ∧ which ≤ 7) ∧ (0 ≤ year ∧ year ≤ 100) ∧ (0 ≤ known ∧ known ≤ m 1 0)) → Q (rI (-1)) (upm m 0 0 0)) : RM (d + 1) 82 (0, [some (mR 1026), some (mI which), some (mI year), some (mI known)], [], m) Q := by
  refine RMr [] [] 200 ?_
  repeat' first | (refine ⟨fun _ => ?_, fun _ => ?_⟩ <;> try omega) | (refine ⟨by first | omega | (simp only [upm_ap, upd1_ap, Nat.reduceEqDiff, ↓reduceIte, eq_self] at * <;> omega) | fail, ?_⟩) | (refine M_within (fun _ _ => ?_) (fun _ => ?_)) | (refine M_isYear (fun _ _ => ?_) (fun _ => ?_)) | (refine M_isKnown (fun _ _ => ?_) (fun _ => ?_)) | (refine M_factAt hn ?_) | (exact h0 (by omega)) | (exact h1 (by omega) (by omega) (by omega)) | (simp only [upm_ap, upd1_ap, Nat.reduceEqDiff, ↓reduceIte, eq_self] at *) | omega | fail
theorem M_end {n : Int} (h1 : 0 ≤ n → n ≤ m 14 0 → Q (rI n) (upm (upm m 0 0 0) 14 0 n)) (h0 : ¬ (0 ≤ n ∧ n ≤ m 14 0) → Q (rI (-1)) (upm m 0 0 0)) : RM d 86 (0, [some (mR 1026), some (mI n)], [], m) Q := by
  refine RMr [] [] 200 ?_
  repeat' first | (refine ⟨fun _ => ?_, fun _ => ?_⟩ <;> try omega) | (refine ⟨by first | omega | (simp only [upm_ap, upd1_ap, Nat.reduceEqDiff, ↓reduceIte, eq_self] at * <;> omega) | fail, ?_⟩) | (exact h0 (by omega)) | (exact h1 (by omega) (by omega)) | (simp only [upm_ap, upd1_ap, Nat.reduceEqDiff, ↓reduceIte, eq_self] at *) | omega | fail
theorem M_holds {day what : Int} (hn : 0 ≤ m 27 0 ∧ m 27 0 ≤ 20) (hm : ∀ a, 0 ≤ a → a < m 27 0 → 0 ≤ m 6 a ∧ m 6 a ≤ 20)
    (h1 : 0 ≤ day ∧ day ≤ 36000 → 0 ≤ what ∧ what ≤ 5 → Q (rI (tOf m (aOn m day) what)) (upm m 0 0 0))
    (h0 : ¬ ((0 ≤ day ∧ day ≤ 36000) ∧ 0 ≤ what ∧ what ≤ 5) → Q (rI (-1)) (upm m 0 0 0)) : RM (d + 2) 115 (0, [some (mR 1026), some (mI day), some (mI what)], [], m) Q := by
  refine RMr [] [] 200 ?_
  repeat' first | (refine ⟨fun _ => ?_, fun _ => ?_⟩ <;> try omega) | (refine ⟨by first | omega | (simp only [upm_ap, upd1_ap, Nat.reduceEqDiff, ↓reduceIte, eq_self] at * <;> omega) | fail, ?_⟩) | (refine M_within (fun _ _ => ?_) (fun _ => ?_)) | (refine M_toldOn hn hm ?_) | (exact h0 (by omega)) | (exact h1 (by omega) (by omega)) | (simp only [upm_ap, upd1_ap, Nat.reduceEqDiff, ↓reduceIte, eq_self] at *) | omega | fail
theorem M_trustees {f : Int} {x2 x3 : Option mV} (hf : 0 ≤ f ∧ f < 12) (hQ : Q (rI (cnt (fun p => decide (m 40 (100 * f + p) ≠ 0)) 100)) m) : RM d 145 (0, [some (mR 1026), some (mI f), x2, x3], [], m) Q := by
  refine RMr [] [1450004] 20 ?_
  refine up_ind (n := 100) (P := fun k => ∀ x, x = cnt (fun p => decide (m 40 (100 * f + p) ≠ 0)) k → RM d 145 (4, [some (mR 1026), some (mI f), some (mI x), some (mI k)], [], m) Q) ?_ ?_ 0 (by omega) (by omega) 0 (cnt_0 _).symm
  · intro x hx
    rw [← hx] at hQ
    refine RMr [] [1450004] 40 ?_
    repeat' first | (refine ⟨fun _ => ?_, fun _ => ?_⟩ <;> try omega) | (refine ⟨by first | omega | (simp only [upm_ap, upd1_ap, Nat.reduceEqDiff, ↓reduceIte, eq_self] at * <;> omega) | fail, ?_⟩) | (exact hQ) | (simp only [upm_ap, upd1_ap, Nat.reduceEqDiff, ↓reduceIte, eq_self] at *) | omega | fail
  · intro k h0 h1 ih x hx
    have hb := cnt_b (fun p => decide (m 40 (100 * f + p) ≠ 0)) k h0
    have hs := cnt_s (fun p => decide (m 40 (100 * f + p) ≠ 0)) h0
    refine RMr [] [1450004] 40 ?_
    repeat' first | (refine ⟨fun _ => ?_, fun _ => ?_⟩ <;> try omega) | (refine ⟨by first | omega | (simp only [upm_ap, upd1_ap, Nat.reduceEqDiff, ↓reduceIte, eq_self] at * <;> omega) | fail, ?_⟩) | (refine ih _ ?_) | (simp only [upm_ap, upd1_ap, Nat.reduceEqDiff, ↓reduceIte, eq_self] at *) | omega | fail
    all_goals (rw [hs, hx]; simp [*])
theorem M_against {f : Int} {x2 x3 : Option mV} (hf : 0 ≤ f ∧ f < 40) (hQ : Q (rI (cnt (fun p => decide (m 61 (100 * f + p) ≠ 0)) 100)) m) : RM d 150 (0, [some (mR 1026), some (mI f), x2, x3], [], m) Q := by
  refine RMr [] [1500004] 20 ?_
  refine up_ind (n := 100) (P := fun k => ∀ x, x = cnt (fun p => decide (m 61 (100 * f + p) ≠ 0)) k → RM d 150 (4, [some (mR 1026), some (mI f), some (mI x), some (mI k)], [], m) Q) ?_ ?_ 0 (by omega) (by omega) 0 (cnt_0 _).symm
  · intro x hx
    rw [← hx] at hQ
    refine RMr [] [1500004] 40 ?_
    repeat' first | (refine ⟨fun _ => ?_, fun _ => ?_⟩ <;> try omega) | (refine ⟨by first | omega | (simp only [upm_ap, upd1_ap, Nat.reduceEqDiff, ↓reduceIte, eq_self] at * <;> omega) | fail, ?_⟩) | (exact hQ) | (simp only [upm_ap, upd1_ap, Nat.reduceEqDiff, ↓reduceIte, eq_self] at *) | omega | fail
  · intro k h0 h1 ih x hx
    have hb := cnt_b (fun p => decide (m 61 (100 * f + p) ≠ 0)) k h0
    have hs := cnt_s (fun p => decide (m 61 (100 * f + p) ≠ 0)) h0
    refine RMr [] [1500004] 40 ?_
    repeat' first | (refine ⟨fun _ => ?_, fun _ => ?_⟩ <;> try omega) | (refine ⟨by first | omega | (simp only [upm_ap, upd1_ap, Nat.reduceEqDiff, ↓reduceIte, eq_self] at * <;> omega) | fail, ?_⟩) | (refine ih _ ?_) | (simp only [upm_ap, upd1_ap, Nat.reduceEqDiff, ↓reduceIte, eq_self] at *) | omega | fail
    all_goals (rw [hs, hx]; simp [*])
theorem M_saidSo {f what : Int} {x2 x3 : Option mV} (hf : 0 ≤ f ∧ f < 40) (hQ : Q (rI (cnt (fun p => decide (m 62 (100 * f + p) = what)) 100)) m) : RM d 165 (0, [some (mR 1026), some (mI f), some (mI what), x2, x3], [], m) Q := by
  refine RMr [] [1650005] 20 ?_
  refine up_ind (n := 100) (P := fun k => ∀ x, x = cnt (fun p => decide (m 62 (100 * f + p) = what)) k → RM d 165 (5, [some (mR 1026), some (mI f), some (mI what), some (mI x), some (mI k)], [], m) Q) ?_ ?_ 0 (by omega) (by omega) 0 (cnt_0 _).symm
  · intro x hx
    rw [← hx] at hQ
    refine RMr [] [1650005] 40 ?_
    repeat' first | (refine ⟨fun _ => ?_, fun _ => ?_⟩ <;> try omega) | (refine ⟨by first | omega | (simp only [upm_ap, upd1_ap, Nat.reduceEqDiff, ↓reduceIte, eq_self] at * <;> omega) | fail, ?_⟩) | (exact hQ) | (simp only [upm_ap, upd1_ap, Nat.reduceEqDiff, ↓reduceIte, eq_self] at *) | omega | fail
  · intro k h0 h1 ih x hx
    have hb := cnt_b (fun p => decide (m 62 (100 * f + p) = what)) k h0
    have hs := cnt_s (fun p => decide (m 62 (100 * f + p) = what)) h0
    refine RMr [] [1650005] 40 ?_
    repeat' first | (refine ⟨fun _ => ?_, fun _ => ?_⟩ <;> try omega) | (refine ⟨by first | omega | (simp only [upm_ap, upd1_ap, Nat.reduceEqDiff, ↓reduceIte, eq_self] at * <;> omega) | fail, ?_⟩) | (refine ih _ ?_) | (simp only [upm_ap, upd1_ap, Nat.reduceEqDiff, ↓reduceIte, eq_self] at *) | omega | fail
    all_goals (rw [hs, hx]; simp [*])
theorem M_lacksYes {s f : Int} {x2 x3 : Option mV} (hs' : 0 ≤ s ∧ s < 40) (hf : 0 ≤ f ∧ f < 12)
    (hQ : ∀ b, (b = 1 ∧ cnt (fun p => decide (m 40 (100 * f + p) ≠ 0 ∧ m 62 (100 * s + p) = 1)) 100 < m 39 f ∨ b = 0 ∧ ¬ cnt (fun p => decide (m 40 (100 * f + p) ≠ 0 ∧ m 62 (100 * s + p) = 1)) 100 < m 39 f) → Q (rI b) m) : RM d 160 (0, [some (mR 1026), some (mI s), some (mI f), x2, x3], [], m) Q := by
  refine RMr [] [1600005] 20 ?_
  refine up_ind (n := 100) (P := fun k => ∀ x, x = cnt (fun p => decide (m 40 (100 * f + p) ≠ 0 ∧ m 62 (100 * s + p) = 1)) k → RM d 160 (5, [some (mR 1026), some (mI s), some (mI f), some (mI x), some (mI k)], [], m) Q) ?_ ?_ 0 (by omega) (by omega) 0 (cnt_0 _).symm
  · intro x hx
    rw [← hx] at hQ
    refine RMr [] [1600005] 40 ?_
    repeat' first | (refine ⟨fun _ => ?_, fun _ => ?_⟩ <;> try omega) | (refine ⟨by first | omega | (simp only [upm_ap, upd1_ap, Nat.reduceEqDiff, ↓reduceIte, eq_self] at * <;> omega) | fail, ?_⟩) | (exact hQ _ (by omega)) | (simp only [upm_ap, upd1_ap, Nat.reduceEqDiff, ↓reduceIte, eq_self] at *) | omega | fail
  · intro k h0 h1 ih x hx
    have hb := cnt_b (fun p => decide (m 40 (100 * f + p) ≠ 0 ∧ m 62 (100 * s + p) = 1)) k h0
    have hs := cnt_s (fun p => decide (m 40 (100 * f + p) ≠ 0 ∧ m 62 (100 * s + p) = 1)) h0
    refine RMr [] [1600005] 40 ?_
    repeat' first | (refine ⟨fun _ => ?_, fun _ => ?_⟩ <;> try omega) | (refine ⟨by first | omega | (simp only [upm_ap, upd1_ap, Nat.reduceEqDiff, ↓reduceIte, eq_self] at * <;> omega) | fail, ?_⟩) | (refine ih _ ?_) | (simp only [upm_ap, upd1_ap, Nat.reduceEqDiff, ↓reduceIte, eq_self] at *) | omega | fail
    all_goals (rw [hs, hx]; simp [*])
theorem M_made {x2 x3 : Option mV} (hf : 0 ≤ m 53 0 ∧ m 53 0 ≤ 40) (hQ : Q (rI (cnt (fun p => decide (m 59 p = 1)) (m 53 0))) m) : RM d 186 (0, [some (mR 1026), x2, x3], [], m) Q := by
  refine RMr [] [1860004] 20 ?_
  refine up_ind (n := m 53 0) (P := fun k => ∀ x, x = cnt (fun p => decide (m 59 p = 1)) k → RM d 186 (4, [some (mR 1026), some (mI x), some (mI k)], [], m) Q) ?_ ?_ 0 (by omega) (by omega) 0 (cnt_0 _).symm
  · intro x hx
    rw [← hx] at hQ
    refine RMr [] [1860004] 40 ?_
    repeat' first | (refine ⟨fun _ => ?_, fun _ => ?_⟩ <;> try omega) | (refine ⟨by first | omega | (simp only [upm_ap, upd1_ap, Nat.reduceEqDiff, ↓reduceIte, eq_self] at * <;> omega) | fail, ?_⟩) | (exact hQ) | (simp only [upm_ap, upd1_ap, Nat.reduceEqDiff, ↓reduceIte, eq_self] at *) | omega | fail
  · intro k h0 h1 ih x hx
    have hb := cnt_b (fun p => decide (m 59 p = 1)) k h0
    have hs := cnt_s (fun p => decide (m 59 p = 1)) h0
    refine RMr [] [1860004] 40 ?_
    repeat' first | (refine ⟨fun _ => ?_, fun _ => ?_⟩ <;> try omega) | (refine ⟨by first | omega | (simp only [upm_ap, upd1_ap, Nat.reduceEqDiff, ↓reduceIte, eq_self] at * <;> omega) | fail, ?_⟩) | (refine ih _ ?_) | (simp only [upm_ap, upd1_ap, Nat.reduceEqDiff, ↓reduceIte, eq_self] at *) | omega | fail
    all_goals (rw [hs, hx]; simp [*])
theorem M_free {x2 x3 : Option mV} (hf : 0 ≤ m 32 0 ∧ m 32 0 ≤ 12) (hQ : Q (rI (cnt (fun p => decide (m 37 p = -1)) (m 32 0))) m) : RM d 187 (0, [some (mR 1026), x2, x3], [], m) Q := by
  refine RMr [] [1870004] 20 ?_
  refine up_ind (n := m 32 0) (P := fun k => ∀ x, x = cnt (fun p => decide (m 37 p = -1)) k → RM d 187 (4, [some (mR 1026), some (mI x), some (mI k)], [], m) Q) ?_ ?_ 0 (by omega) (by omega) 0 (cnt_0 _).symm
  · intro x hx
    rw [← hx] at hQ
    refine RMr [] [1870004] 40 ?_
    repeat' first | (refine ⟨fun _ => ?_, fun _ => ?_⟩ <;> try omega) | (refine ⟨by first | omega | (simp only [upm_ap, upd1_ap, Nat.reduceEqDiff, ↓reduceIte, eq_self] at * <;> omega) | fail, ?_⟩) | (exact hQ) | (simp only [upm_ap, upd1_ap, Nat.reduceEqDiff, ↓reduceIte, eq_self] at *) | omega | fail
  · intro k h0 h1 ih x hx
    have hb := cnt_b (fun p => decide (m 37 p = -1)) k h0
    have hs := cnt_s (fun p => decide (m 37 p = -1)) h0
    refine RMr [] [1870004] 40 ?_
    repeat' first | (refine ⟨fun _ => ?_, fun _ => ?_⟩ <;> try omega) | (refine ⟨by first | omega | (simp only [upm_ap, upd1_ap, Nat.reduceEqDiff, ↓reduceIte, eq_self] at * <;> omega) | fail, ?_⟩) | (refine ih _ ?_) | (simp only [upm_ap, upd1_ap, Nat.reduceEqDiff, ↓reduceIte, eq_self] at *) | omega | fail
    all_goals (rw [hs, hx]; simp [*])
/-- the first of n places that has a property; -1 -/
def fstN (p : Int → Bool) : Nat → Int → Int
  | 0, _ => -1
  | n + 1, k => if p k then k else fstN p n (k + 1)
def fst (p : Int → Bool) (n : Int) : Int := fstN p n.toNat 0
theorem fstN_s (p : Int → Bool) {n k : Int} (h : k < n) : fstN p (n - k).toNat k = if p k then k else fstN p (n - (k + 1)).toNat (k + 1) := by
  have e : (n - k).toNat = (n - (k + 1)).toNat + 1 := by omega
  rw [e]
  rfl
theorem M_firstDead {f : Int} {x2 : Option mV} (hf : 0 ≤ f ∧ f < 12) (hn : 0 ≤ m 43 f ∧ m 43 f ≤ 80) (hQ : Q (rI (fst (fun e => decide (m 46 (80 * f + e) = 1)) (m 43 f))) m) : RM d 156 (0, [some (mR 1026), some (mI f), x2], [], m) Q := by
  refine RMr [] [1560002] 20 ?_
  refine up_ind (n := m 43 f) (P := fun k => fstN (fun e => decide (m 46 (80 * f + e) = 1)) (m 43 f - k).toNat k = fst (fun e => decide (m 46 (80 * f + e) = 1)) (m 43 f) → RM d 156 (2, [some (mR 1026), some (mI f), some (mI k)], [], m) Q) ?_ ?_ 0 (by omega) (by omega) (by rw [Int.sub_zero]; rfl)
  · intro hx
    have e : (m 43 f - m 43 f).toNat = 0 := by omega
    rw [e] at hx
    rw [← hx] at hQ
    refine RMr [] [1560002] 40 ?_
    repeat' first | (refine ⟨fun _ => ?_, fun _ => ?_⟩ <;> try omega) | (refine ⟨by first | omega | (simp only [upm_ap, upd1_ap, Nat.reduceEqDiff, ↓reduceIte, eq_self] at * <;> omega) | fail, ?_⟩) | (exact hQ) | (simp only [upm_ap, upd1_ap, Nat.reduceEqDiff, ↓reduceIte, eq_self] at *) | omega | fail
  · intro k h0 h1 ih hx
    rw [fstN_s _ h1] at hx
    refine RMr [] [1560002] 40 ?_
    repeat' first | (refine ⟨fun _ => ?_, fun _ => ?_⟩ <;> try omega) | (refine ⟨by first | omega | (simp only [upm_ap, upd1_ap, Nat.reduceEqDiff, ↓reduceIte, eq_self] at * <;> omega) | fail, ?_⟩) | (simp only [upm_ap, upd1_ap, Nat.reduceEqDiff, ↓reduceIte, eq_self] at *) | omega | fail
    · refine ih ?_
      rw [← hx]; simp [*]
    · rw [← hx] at hQ
      simp [*] at hQ
      exact hQ
end
