/-! the Model's small methods -/
section
variable {d : Nat} {m : sg} {Q : mQ sg}
theorem M_within {v lo hi : Int} (h1 : lo ≤ v → v ≤ hi → Q (rI 1) m) (h0 : ¬ (lo ≤ v ∧ v ≤ hi) → Q (rI 0) m) : RM d 80 (0, [some (mJ v), none, some (mJ lo), none, some (mJ hi), none], [], m) Q := by
  refine RMr [] [] 40 ?_
  repeat' first | (refine ⟨fun _ => ?_, fun _ => ?_⟩ <;> try omega) | (refine ⟨by first | omega | (simp only [upm_ap, upd1_ap, Nat.reduceEqDiff, ↓reduceIte, eq_self] at * <;> omega) | fail, ?_⟩) | (exact h0 (by omega)) | (exact h1 (by omega) (by omega)) | (simp only [upm_ap, upd1_ap, Nat.reduceEqDiff, ↓reduceIte, eq_self] at *) | omega | fail
theorem M_isYear {v : Int} (h1 : 0 ≤ v → v ≤ 100 → Q (rI 1) m) (h0 : ¬ (0 ≤ v ∧ v ≤ 100) → Q (rI 0) m) : RM d 81 (0, [some (mI v)], [], m) Q := by
  refine RMr [] [] 40 ?_
  repeat' first | (refine ⟨fun _ => ?_, fun _ => ?_⟩ <;> try omega) | (refine ⟨by first | omega | (simp only [upm_ap, upd1_ap, Nat.reduceEqDiff, ↓reduceIte, eq_self] at * <;> omega) | fail, ?_⟩) | (exact h0 (by omega)) | (exact h1 (by omega) (by omega)) | (simp only [upm_ap, upd1_ap, Nat.reduceEqDiff, ↓reduceIte, eq_self] at *) | omega | fail
theorem M_isKnown {v : Int} (h1 : 0 ≤ v → v ≤ m 1 0 → Q (rI 1) m) (h0 : ¬ (0 ≤ v ∧ v ≤ m 1 0) → Q (rI 0) m) : RM d 83 (0, [some (mR 1026), some (mI v)], [], m) Q := by
  refine RMr [] [] 40 ?_
  repeat' first | (refine ⟨fun _ => ?_, fun _ => ?_⟩ <;> try omega) | (refine ⟨by first | omega | (simp only [upm_ap, upd1_ap, Nat.reduceEqDiff, ↓reduceIte, eq_self] at * <;> omega) | fail, ?_⟩) | (exact h0 (by omega)) | (exact h1 (by omega) (by omega)) | (simp only [upm_ap, upd1_ap, Nat.reduceEqDiff, ↓reduceIte, eq_self] at *) | omega | fail
theorem M_isSmall {v : Int} (h1 : 97 ≤ v → v ≤ 122 → Q (rI 1) m) (h0 : ¬ (97 ≤ v ∧ v ≤ 122) → Q (rI 0) m) : RM d 91 (0, [some (mI v)], [], m) Q := by
  refine RMr [] [] 40 ?_
  repeat' first | (refine ⟨fun _ => ?_, fun _ => ?_⟩ <;> try omega) | (refine ⟨by first | omega | (simp only [upm_ap, upd1_ap, Nat.reduceEqDiff, ↓reduceIte, eq_self] at * <;> omega) | fail, ?_⟩) | (exact h0 (by omega)) | (exact h1 (by omega) (by omega)) | (simp only [upm_ap, upd1_ap, Nat.reduceEqDiff, ↓reduceIte, eq_self] at *) | omega | fail
theorem M_isDigit {v : Int} (h1 : 48 ≤ v → v ≤ 57 → Q (rI 1) m) (h0 : ¬ (48 ≤ v ∧ v ≤ 57) → Q (rI 0) m) : RM d 93 (0, [some (mI v)], [], m) Q := by
  refine RMr [] [] 40 ?_
  repeat' first | (refine ⟨fun _ => ?_, fun _ => ?_⟩ <;> try omega) | (refine ⟨by first | omega | (simp only [upm_ap, upd1_ap, Nat.reduceEqDiff, ↓reduceIte, eq_self] at * <;> omega) | fail, ?_⟩) | (exact h0 (by omega)) | (exact h1 (by omega) (by omega)) | (simp only [upm_ap, upd1_ap, Nat.reduceEqDiff, ↓reduceIte, eq_self] at *) | omega | fail
theorem M_isFund {v : Int} (h1 : 0 ≤ v → v < m 32 0 → Q (rI 1) m) (h0 : ¬ (0 ≤ v ∧ v < m 32 0) → Q (rI 0) m) : RM d 127 (0, [some (mR 1026), some (mI v)], [], m) Q := by
  refine RMr [] [] 40 ?_
  repeat' first | (refine ⟨fun _ => ?_, fun _ => ?_⟩ <;> try omega) | (refine ⟨by first | omega | (simp only [upm_ap, upd1_ap, Nat.reduceEqDiff, ↓reduceIte, eq_self] at * <;> omega) | fail, ?_⟩) | (exact h0 (by omega)) | (exact h1 (by omega) (by omega)) | (simp only [upm_ap, upd1_ap, Nat.reduceEqDiff, ↓reduceIte, eq_self] at *) | omega | fail
theorem M_isFree {v : Int} (hf : m 32 0 ≤ 12) (h1 : 0 ≤ v → v < m 32 0 → m 37 v = -1 → Q (rI 1) m) (h0 : ¬ (0 ≤ v ∧ v < m 32 0 ∧ m 37 v = -1) → Q (rI 0) m) : RM (d + 1) 143 (0, [some (mR 1026), some (mI v)], [], m) Q := by
  refine RMr [] [] 40 ?_
  repeat' first | (refine ⟨fun _ => ?_, fun _ => ?_⟩ <;> try omega) | (refine ⟨by first | omega | (simp only [upm_ap, upd1_ap, Nat.reduceEqDiff, ↓reduceIte, eq_self] at * <;> omega) | fail, ?_⟩) | (refine M_isFund (fun _ _ => ?_) (fun _ => ?_)) | (exact h0 (by omega)) | (exact h1 (by omega) (by omega) (by omega)) | (simp only [upm_ap, upd1_ap, Nat.reduceEqDiff, ↓reduceIte, eq_self] at *) | omega | fail
theorem M_isPerson {v : Int} (h1 : 0 ≤ v → v < 100 → Q (rI 1) m) (h0 : ¬ (0 ≤ v ∧ v < 100) → Q (rI 0) m) : RM d 144 (0, [some (mI v)], [], m) Q := by
  refine RMr [] [] 40 ?_
  repeat' first | (refine ⟨fun _ => ?_, fun _ => ?_⟩ <;> try omega) | (refine ⟨by first | omega | (simp only [upm_ap, upd1_ap, Nat.reduceEqDiff, ↓reduceIte, eq_self] at * <;> omega) | fail, ?_⟩) | (exact h0 (by omega)) | (exact h1 (by omega) (by omega)) | (simp only [upm_ap, upd1_ap, Nat.reduceEqDiff, ↓reduceIte, eq_self] at *) | omega | fail
theorem M_isScheme {v : Int} (h1 : 0 ≤ v → v < m 53 0 → Q (rI 1) m) (h0 : ¬ (0 ≤ v ∧ v < m 53 0) → Q (rI 0) m) : RM d 148 (0, [some (mR 1026), some (mI v)], [], m) Q := by
  refine RMr [] [] 40 ?_
  repeat' first | (refine ⟨fun _ => ?_, fun _ => ?_⟩ <;> try omega) | (refine ⟨by first | omega | (simp only [upm_ap, upd1_ap, Nat.reduceEqDiff, ↓reduceIte, eq_self] at * <;> omega) | fail, ?_⟩) | (exact h0 (by omega)) | (exact h1 (by omega) (by omega)) | (simp only [upm_ap, upd1_ap, Nat.reduceEqDiff, ↓reduceIte, eq_self] at *) | omega | fail
theorem M_isEnd {f v : Int} (hf : m 32 0 ≤ 12) (h1 : 0 ≤ f → f < m 32 0 → 0 ≤ v → v < m 43 f → Q (rI 1) m) (h0 : ¬ (0 ≤ f ∧ f < m 32 0 ∧ 0 ≤ v ∧ v < m 43 f) → Q (rI 0) m) : RM (d + 1) 126 (0, [some (mR 1026), some (mI f), some (mI v)], [], m) Q := by
  refine RMr [] [] 40 ?_
  repeat' first | (refine ⟨fun _ => ?_, fun _ => ?_⟩ <;> try omega) | (refine ⟨by first | omega | (simp only [upm_ap, upd1_ap, Nat.reduceEqDiff, ↓reduceIte, eq_self] at * <;> omega) | fail, ?_⟩) | (refine M_isFund (fun _ _ => ?_) (fun _ => ?_)) | (exact h0 (by omega)) | (exact h1 (by omega) (by omega) (by omega) (by omega)) | (simp only [upm_ap, upd1_ap, Nat.reduceEqDiff, ↓reduceIte, eq_self] at *) | omega | fail
theorem M_lastDay {v : Int} (h : 0 ≤ v ∧ v < 40) (hQ : Q (rI (m 58 v)) m) : RM d 149 (0, [some (mR 1026), some (mI v)], [], m) Q := by
  refine RMr [] [] 40 ?_
  repeat' first | (refine ⟨fun _ => ?_, fun _ => ?_⟩ <;> try omega) | (refine ⟨by first | omega | (simp only [upm_ap, upd1_ap, Nat.reduceEqDiff, ↓reduceIte, eq_self] at * <;> omega) | fail, ?_⟩) | (exact hQ) | (simp only [upm_ap, upd1_ap, Nat.reduceEqDiff, ↓reduceIte, eq_self] at *) | omega | fail
theorem M_year (h : 0 ≤ m 1 0) (hQ : Q (rI (m 1 0 / 360)) m) : RM d 158 (0, [some (mR 1026)], [], m) Q := by
  refine RMr [] [] 40 ?_
  repeat' first | (refine ⟨fun _ => ?_, fun _ => ?_⟩ <;> try omega) | (refine ⟨by first | omega | (simp only [upm_ap, upd1_ap, Nat.reduceEqDiff, ↓reduceIte, eq_self] at * <;> omega) | fail, ?_⟩) | (exact hQ) | (simp only [upm_ap, upd1_ap, Nat.reduceEqDiff, ↓reduceIte, eq_self] at *) | omega | fail
theorem M_bounded {v : Int} (hQ : Q (rI (max (-1000000000) (min 1000000000 v))) m) : RM d 130 (0, [some (mJ v), none], [], m) Q := by
  have e : ∀ z, z = max (-1000000000) (min 1000000000 v) → Q (rI z) m := fun z hz => by rw [hz]; exact hQ
  refine RMr [] [] 40 ?_
  repeat' first | (refine ⟨fun _ => ?_, fun _ => ?_⟩ <;> try omega) | (refine ⟨by first | omega | (simp only [upm_ap, upd1_ap, Nat.reduceEqDiff, ↓reduceIte, eq_self] at * <;> omega) | fail, ?_⟩) | (exact e _ (by omega)) | (simp only [upm_ap, upd1_ap, Nat.reduceEqDiff, ↓reduceIte, eq_self] at *) | omega | fail
theorem M_howMany {f how : Int} {x3 x4 : Option mV} (hf : 0 ≤ f ∧ f < 12) (hn : 0 ≤ m 43 f ∧ m 43 f ≤ 80) (hQ : Q (rI (cnt (fun e => decide (m 46 (80 * f + e) = how)) (m 43 f))) m) :
    RM d 131 (0, [some (mR 1026), some (mI f), some (mI how), x3, x4], [], m) Q := by
  refine RMr [] [1310005] 20 ?_
  refine up_ind (n := m 43 f) (P := fun k => ∀ x, x = cnt (fun e => decide (m 46 (80 * f + e) = how)) k → RM d 131 (5, [some (mR 1026), some (mI f), some (mI how), some (mI x), some (mI k)], [], m) Q) ?_ ?_ 0 (by omega) (by omega) 0 (cnt_0 _).symm
  · intro x hx
    subst hx
    refine RMr [] [1310005] 40 ?_
    repeat' first | (refine ⟨fun _ => ?_, fun _ => ?_⟩ <;> try omega) | (refine ⟨by first | omega | (simp only [upm_ap, upd1_ap, Nat.reduceEqDiff, ↓reduceIte, eq_self] at * <;> omega) | fail, ?_⟩) | (exact hQ) | (simp only [upm_ap, upd1_ap, Nat.reduceEqDiff, ↓reduceIte, eq_self] at *) | omega | fail
  · intro k h0 h1 ih x hx
    have hb := cnt_b (fun e => decide (m 46 (80 * f + e) = how)) k h0
    have hs := cnt_s (fun e => decide (m 46 (80 * f + e) = how)) h0
    refine RMr [] [1310005] 40 ?_
    repeat' first | (refine ⟨fun _ => ?_, fun _ => ?_⟩ <;> try omega) | (refine ⟨by first | omega | (simp only [upm_ap, upd1_ap, Nat.reduceEqDiff, ↓reduceIte, eq_self] at * <;> omega) | fail, ?_⟩) | (refine ih _ ?_) | (simp only [upm_ap, upd1_ap, Nat.reduceEqDiff, ↓reduceIte, eq_self] at *) | omega | fail
    all_goals (rw [hs, hx]; simp [*])
end
