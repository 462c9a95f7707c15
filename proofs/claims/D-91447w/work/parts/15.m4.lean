set_option maxHeartbeats 400000
/-! the Model: public methods without loops of their own -/
section
variable {d : Nat} {m : sg} {Q : mQ sg}
theorem M_trustee {f p : Int} (hn : m 32 0 ≤ 12)
    (h1 : 0 ≤ f → f < m 32 0 → m 37 f = -1 → 0 ≤ p → p < 100 → m 40 (100 * f + p) = 0 → cnt (fun p => decide (m 40 (100 * f + p) ≠ 0)) 100 ≠ m 38 f → Q (rI 1) (upm (upm m 0 0 0) 40 (100 * f + p) 1))
    (h0 : ¬ ((0 ≤ f ∧ f < m 32 0 ∧ m 37 f = -1) ∧ (0 ≤ p ∧ p < 100) ∧ m 40 (100 * f + p) = 0 ∧ cnt (fun p => decide (m 40 (100 * f + p) ≠ 0)) 100 ≠ m 38 f) → Q (rI 0) (upm m 0 0 0)) : RM (d + 2) 142 (0, [some (mR 1026), some (mI f), some (mI p)], [], m) Q := by
  refine RMr [] [] 200 ?_
  repeat' first | (refine ⟨fun _ => ?_, fun _ => ?_⟩ <;> try omega) | (refine ⟨by first | omega | (simp only [upm_ap, upd1_ap, Nat.reduceEqDiff, ↓reduceIte, eq_self] at * <;> omega) | fail, ?_⟩) | (refine M_isFree (m := upm m 0 0 0) hn (fun _ _ _ => ?_) (fun _ => ?_)) | (refine M_isPerson (fun _ _ => ?_) (fun _ => ?_)) | (refine M_trustees (m := upm m 0 0 0) (by omega) ?_) | (exact h0 (by omega)) | (exact h1 (by omega) (by omega) (by omega) (by omega) (by omega) (by omega) (by omega)) | (simp only [upm_ap, upd1_ap, Nat.reduceEqDiff, ↓reduceIte, eq_self] at *) | omega | fail
theorem M_coin {f : Int} (hn : m 32 0 ≤ 12) (h1 : 0 ≤ f → f < m 32 0 → Q (rJ (m 35 f)) (upm m 0 0 0)) (h0 : ¬ (0 ≤ f ∧ f < m 32 0) → Q (rJ (-1)) (upm m 0 0 0)) : RM (d + 1) 179 (0, [some (mR 1026), some (mI f)], [], m) Q := by
  refine RMr [] [] 200 ?_
  repeat' first | (refine ⟨fun _ => ?_, fun _ => ?_⟩ <;> try omega) | (refine ⟨by first | omega | (simp only [upm_ap, upd1_ap, Nat.reduceEqDiff, ↓reduceIte, eq_self] at * <;> omega) | fail, ?_⟩) | (refine M_isFund (m := upm m 0 0 0) (fun _ _ => ?_) (fun _ => ?_)) | (exact h0 (by omega)) | (exact h1 (by omega) (by omega)) | (simp only [upm_ap, upd1_ap, Nat.reduceEqDiff, ↓reduceIte, eq_self] at *) | omega | fail
theorem M_paid {f : Int} (hn : m 32 0 ≤ 12) (h1 : 0 ≤ f → f < m 32 0 → Q (rJ (m 42 f)) (upm m 0 0 0)) (h0 : ¬ (0 ≤ f ∧ f < m 32 0) → Q (rJ (-1)) (upm m 0 0 0)) : RM (d + 1) 182 (0, [some (mR 1026), some (mI f)], [], m) Q := by
  refine RMr [] [] 200 ?_
  repeat' first | (refine ⟨fun _ => ?_, fun _ => ?_⟩ <;> try omega) | (refine ⟨by first | omega | (simp only [upm_ap, upd1_ap, Nat.reduceEqDiff, ↓reduceIte, eq_self] at * <;> omega) | fail, ?_⟩) | (refine M_isFund (m := upm m 0 0 0) (fun _ _ => ?_) (fun _ => ?_)) | (exact h0 (by omega)) | (exact h1 (by omega) (by omega)) | (simp only [upm_ap, upd1_ap, Nat.reduceEqDiff, ↓reduceIte, eq_self] at *) | omega | fail
theorem M_part {f k : Int} (hn : m 32 0 ≤ 12) (h1 : 0 ≤ f → f < m 32 0 → 0 ≤ k → k < m 32 0 → Q (rI (m 41 (12 * f + k))) (upm m 0 0 0)) (h0 : ¬ ((0 ≤ f ∧ f < m 32 0) ∧ 0 ≤ k ∧ k < m 32 0) → Q (rI (-1)) (upm m 0 0 0)) : RM (d + 1) 181 (0, [some (mR 1026), some (mI f), some (mI k)], [], m) Q := by
  refine RMr [] [] 200 ?_
  repeat' first | (refine ⟨fun _ => ?_, fun _ => ?_⟩ <;> try omega) | (refine ⟨by first | omega | (simp only [upm_ap, upd1_ap, Nat.reduceEqDiff, ↓reduceIte, eq_self] at * <;> omega) | fail, ?_⟩) | (refine M_isFund (m := upm m 0 0 0) (fun _ _ => ?_) (fun _ => ?_)) | (exact h0 (by omega)) | (exact h1 (by omega) (by omega) (by omega) (by omega)) | (simp only [upm_ap, upd1_ap, Nat.reduceEqDiff, ↓reduceIte, eq_self] at *) | omega | fail
theorem M_income {f year known : Int} (hn : m 32 0 ≤ 12) (hn2 : 0 ≤ m 2 0 ∧ m 2 0 ≤ 300) (hi : 0 ≤ f → f < m 32 0 → i32 (m 33 f * fA m 6 year known) ∧ i32 (m 33 f * fA m 6 year known + m 34 f))
    (h1 : 0 ≤ f → f < m 32 0 → 0 ≤ year ∧ year ≤ 100 → 0 ≤ known ∧ known ≤ m 1 0 → Q (rI (m 33 f * fA m 6 year known + m 34 f)) (upm m 0 0 0)) (h0 : ¬ ((0 ≤ f ∧ f < m 32 0) ∧ (0 ≤ year ∧ year ≤ 100) ∧ 0 ≤ known ∧ known ≤ m 1 0) → Q (rI (-1)) (upm m 0 0 0)) : RM (d + 2) 180 (0, [some (mR 1026), some (mI f), some (mI year), some (mI known)], [], m) Q := by
  refine RMr [] [] 200 ?_
  repeat' first | (refine ⟨fun _ => ?_, fun _ => ?_⟩ <;> try omega) | (refine ⟨by first | omega | (simp only [upm_ap, upd1_ap, Nat.reduceEqDiff, ↓reduceIte, eq_self] at * <;> omega) | fail, ?_⟩) | (refine M_isFund (m := upm m 0 0 0) (fun _ _ => ?_) (fun _ => ?_)) | (refine M_isYear (fun _ _ => ?_) (fun _ => ?_)) | (refine M_isKnown (fun _ _ => ?_) (fun _ => ?_)) | (refine M_incomeOf (m := upm m 0 0 0) hn2 (by omega) (hi (by omega) (by omega)) ?_) | (exact h0 (by omega)) | (exact h1 (by omega) (by omega) (by omega) (by omega)) | (simp only [upm_ap, upd1_ap, Nat.reduceEqDiff, ↓reduceIte, eq_self] at *) | omega | fail
theorem M_endOf {f e what : Int} {x4 : Option mV} (hn : m 32 0 ≤ 12) (hm : 0 ≤ f → f < m 32 0 → m 43 f ≤ 80) (hr : 0 ≤ f → f < m 32 0 → 0 ≤ e → e < m 43 f → 0 ≤ m 45 (80 * f + e) ∧ m 45 (80 * f + e) < 900)
    (h1 : 0 ≤ f → f < m 32 0 → 0 ≤ e → e < m 43 f → ∀ v, (what = 0 ∧ v = m 46 (80 * f + e) ∨ what = 1 ∧ v = m 47 (80 * f + e) ∨ what = 2 ∧ v = m 48 (80 * f + e) ∨ what = 3 ∧ v = m 8 (m 45 (80 * f + e)) ∨ ¬ (0 ≤ what ∧ what ≤ 3) ∧ v = -1) → Q (rI v) (upm m 0 0 0)) (h0 : ¬ (0 ≤ f ∧ f < m 32 0 ∧ 0 ≤ e ∧ e < m 43 f) → Q (rI (-1)) (upm m 0 0 0)) : RM (d + 2) 183 (0, [some (mR 1026), some (mI f), some (mI e), some (mI what), x4], [], m) Q := by
  by_cases hc : 0 ≤ f ∧ f < m 32 0 ∧ 0 ≤ e ∧ e < m 43 f
  · have hm := hm hc.1 hc.2.1
    have hr := hr hc.1 hc.2.1 hc.2.2.1 hc.2.2.2
    have h1 := h1 hc.1 hc.2.1 hc.2.2.1 hc.2.2.2
    refine RMr [] [] 200 ?_
    repeat' first | (refine ⟨fun _ => ?_, fun _ => ?_⟩ <;> try omega) | (refine ⟨by first | omega | (simp only [upm_ap, upd1_ap, Nat.reduceEqDiff, ↓reduceIte, eq_self] at * <;> omega) | fail, ?_⟩) | (refine M_isEnd (m := upm m 0 0 0) hn (fun _ _ _ _ => ?_) (fun _ => ?_)) | (exact h1 _ (by omega)) | (simp only [upm_ap, upd1_ap, Nat.reduceEqDiff, ↓reduceIte, eq_self] at *) | omega | fail
  · refine RMr [] [] 200 ?_
    repeat' first | (refine ⟨fun _ => ?_, fun _ => ?_⟩ <;> try omega) | (refine ⟨by first | omega | (simp only [upm_ap, upd1_ap, Nat.reduceEqDiff, ↓reduceIte, eq_self] at * <;> omega) | fail, ?_⟩) | (refine M_isEnd (m := upm m 0 0 0) hn (fun _ _ _ _ => ?_) (fun _ => ?_)) | (exact h0 (by omega)) | (simp only [upm_ap, upd1_ap, Nat.reduceEqDiff, ↓reduceIte, eq_self] at *) | omega | fail
theorem M_entry {k what : Int} (hn : 0 ≤ m 51 0 ∧ m 51 0 ≤ 600) (h1 : 0 ≤ k → k < m 51 0 → 0 ≤ what → what ≤ 3 → Q (rI (m 52 (4 * k + what))) (upm m 0 0 0)) (h0 : ¬ ((0 ≤ k ∧ k < m 51 0) ∧ 0 ≤ what ∧ what ≤ 3) → Q (rI (-1)) (upm m 0 0 0)) : RM (d + 1) 184 (0, [some (mR 1026), some (mI k), some (mI what)], [], m) Q := by
  refine RMr [] [] 200 ?_
  repeat' first | (refine ⟨fun _ => ?_, fun _ => ?_⟩ <;> try omega) | (refine ⟨by first | omega | (simp only [upm_ap, upd1_ap, Nat.reduceEqDiff, ↓reduceIte, eq_self] at * <;> omega) | fail, ?_⟩) | (refine M_within (fun _ _ => ?_) (fun _ => ?_)) | (exact h0 (by omega)) | (exact h1 (by omega) (by omega) (by omega) (by omega)) | (simp only [upm_ap, upd1_ap, Nat.reduceEqDiff, ↓reduceIte, eq_self] at *) | omega | fail
theorem M_lay {f g : Int} (hn : m 32 0 ≤ 12) (h1 : 0 ≤ f → f < m 32 0 → 0 ≤ g → g ≤ 7 → Q (rI 1) (upm (upm m 0 0 0) 66 f g)) (h0 : ¬ ((0 ≤ f ∧ f < m 32 0) ∧ 0 ≤ g ∧ g ≤ 7) → Q (rI 0) (upm m 0 0 0)) : RM (d + 1) 175 (0, [some (mR 1026), some (mI f), some (mI g)], [], m) Q := by
  refine RMr [] [] 200 ?_
  repeat' first | (refine ⟨fun _ => ?_, fun _ => ?_⟩ <;> try omega) | (refine ⟨by first | omega | (simp only [upm_ap, upd1_ap, Nat.reduceEqDiff, ↓reduceIte, eq_self] at * <;> omega) | fail, ?_⟩) | (refine M_isFund (m := upm m 0 0 0) (fun _ _ => ?_) (fun _ => ?_)) | (refine M_within (fun _ _ => ?_) (fun _ => ?_)) | (exact h0 (by omega)) | (exact h1 (by omega) (by omega) (by omega) (by omega)) | (simp only [upm_ap, upd1_ap, Nat.reduceEqDiff, ↓reduceIte, eq_self] at *) | omega | fail
theorem M_gets {f n : Int} (hf : 0 ≤ f ∧ f < 12) (hi : i64 (m 35 f + n)) (hQ : ∀ v, v = min 1000000000000000 (m 35 f + n) → Q rV (upm m 35 f v)) : RM d 139 (0, [some (mR 1026), some (mI f), some (mJ n), none], [], m) Q := by
  refine RMr [] [] 200 ?_
  repeat' first | (refine ⟨fun _ => ?_, fun _ => ?_⟩ <;> try omega) | (refine ⟨by first | omega | (simp only [upm_ap, upd1_ap, Nat.reduceEqDiff, ↓reduceIte, eq_self] at * <;> omega) | fail, ?_⟩) | (exact hQ _ (by omega)) | (simp only [upm_ap, upd1_ap, Nat.reduceEqDiff, ↓reduceIte, eq_self] at *) | omega | fail
theorem M_withdraws {s p : Int} (hn : m 53 0 ≤ 40)
    (h1 : 0 ≤ s → s < m 53 0 → 0 ≤ p → p < 100 → m 59 s = 0 → m 61 (100 * s + p) ≠ 0 → Q (rI 1) (upm (upm m 0 0 0) 61 (100 * s + p) 0))
    (h0 : ¬ ((0 ≤ s ∧ s < m 53 0) ∧ (0 ≤ p ∧ p < 100) ∧ m 59 s = 0 ∧ m 61 (100 * s + p) ≠ 0) → Q (rI 0) (upm m 0 0 0)) : RM (d + 1) 151 (0, [some (mR 1026), some (mI s), some (mI p)], [], m) Q := by
  refine RMr [] [] 200 ?_
  repeat' first | (refine ⟨fun _ => ?_, fun _ => ?_⟩ <;> try omega) | (refine ⟨by first | omega | (simp only [upm_ap, upd1_ap, Nat.reduceEqDiff, ↓reduceIte, eq_self] at * <;> omega) | fail, ?_⟩) | (refine M_isScheme (m := upm m 0 0 0) (fun _ _ => ?_) (fun _ => ?_)) | (refine M_isPerson (fun _ _ => ?_) (fun _ => ?_)) | (exact h0 (by omega)) | (exact h1 (by omega) (by omega) (by omega) (by omega) (by omega) (by omega)) | (simp only [upm_ap, upd1_ap, Nat.reduceEqDiff, ↓reduceIte, eq_self] at *) | omega | fail
theorem M_objects {s p : Int} (hn : m 53 0 ≤ 40)
    (h1 : 0 ≤ s → s < m 53 0 → 0 ≤ p → p < 100 → m 59 s = 0 → m 1 0 ≤ m 58 s → m 61 (100 * s + p) = 0 → cnt (fun p => decide (m 61 (100 * s + p) ≠ 0)) 100 ≠ 10 → Q (rI 1) (upm (upm m 0 0 0) 61 (100 * s + p) 1))
    (h0 : ¬ ((0 ≤ s ∧ s < m 53 0) ∧ (0 ≤ p ∧ p < 100) ∧ m 59 s = 0 ∧ m 1 0 ≤ m 58 s ∧ m 61 (100 * s + p) = 0 ∧ cnt (fun p => decide (m 61 (100 * s + p) ≠ 0)) 100 ≠ 10) → Q (rI 0) (upm m 0 0 0)) : RM (d + 1) 147 (0, [some (mR 1026), some (mI s), some (mI p)], [], m) Q := by
  refine RMr [] [] 200 ?_
  repeat' first | (refine ⟨fun _ => ?_, fun _ => ?_⟩ <;> try omega) | (refine ⟨by first | omega | (simp only [upm_ap, upd1_ap, Nat.reduceEqDiff, ↓reduceIte, eq_self] at * <;> omega) | fail, ?_⟩) | (refine M_isScheme (m := upm m 0 0 0) (fun _ _ => ?_) (fun _ => ?_)) | (refine M_isPerson (fun _ _ => ?_) (fun _ => ?_)) | (refine M_lastDay (m := upm m 0 0 0) (by omega) ?_) | (refine M_against (m := upm m 0 0 0) (by omega) ?_) | (exact h0 (by omega)) | (exact h1 (by omega) (by omega) (by omega) (by omega) (by omega) (by omega) (by omega) (by omega)) | (simp only [upm_ap, upd1_ap, Nat.reduceEqDiff, ↓reduceIte, eq_self] at *) | omega | fail
noncomputable def wFund (m : sg) (f what : Int) : Int := if what = 0 then m 33 f else if what = 1 then m 34 f else if what = 2 then m 36 f else if what = 3 then m 43 f else if what = 4 then cnt (fun e => decide (m 46 (80 * f + e) = 0)) (m 43 f) else if what = 5 then cnt (fun e => decide (m 46 (80 * f + e) = 1)) (m 43 f) else if what = 6 then m 37 f else if what = 7 then cnt (fun p => decide (m 40 (100 * f + p) ≠ 0)) 100 else if what = 8 then m 38 f else m 39 f
theorem M_fundOf {f what : Int} (hn : m 32 0 ≤ 12) (hm : 0 ≤ f → f < m 32 0 → 0 ≤ m 43 f ∧ m 43 f ≤ 80)
    (h1 : 0 ≤ f → f < m 32 0 → 0 ≤ what → what ≤ 9 → Q (rI (wFund m f what)) (upm m 0 0 0))
    (h0 : ¬ ((0 ≤ f ∧ f < m 32 0) ∧ 0 ≤ what ∧ what ≤ 9) → Q (rI 0) (upm (upm m 0 0 0) 0 0 1)) : RM (d + 1) 178 (0, [some (mR 1026), some (mI f), some (mI what)], [], m) Q := by
  by_cases hf : 0 ≤ f ∧ f < m 32 0
  · have hm := hm hf.1 hf.2
    have h1 := h1 hf.1 hf.2
    rcases (by omega : what = 0 ∨ what = 1 ∨ what = 2 ∨ what = 3 ∨ what = 4 ∨ what = 5 ∨ what = 6 ∨ what = 7 ∨ what = 8 ∨ what = 9 ∨ ¬ (0 ≤ what ∧ what ≤ 9)) with rfl | rfl | rfl | rfl | rfl | rfl | rfl | rfl | rfl | rfl | h
    · have h1 := h1 (by omega) (by omega)
      refine RMr [] [] 200 ?_
      repeat' first | (refine ⟨fun _ => ?_, fun _ => ?_⟩ <;> try omega) | (refine ⟨by first | omega | (simp only [upm_ap, upd1_ap, Nat.reduceEqDiff, ↓reduceIte, eq_self] at * <;> omega) | fail, ?_⟩) | (refine M_isFund (m := upm m 0 0 0) (fun _ _ => ?_) (fun _ => ?_)) | (refine M_within (fun _ _ => ?_) (fun _ => ?_)) | (exact h1) | (simp only [upm_ap, upd1_ap, Nat.reduceEqDiff, ↓reduceIte, eq_self] at *) | omega | fail
    · have h1 := h1 (by omega) (by omega)
      refine RMr [] [] 200 ?_
      repeat' first | (refine ⟨fun _ => ?_, fun _ => ?_⟩ <;> try omega) | (refine ⟨by first | omega | (simp only [upm_ap, upd1_ap, Nat.reduceEqDiff, ↓reduceIte, eq_self] at * <;> omega) | fail, ?_⟩) | (refine M_isFund (m := upm m 0 0 0) (fun _ _ => ?_) (fun _ => ?_)) | (refine M_within (fun _ _ => ?_) (fun _ => ?_)) | (exact h1) | (simp only [upm_ap, upd1_ap, Nat.reduceEqDiff, ↓reduceIte, eq_self] at *) | omega | fail
    · have h1 := h1 (by omega) (by omega)
      refine RMr [] [] 200 ?_
      repeat' first | (refine ⟨fun _ => ?_, fun _ => ?_⟩ <;> try omega) | (refine ⟨by first | omega | (simp only [upm_ap, upd1_ap, Nat.reduceEqDiff, ↓reduceIte, eq_self] at * <;> omega) | fail, ?_⟩) | (refine M_isFund (m := upm m 0 0 0) (fun _ _ => ?_) (fun _ => ?_)) | (refine M_within (fun _ _ => ?_) (fun _ => ?_)) | (exact h1) | (simp only [upm_ap, upd1_ap, Nat.reduceEqDiff, ↓reduceIte, eq_self] at *) | omega | fail
    · have h1 := h1 (by omega) (by omega)
      refine RMr [] [] 200 ?_
      repeat' first | (refine ⟨fun _ => ?_, fun _ => ?_⟩ <;> try omega) | (refine ⟨by first | omega | (simp only [upm_ap, upd1_ap, Nat.reduceEqDiff, ↓reduceIte, eq_self] at * <;> omega) | fail, ?_⟩) | (refine M_isFund (m := upm m 0 0 0) (fun _ _ => ?_) (fun _ => ?_)) | (refine M_within (fun _ _ => ?_) (fun _ => ?_)) | (exact h1) | (simp only [upm_ap, upd1_ap, Nat.reduceEqDiff, ↓reduceIte, eq_self] at *) | omega | fail
    · have h1 := h1 (by omega) (by omega)
      refine RMr [] [] 200 ?_
      repeat' first | (refine ⟨fun _ => ?_, fun _ => ?_⟩ <;> try omega) | (refine ⟨by first | omega | (simp only [upm_ap, upd1_ap, Nat.reduceEqDiff, ↓reduceIte, eq_self] at * <;> omega) | fail, ?_⟩) | (refine M_isFund (m := upm m 0 0 0) (fun _ _ => ?_) (fun _ => ?_)) | (refine M_within (fun _ _ => ?_) (fun _ => ?_)) | (refine M_howMany (m := upm m 0 0 0) (by omega) hm ?_) | (exact h1) | (simp only [upm_ap, upd1_ap, Nat.reduceEqDiff, ↓reduceIte, eq_self] at *) | omega | fail
    · have h1 := h1 (by omega) (by omega)
      refine RMr [] [] 200 ?_
      repeat' first | (refine ⟨fun _ => ?_, fun _ => ?_⟩ <;> try omega) | (refine ⟨by first | omega | (simp only [upm_ap, upd1_ap, Nat.reduceEqDiff, ↓reduceIte, eq_self] at * <;> omega) | fail, ?_⟩) | (refine M_isFund (m := upm m 0 0 0) (fun _ _ => ?_) (fun _ => ?_)) | (refine M_within (fun _ _ => ?_) (fun _ => ?_)) | (refine M_howMany (m := upm m 0 0 0) (by omega) hm ?_) | (exact h1) | (simp only [upm_ap, upd1_ap, Nat.reduceEqDiff, ↓reduceIte, eq_self] at *) | omega | fail
    · have h1 := h1 (by omega) (by omega)
      refine RMr [] [] 200 ?_
      repeat' first | (refine ⟨fun _ => ?_, fun _ => ?_⟩ <;> try omega) | (refine ⟨by first | omega | (simp only [upm_ap, upd1_ap, Nat.reduceEqDiff, ↓reduceIte, eq_self] at * <;> omega) | fail, ?_⟩) | (refine M_isFund (m := upm m 0 0 0) (fun _ _ => ?_) (fun _ => ?_)) | (refine M_within (fun _ _ => ?_) (fun _ => ?_)) | (exact h1) | (simp only [upm_ap, upd1_ap, Nat.reduceEqDiff, ↓reduceIte, eq_self] at *) | omega | fail
    · have h1 := h1 (by omega) (by omega)
      refine RMr [] [] 200 ?_
      repeat' first | (refine ⟨fun _ => ?_, fun _ => ?_⟩ <;> try omega) | (refine ⟨by first | omega | (simp only [upm_ap, upd1_ap, Nat.reduceEqDiff, ↓reduceIte, eq_self] at * <;> omega) | fail, ?_⟩) | (refine M_isFund (m := upm m 0 0 0) (fun _ _ => ?_) (fun _ => ?_)) | (refine M_within (fun _ _ => ?_) (fun _ => ?_)) | (refine M_trustees (m := upm m 0 0 0) (by omega) ?_) | (exact h1) | (simp only [upm_ap, upd1_ap, Nat.reduceEqDiff, ↓reduceIte, eq_self] at *) | omega | fail
    · have h1 := h1 (by omega) (by omega)
      refine RMr [] [] 200 ?_
      repeat' first | (refine ⟨fun _ => ?_, fun _ => ?_⟩ <;> try omega) | (refine ⟨by first | omega | (simp only [upm_ap, upd1_ap, Nat.reduceEqDiff, ↓reduceIte, eq_self] at * <;> omega) | fail, ?_⟩) | (refine M_isFund (m := upm m 0 0 0) (fun _ _ => ?_) (fun _ => ?_)) | (refine M_within (fun _ _ => ?_) (fun _ => ?_)) | (exact h1) | (simp only [upm_ap, upd1_ap, Nat.reduceEqDiff, ↓reduceIte, eq_self] at *) | omega | fail
    · have h1 := h1 (by omega) (by omega)
      refine RMr [] [] 200 ?_
      repeat' first | (refine ⟨fun _ => ?_, fun _ => ?_⟩ <;> try omega) | (refine ⟨by first | omega | (simp only [upm_ap, upd1_ap, Nat.reduceEqDiff, ↓reduceIte, eq_self] at * <;> omega) | fail, ?_⟩) | (refine M_isFund (m := upm m 0 0 0) (fun _ _ => ?_) (fun _ => ?_)) | (refine M_within (fun _ _ => ?_) (fun _ => ?_)) | (exact h1) | (simp only [upm_ap, upd1_ap, Nat.reduceEqDiff, ↓reduceIte, eq_self] at *) | omega | fail
    · refine RMr [] [] 200 ?_
      repeat' first | (refine ⟨fun _ => ?_, fun _ => ?_⟩ <;> try omega) | (refine ⟨by first | omega | (simp only [upm_ap, upd1_ap, Nat.reduceEqDiff, ↓reduceIte, eq_self] at * <;> omega) | fail, ?_⟩) | (refine M_isFund (m := upm m 0 0 0) (fun _ _ => ?_) (fun _ => ?_)) | (refine M_within (fun _ _ => ?_) (fun _ => ?_)) | (exact h0 (by omega)) | (simp only [upm_ap, upd1_ap, Nat.reduceEqDiff, ↓reduceIte, eq_self] at *) | omega | fail
  · refine RMr [] [] 200 ?_
    repeat' first | (refine ⟨fun _ => ?_, fun _ => ?_⟩ <;> try omega) | (refine ⟨by first | omega | (simp only [upm_ap, upd1_ap, Nat.reduceEqDiff, ↓reduceIte, eq_self] at * <;> omega) | fail, ?_⟩) | (refine M_isFund (m := upm m 0 0 0) (fun _ _ => ?_) (fun _ => ?_)) | (refine M_within (fun _ _ => ?_) (fun _ => ?_)) | (exact h0 (by omega)) | (simp only [upm_ap, upd1_ap, Nat.reduceEqDiff, ↓reduceIte, eq_self] at *) | omega | fail
noncomputable def wCount (m : sg) (what : Int) : Int := if what = 0 then m 1 0 else if what = 1 then m 1 0 / 360 else if what = 2 then m 2 0 else if what = 3 then m 27 0 else if what = 4 then m 32 0 else if what = 5 then m 49 0 else if what = 6 then m 53 0 else if what = 7 then m 51 0 else if what = 8 then m 14 0 else if what = 9 then m 70 0 else if what = 10 then cnt (fun p => decide (m 59 p = 1)) (m 53 0) else cnt (fun p => decide (m 37 p = -1)) (m 32 0)
theorem M_count {what : Int} (hd : 0 ≤ m 1 0) (hs : 0 ≤ m 53 0 ∧ m 53 0 ≤ 40) (hn : 0 ≤ m 32 0 ∧ m 32 0 ≤ 12)
    (h1 : 0 ≤ what → what ≤ 11 → Q (rI (wCount m what)) (upm m 0 0 0)) (h0 : ¬ (0 ≤ what ∧ what ≤ 11) → Q (rI (-1)) (upm m 0 0 0)) : RM (d + 1) 185 (0, [some (mR 1026), some (mI what)], [], m) Q := by
  rcases (by omega : what = 0 ∨ what = 1 ∨ what = 2 ∨ what = 3 ∨ what = 4 ∨ what = 5 ∨ what = 6 ∨ what = 7 ∨ what = 8 ∨ what = 9 ∨ what = 10 ∨ what = 11 ∨ ¬ (0 ≤ what ∧ what ≤ 11)) with rfl | rfl | rfl | rfl | rfl | rfl | rfl | rfl | rfl | rfl | rfl | rfl | h
  · have h1 := h1 (by omega) (by omega)
    refine RMr [] [] 200 ?_
    repeat' first | (refine ⟨fun _ => ?_, fun _ => ?_⟩ <;> try omega) | (refine ⟨by first | omega | (simp only [upm_ap, upd1_ap, Nat.reduceEqDiff, ↓reduceIte, eq_self] at * <;> omega) | fail, ?_⟩) | (exact h1) | (simp only [upm_ap, upd1_ap, Nat.reduceEqDiff, ↓reduceIte, eq_self] at *) | omega | fail
  · have h1 := h1 (by omega) (by omega)
    refine RMr [] [] 200 ?_
    repeat' first | (refine ⟨fun _ => ?_, fun _ => ?_⟩ <;> try omega) | (refine ⟨by first | omega | (simp only [upm_ap, upd1_ap, Nat.reduceEqDiff, ↓reduceIte, eq_self] at * <;> omega) | fail, ?_⟩) | (refine M_year (m := upm m 0 0 0) hd ?_) | (exact h1) | (simp only [upm_ap, upd1_ap, Nat.reduceEqDiff, ↓reduceIte, eq_self] at *) | omega | fail
  · have h1 := h1 (by omega) (by omega)
    refine RMr [] [] 200 ?_
    repeat' first | (refine ⟨fun _ => ?_, fun _ => ?_⟩ <;> try omega) | (refine ⟨by first | omega | (simp only [upm_ap, upd1_ap, Nat.reduceEqDiff, ↓reduceIte, eq_self] at * <;> omega) | fail, ?_⟩) | (exact h1) | (simp only [upm_ap, upd1_ap, Nat.reduceEqDiff, ↓reduceIte, eq_self] at *) | omega | fail
  · have h1 := h1 (by omega) (by omega)
    refine RMr [] [] 200 ?_
    repeat' first | (refine ⟨fun _ => ?_, fun _ => ?_⟩ <;> try omega) | (refine ⟨by first | omega | (simp only [upm_ap, upd1_ap, Nat.reduceEqDiff, ↓reduceIte, eq_self] at * <;> omega) | fail, ?_⟩) | (exact h1) | (simp only [upm_ap, upd1_ap, Nat.reduceEqDiff, ↓reduceIte, eq_self] at *) | omega | fail
  · have h1 := h1 (by omega) (by omega)
    refine RMr [] [] 200 ?_
    repeat' first | (refine ⟨fun _ => ?_, fun _ => ?_⟩ <;> try omega) | (refine ⟨by first | omega | (simp only [upm_ap, upd1_ap, Nat.reduceEqDiff, ↓reduceIte, eq_self] at * <;> omega) | fail, ?_⟩) | (exact h1) | (simp only [upm_ap, upd1_ap, Nat.reduceEqDiff, ↓reduceIte, eq_self] at *) | omega | fail
  · have h1 := h1 (by omega) (by omega)
    refine RMr [] [] 200 ?_
    repeat' first | (refine ⟨fun _ => ?_, fun _ => ?_⟩ <;> try omega) | (refine ⟨by first | omega | (simp only [upm_ap, upd1_ap, Nat.reduceEqDiff, ↓reduceIte, eq_self] at * <;> omega) | fail, ?_⟩) | (exact h1) | (simp only [upm_ap, upd1_ap, Nat.reduceEqDiff, ↓reduceIte, eq_self] at *) | omega | fail
  · have h1 := h1 (by omega) (by omega)
    refine RMr [] [] 200 ?_
    repeat' first | (refine ⟨fun _ => ?_, fun _ => ?_⟩ <;> try omega) | (refine ⟨by first | omega | (simp only [upm_ap, upd1_ap, Nat.reduceEqDiff, ↓reduceIte, eq_self] at * <;> omega) | fail, ?_⟩) | (exact h1) | (simp only [upm_ap, upd1_ap, Nat.reduceEqDiff, ↓reduceIte, eq_self] at *) | omega | fail
  · have h1 := h1 (by omega) (by omega)
    refine RMr [] [] 200 ?_
    repeat' first | (refine ⟨fun _ => ?_, fun _ => ?_⟩ <;> try omega) | (refine ⟨by first | omega | (simp only [upm_ap, upd1_ap, Nat.reduceEqDiff, ↓reduceIte, eq_self] at * <;> omega) | fail, ?_⟩) | (exact h1) | (simp only [upm_ap, upd1_ap, Nat.reduceEqDiff, ↓reduceIte, eq_self] at *) | omega | fail
  · have h1 := h1 (by omega) (by omega)
    refine RMr [] [] 200 ?_
    repeat' first | (refine ⟨fun _ => ?_, fun _ => ?_⟩ <;> try omega) | (refine ⟨by first | omega | (simp only [upm_ap, upd1_ap, Nat.reduceEqDiff, ↓reduceIte, eq_self] at * <;> omega) | fail, ?_⟩) | (exact h1) | (simp only [upm_ap, upd1_ap, Nat.reduceEqDiff, ↓reduceIte, eq_self] at *) | omega | fail
  · have h1 := h1 (by omega) (by omega)
    refine RMr [] [] 200 ?_
    repeat' first | (refine ⟨fun _ => ?_, fun _ => ?_⟩ <;> try omega) | (refine ⟨by first | omega | (simp only [upm_ap, upd1_ap, Nat.reduceEqDiff, ↓reduceIte, eq_self] at * <;> omega) | fail, ?_⟩) | (exact h1) | (simp only [upm_ap, upd1_ap, Nat.reduceEqDiff, ↓reduceIte, eq_self] at *) | omega | fail
  · have h1 := h1 (by omega) (by omega)
    refine RMr [] [] 200 ?_
    repeat' first | (refine ⟨fun _ => ?_, fun _ => ?_⟩ <;> try omega) | (refine ⟨by first | omega | (simp only [upm_ap, upd1_ap, Nat.reduceEqDiff, ↓reduceIte, eq_self] at * <;> omega) | fail, ?_⟩) | (refine M_made (m := upm m 0 0 0) hs ?_) | (exact h1) | (simp only [upm_ap, upd1_ap, Nat.reduceEqDiff, ↓reduceIte, eq_self] at *) | omega | fail
  · have h1 := h1 (by omega) (by omega)
    refine RMr [] [] 200 ?_
    repeat' first | (refine ⟨fun _ => ?_, fun _ => ?_⟩ <;> try omega) | (refine ⟨by first | omega | (simp only [upm_ap, upd1_ap, Nat.reduceEqDiff, ↓reduceIte, eq_self] at * <;> omega) | fail, ?_⟩) | (refine M_free (m := upm m 0 0 0) hn ?_) | (exact h1) | (simp only [upm_ap, upd1_ap, Nat.reduceEqDiff, ↓reduceIte, eq_self] at *) | omega | fail
  · refine RMr [] [] 200 ?_
    repeat' first | (refine ⟨fun _ => ?_, fun _ => ?_⟩ <;> try omega) | (refine ⟨by first | omega | (simp only [upm_ap, upd1_ap, Nat.reduceEqDiff, ↓reduceIte, eq_self] at * <;> omega) | fail, ?_⟩) | (exact h0 h) | (simp only [upm_ap, upd1_ap, Nat.reduceEqDiff, ↓reduceIte, eq_self] at *) | omega | fail
noncomputable def wScheme (m : sg) (s what : Int) : Int := if what = 0 then m 54 s else if what = 1 then m 55 s else if what = 2 then m 56 s else if what = 3 then m 57 s else if what = 4 then m 58 s else if what = 5 then m 59 s else if what = 6 then m 60 s else if what = 7 then cnt (fun p => decide (m 61 (100 * s + p) ≠ 0)) 100 else if what = 8 then cnt (fun p => decide (m 62 (100 * s + p) = 1)) 100 else cnt (fun p => decide (m 62 (100 * s + p) = 2)) 100
theorem M_scheme {s what : Int} (hn : m 53 0 ≤ 40)
    (h1 : 0 ≤ s → s < m 53 0 → 0 ≤ what → what ≤ 9 → Q (rI (wScheme m s what)) (upm m 0 0 0))
    (h0 : ¬ ((0 ≤ s ∧ s < m 53 0) ∧ 0 ≤ what ∧ what ≤ 9) → Q (rI (-1)) (upm m 0 0 0)) : RM (d + 1) 164 (0, [some (mR 1026), some (mI s), some (mI what)], [], m) Q := by
  by_cases hc : 0 ≤ s ∧ s < m 53 0
  · have h1 := h1 hc.1 hc.2
    rcases (by omega : what = 0 ∨ what = 1 ∨ what = 2 ∨ what = 3 ∨ what = 4 ∨ what = 5 ∨ what = 6 ∨ what = 7 ∨ what = 8 ∨ what = 9 ∨ ¬ (0 ≤ what ∧ what ≤ 9)) with rfl | rfl | rfl | rfl | rfl | rfl | rfl | rfl | rfl | rfl | h
    · have h1 := h1 (by omega) (by omega)
      refine RMr [] [] 200 ?_
      repeat' first | (refine ⟨fun _ => ?_, fun _ => ?_⟩ <;> try omega) | (refine ⟨by first | omega | (simp only [upm_ap, upd1_ap, Nat.reduceEqDiff, ↓reduceIte, eq_self] at * <;> omega) | fail, ?_⟩) | (refine M_isScheme (m := upm m 0 0 0) (fun _ _ => ?_) (fun _ => ?_)) | (exact h1) | (simp only [upm_ap, upd1_ap, Nat.reduceEqDiff, ↓reduceIte, eq_self] at *) | omega | fail
    · have h1 := h1 (by omega) (by omega)
      refine RMr [] [] 200 ?_
      repeat' first | (refine ⟨fun _ => ?_, fun _ => ?_⟩ <;> try omega) | (refine ⟨by first | omega | (simp only [upm_ap, upd1_ap, Nat.reduceEqDiff, ↓reduceIte, eq_self] at * <;> omega) | fail, ?_⟩) | (refine M_isScheme (m := upm m 0 0 0) (fun _ _ => ?_) (fun _ => ?_)) | (exact h1) | (simp only [upm_ap, upd1_ap, Nat.reduceEqDiff, ↓reduceIte, eq_self] at *) | omega | fail
    · have h1 := h1 (by omega) (by omega)
      refine RMr [] [] 200 ?_
      repeat' first | (refine ⟨fun _ => ?_, fun _ => ?_⟩ <;> try omega) | (refine ⟨by first | omega | (simp only [upm_ap, upd1_ap, Nat.reduceEqDiff, ↓reduceIte, eq_self] at * <;> omega) | fail, ?_⟩) | (refine M_isScheme (m := upm m 0 0 0) (fun _ _ => ?_) (fun _ => ?_)) | (exact h1) | (simp only [upm_ap, upd1_ap, Nat.reduceEqDiff, ↓reduceIte, eq_self] at *) | omega | fail
    · have h1 := h1 (by omega) (by omega)
      refine RMr [] [] 200 ?_
      repeat' first | (refine ⟨fun _ => ?_, fun _ => ?_⟩ <;> try omega) | (refine ⟨by first | omega | (simp only [upm_ap, upd1_ap, Nat.reduceEqDiff, ↓reduceIte, eq_self] at * <;> omega) | fail, ?_⟩) | (refine M_isScheme (m := upm m 0 0 0) (fun _ _ => ?_) (fun _ => ?_)) | (exact h1) | (simp only [upm_ap, upd1_ap, Nat.reduceEqDiff, ↓reduceIte, eq_self] at *) | omega | fail
    · have h1 := h1 (by omega) (by omega)
      refine RMr [] [] 200 ?_
      repeat' first | (refine ⟨fun _ => ?_, fun _ => ?_⟩ <;> try omega) | (refine ⟨by first | omega | (simp only [upm_ap, upd1_ap, Nat.reduceEqDiff, ↓reduceIte, eq_self] at * <;> omega) | fail, ?_⟩) | (refine M_isScheme (m := upm m 0 0 0) (fun _ _ => ?_) (fun _ => ?_)) | (refine M_lastDay (m := upm m 0 0 0) (by omega) ?_) | (exact h1) | (simp only [upm_ap, upd1_ap, Nat.reduceEqDiff, ↓reduceIte, eq_self] at *) | omega | fail
    · have h1 := h1 (by omega) (by omega)
      refine RMr [] [] 200 ?_
      repeat' first | (refine ⟨fun _ => ?_, fun _ => ?_⟩ <;> try omega) | (refine ⟨by first | omega | (simp only [upm_ap, upd1_ap, Nat.reduceEqDiff, ↓reduceIte, eq_self] at * <;> omega) | fail, ?_⟩) | (refine M_isScheme (m := upm m 0 0 0) (fun _ _ => ?_) (fun _ => ?_)) | (exact h1) | (simp only [upm_ap, upd1_ap, Nat.reduceEqDiff, ↓reduceIte, eq_self] at *) | omega | fail
    · have h1 := h1 (by omega) (by omega)
      refine RMr [] [] 200 ?_
      repeat' first | (refine ⟨fun _ => ?_, fun _ => ?_⟩ <;> try omega) | (refine ⟨by first | omega | (simp only [upm_ap, upd1_ap, Nat.reduceEqDiff, ↓reduceIte, eq_self] at * <;> omega) | fail, ?_⟩) | (refine M_isScheme (m := upm m 0 0 0) (fun _ _ => ?_) (fun _ => ?_)) | (exact h1) | (simp only [upm_ap, upd1_ap, Nat.reduceEqDiff, ↓reduceIte, eq_self] at *) | omega | fail
    · have h1 := h1 (by omega) (by omega)
      refine RMr [] [] 200 ?_
      repeat' first | (refine ⟨fun _ => ?_, fun _ => ?_⟩ <;> try omega) | (refine ⟨by first | omega | (simp only [upm_ap, upd1_ap, Nat.reduceEqDiff, ↓reduceIte, eq_self] at * <;> omega) | fail, ?_⟩) | (refine M_isScheme (m := upm m 0 0 0) (fun _ _ => ?_) (fun _ => ?_)) | (refine M_against (m := upm m 0 0 0) (by omega) ?_) | (exact h1) | (simp only [upm_ap, upd1_ap, Nat.reduceEqDiff, ↓reduceIte, eq_self] at *) | omega | fail
    · have h1 := h1 (by omega) (by omega)
      refine RMr [] [] 200 ?_
      repeat' first | (refine ⟨fun _ => ?_, fun _ => ?_⟩ <;> try omega) | (refine ⟨by first | omega | (simp only [upm_ap, upd1_ap, Nat.reduceEqDiff, ↓reduceIte, eq_self] at * <;> omega) | fail, ?_⟩) | (refine M_isScheme (m := upm m 0 0 0) (fun _ _ => ?_) (fun _ => ?_)) | (refine M_saidSo (m := upm m 0 0 0) (by omega) ?_) | (exact h1) | (simp only [upm_ap, upd1_ap, Nat.reduceEqDiff, ↓reduceIte, eq_self] at *) | omega | fail
    · have h1 := h1 (by omega) (by omega)
      refine RMr [] [] 200 ?_
      repeat' first | (refine ⟨fun _ => ?_, fun _ => ?_⟩ <;> try omega) | (refine ⟨by first | omega | (simp only [upm_ap, upd1_ap, Nat.reduceEqDiff, ↓reduceIte, eq_self] at * <;> omega) | fail, ?_⟩) | (refine M_isScheme (m := upm m 0 0 0) (fun _ _ => ?_) (fun _ => ?_)) | (refine M_saidSo (m := upm m 0 0 0) (by omega) ?_) | (exact h1) | (simp only [upm_ap, upd1_ap, Nat.reduceEqDiff, ↓reduceIte, eq_self] at *) | omega | fail
    · refine RMr [] [] 200 ?_
      repeat' first | (refine ⟨fun _ => ?_, fun _ => ?_⟩ <;> try omega) | (refine ⟨by first | omega | (simp only [upm_ap, upd1_ap, Nat.reduceEqDiff, ↓reduceIte, eq_self] at * <;> omega) | fail, ?_⟩) | (refine M_isScheme (m := upm m 0 0 0) (fun _ _ => ?_) (fun _ => ?_)) | (exact h0 (by omega)) | (simp only [upm_ap, upd1_ap, Nat.reduceEqDiff, ↓reduceIte, eq_self] at *) | omega | fail
  · refine RMr [] [] 200 ?_
    repeat' first | (refine ⟨fun _ => ?_, fun _ => ?_⟩ <;> try omega) | (refine ⟨by first | omega | (simp only [upm_ap, upd1_ap, Nat.reduceEqDiff, ↓reduceIte, eq_self] at * <;> omega) | fail, ?_⟩) | (refine M_isScheme (m := upm m 0 0 0) (fun _ _ => ?_) (fun _ => ?_)) | (exact h0 (by omega)) | (simp only [upm_ap, upd1_ap, Nat.reduceEqDiff, ↓reduceIte, eq_self] at *) | omega | fail
theorem M_vote {s p y : Int} {x4 : Option mV} (hn : m 53 0 ≤ 40) (hk : 0 ≤ s → s < m 53 0 → 0 ≤ m 55 s ∧ m 55 s < 12) (hx : 0 ≤ s → s < m 53 0 → m 54 s = 1 → 0 ≤ m 56 s ∧ m 56 s < 12)
    (h1 : 0 ≤ s → s < m 53 0 → 0 ≤ p → p < 100 → m 59 s = 0 → (m 40 (100 * m 55 s + p) ≠ 0 ∨ m 54 s = 1 ∧ m 40 (100 * m 56 s + p) ≠ 0) → ∀ v, (y ≠ 0 ∧ v = 1 ∨ y = 0 ∧ v = 2) → Q (rI 1) (upm (upm m 0 0 0) 62 (100 * s + p) v))
    (h0 : ¬ ((0 ≤ s ∧ s < m 53 0) ∧ (0 ≤ p ∧ p < 100) ∧ m 59 s = 0 ∧ (m 40 (100 * m 55 s + p) ≠ 0 ∨ m 54 s = 1 ∧ m 40 (100 * m 56 s + p) ≠ 0)) → Q (rI 0) (upm m 0 0 0)) : RM (d + 1) 152 (0, [some (mR 1026), some (mI s), some (mI p), some (mI y), x4], [], m) Q := by
  by_cases hc : 0 ≤ s ∧ s < m 53 0
  · have hk := hk hc.1 hc.2
    have hx := hx hc.1 hc.2
    have h1 := h1 hc.1 hc.2
    by_cases h54 : m 54 s = 1
    · have hx := hx h54
      refine RMr [] [] 200 ?_
      repeat' first | (refine ⟨fun _ => ?_, fun _ => ?_⟩ <;> try omega) | (refine ⟨by first | omega | (simp only [upm_ap, upd1_ap, Nat.reduceEqDiff, ↓reduceIte, eq_self] at * <;> omega) | fail, ?_⟩) | (refine M_isScheme (m := upm m 0 0 0) (fun _ _ => ?_) (fun _ => ?_)) | (refine M_isPerson (fun _ _ => ?_) (fun _ => ?_)) | (exact h0 (by omega)) | (exact h1 (by omega) (by omega) (by omega) (by omega) _ (by omega)) | (simp only [upm_ap, upd1_ap, Nat.reduceEqDiff, ↓reduceIte, eq_self] at *) | omega | fail
    · refine RMr [] [] 200 ?_
      repeat' first | (refine ⟨fun _ => ?_, fun _ => ?_⟩ <;> try omega) | (refine ⟨by first | omega | (simp only [upm_ap, upd1_ap, Nat.reduceEqDiff, ↓reduceIte, eq_self] at * <;> omega) | fail, ?_⟩) | (refine M_isScheme (m := upm m 0 0 0) (fun _ _ => ?_) (fun _ => ?_)) | (refine M_isPerson (fun _ _ => ?_) (fun _ => ?_)) | (exact h0 (by omega)) | (exact h1 (by omega) (by omega) (by omega) (by omega) _ (by omega)) | (simp only [upm_ap, upd1_ap, Nat.reduceEqDiff, ↓reduceIte, eq_self] at *) | omega | fail
  · refine RMr [] [] 200 ?_
    repeat' first | (refine ⟨fun _ => ?_, fun _ => ?_⟩ <;> try omega) | (refine ⟨by first | omega | (simp only [upm_ap, upd1_ap, Nat.reduceEqDiff, ↓reduceIte, eq_self] at * <;> omega) | fail, ?_⟩) | (refine M_isScheme (m := upm m 0 0 0) (fun _ _ => ?_) (fun _ => ?_)) | (refine M_isPerson (fun _ _ => ?_) (fun _ => ?_)) | (exact h0 (by omega)) | (simp only [upm_ap, upd1_ap, Nat.reduceEqDiff, ↓reduceIte, eq_self] at *) | omega | fail
theorem M_propose {k f x : Int} {x4 : Option mV} (hs : 0 ≤ m 53 0 ∧ m 53 0 ≤ 40) (hn : 0 ≤ m 27 0 ∧ m 27 0 ≤ 20) (hm : ∀ a, 0 ≤ a → a < m 27 0 → 0 ≤ m 6 a ∧ m 6 a ≤ 20) (hi : i32 (m 1 0 + tOf m (aOn m (m 1 0)) 2)) (good : Bool)
    (hg : good = true → k = 0 ∧ 0 ≤ x ∧ x < m 49 0 ∨ k = 1 ∧ 0 ≤ x ∧ x < m 32 0 ∨ k = 2 ∧ 1 ≤ x ∧ x ≤ 999 ∨ k = 3 ∧ 0 ≤ x)
    (hb : good = false → ¬ (k = 0 ∧ 0 ≤ x ∧ x < m 49 0 ∨ k = 1 ∧ 0 ≤ x ∧ x < m 32 0 ∨ k = 2 ∧ 1 ≤ x ∧ x ≤ 999 ∨ k = 3 ∧ 0 ≤ x))
    (h1 : 0 ≤ f → f < m 32 0 → m 53 0 < 40 → good = true → Q (rI (m 53 0 + 1 - 1)) (upm (upm (upm (upm (upm (upm (upm (upm m 0 0 0) 54 (m 53 0) k) 55 (m 53 0) f) 56 (m 53 0) x) 57 (m 53 0) (m 1 0)) 58 (m 53 0) (m 1 0 + tOf m (aOn m (m 1 0)) 2)) 59 (m 53 0) 0) 53 0 (m 53 0 + 1)))
    (h0 : ¬ ((0 ≤ f ∧ f < m 32 0) ∧ m 53 0 < 40 ∧ good = true) → Q (rI (-1)) (upm m 0 0 0)) : RM (d + 2) 146 (0, [some (mR 1026), some (mI k), some (mI f), some (mI x), x4], [], m) Q := by
  by_cases hf : 0 ≤ f ∧ f < m 32 0 ∧ m 53 0 < 40
  · cases good with
    | true =>
      have h1 := h1 hf.1 hf.2.1 hf.2.2 rfl
      clear h0
      rcases hg rfl with ⟨rfl, hx⟩ | ⟨rfl, hx⟩ | ⟨rfl, hx⟩ | ⟨rfl, hx⟩
      · refine RMr [] [] 200 ?_
        repeat' first | (refine ⟨fun _ => ?_, fun _ => ?_⟩ <;> try omega) | (refine ⟨by first | omega | (simp only [upm_ap, upd1_ap, Nat.reduceEqDiff, ↓reduceIte, eq_self] at * <;> omega) | fail, ?_⟩) | (refine M_isFund (m := upm m 0 0 0) (fun _ _ => ?_) (fun _ => ?_)) | (refine M_within (fun _ _ => ?_) (fun _ => ?_)) | (refine M_toldOnE (m := upm (upm (upm (upm (upm m 0 0 0) 54 (m 53 0) 0) 55 (m 53 0) f) 56 (m 53 0) x) 57 (m 53 0) (m 1 0)) hn hm (v := tOf m (aOn m (m 1 0)) 2) rfl ?_) | (exact h1) | (simp only [upm_ap, upd1_ap, Nat.reduceEqDiff, ↓reduceIte, eq_self] at *) | omega | fail
      · refine RMr [] [] 200 ?_
        repeat' first | (refine ⟨fun _ => ?_, fun _ => ?_⟩ <;> try omega) | (refine ⟨by first | omega | (simp only [upm_ap, upd1_ap, Nat.reduceEqDiff, ↓reduceIte, eq_self] at * <;> omega) | fail, ?_⟩) | (refine M_isFund (m := upm m 0 0 0) (fun _ _ => ?_) (fun _ => ?_)) | (refine M_within (fun _ _ => ?_) (fun _ => ?_)) | (refine M_toldOnE (m := upm (upm (upm (upm (upm m 0 0 0) 54 (m 53 0) 1) 55 (m 53 0) f) 56 (m 53 0) x) 57 (m 53 0) (m 1 0)) hn hm (v := tOf m (aOn m (m 1 0)) 2) rfl ?_) | (exact h1) | (simp only [upm_ap, upd1_ap, Nat.reduceEqDiff, ↓reduceIte, eq_self] at *) | omega | fail
      · refine RMr [] [] 200 ?_
        repeat' first | (refine ⟨fun _ => ?_, fun _ => ?_⟩ <;> try omega) | (refine ⟨by first | omega | (simp only [upm_ap, upd1_ap, Nat.reduceEqDiff, ↓reduceIte, eq_self] at * <;> omega) | fail, ?_⟩) | (refine M_isFund (m := upm m 0 0 0) (fun _ _ => ?_) (fun _ => ?_)) | (refine M_within (fun _ _ => ?_) (fun _ => ?_)) | (refine M_toldOnE (m := upm (upm (upm (upm (upm m 0 0 0) 54 (m 53 0) 2) 55 (m 53 0) f) 56 (m 53 0) x) 57 (m 53 0) (m 1 0)) hn hm (v := tOf m (aOn m (m 1 0)) 2) rfl ?_) | (exact h1) | (simp only [upm_ap, upd1_ap, Nat.reduceEqDiff, ↓reduceIte, eq_self] at *) | omega | fail
      · refine RMr [] [] 200 ?_
        repeat' first | (refine ⟨fun _ => ?_, fun _ => ?_⟩ <;> try omega) | (refine ⟨by first | omega | (simp only [upm_ap, upd1_ap, Nat.reduceEqDiff, ↓reduceIte, eq_self] at * <;> omega) | fail, ?_⟩) | (refine M_isFund (m := upm m 0 0 0) (fun _ _ => ?_) (fun _ => ?_)) | (refine M_within (fun _ _ => ?_) (fun _ => ?_)) | (refine M_toldOnE (m := upm (upm (upm (upm (upm m 0 0 0) 54 (m 53 0) 3) 55 (m 53 0) f) 56 (m 53 0) x) 57 (m 53 0) (m 1 0)) hn hm (v := tOf m (aOn m (m 1 0)) 2) rfl ?_) | (exact h1) | (simp only [upm_ap, upd1_ap, Nat.reduceEqDiff, ↓reduceIte, eq_self] at *) | omega | fail
    | false =>
      have h0 := h0 (fun h => by cases h.2.2)
      have hb := hb rfl
      clear h1 hg hi hm
      refine RMr [] [] 200 ?_
      repeat' first | (refine ⟨fun _ => ?_, fun _ => ?_⟩ <;> try omega) | (refine ⟨by first | omega | (simp only [upm_ap, upd1_ap, Nat.reduceEqDiff, ↓reduceIte, eq_self] at * <;> omega) | fail, ?_⟩) | (refine M_isFund (m := upm m 0 0 0) (fun _ _ => ?_) (fun _ => ?_)) | (refine M_within (fun _ _ => ?_) (fun _ => ?_)) | (exact h0) | (simp only [upm_ap, upd1_ap, Nat.reduceEqDiff, ↓reduceIte, eq_self] at *) | omega | fail
  · have h0 := h0 (fun h => hf ⟨h.1.1, h.1.2, h.2.1⟩)
    clear h1 hg hi hm hb
    refine RMr [] [] 200 ?_
    repeat' first | (refine ⟨fun _ => ?_, fun _ => ?_⟩ <;> try omega) | (refine ⟨by first | omega | (simp only [upm_ap, upd1_ap, Nat.reduceEqDiff, ↓reduceIte, eq_self] at * <;> omega) | fail, ?_⟩) | (refine M_isFund (m := upm m 0 0 0) (fun _ _ => ?_) (fun _ => ?_)) | (refine M_within (fun _ _ => ?_) (fun _ => ?_)) | (exact h0) | (simp only [upm_ap, upd1_ap, Nat.reduceEqDiff, ↓reduceIte, eq_self] at *) | omega | fail
end
