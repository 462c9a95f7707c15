/-! the Model: what is named, signs at work -/
set_option maxHeartbeats 400000
theorem fA_cg {m m' : sg} (h2 : m' 2 = m 2) (h3 : m' 3 = m 3) : fA m' = fA m := by
  funext w y k
  unfold fA
  rw [h2, h3]
theorem aOn_cg {m m' : sg} (h2 : m' 27 = m 27) (h3 : m' 28 = m 28) : aOn m' = aOn m := by
  funext w
  unfold aOn
  rw [h2, h3]
theorem tOf_cg {m m' : sg} (h2 : m' 6 = m 6) (h3 : m' 7 = m 7) (h4 : m' 8 = m 8) : tOf m' = tOf m := by
  funext a w
  unfold tOf
  rw [h2, h3, h4]
def bd (v : Int) : Int := max (-1000000000) (min 1000000000 v)
/-- what is named of a fund -/
noncomputable def nmF (m : sg) (f year known : Int) (i : Int) : Int := if i < 8 then fA m i year known else if i = 8 then bd (m 33 f * fA m 6 year known + m 34 f) else if i = 9 then bd (m 35 f) else if i = 10 then cnt (fun e => decide (m 46 (80 * f + e) = 0)) (m 43 f) else if i = 11 then cnt (fun e => decide (m 46 (80 * f + e) = 1)) (m 43 f) else pop (m 36 f)
section
variable {d : Nat} {m : sg} {Q : mQ sg}
theorem M_names {f year known : Int} {x4 : Option mV} (hn : 0 ≤ m 2 0 ∧ m 2 0 ≤ 300) (hf : 0 ≤ f ∧ f < 12) (he : 0 ≤ m 43 f ∧ m 43 f ≤ 80) (hi : i32 (m 33 f * fA m 6 year known) ∧ i32 (m 33 f * fA m 6 year known + m 34 f))
    (hQ : ∀ m', (∀ j, j ≠ 29 → m' j = m j) → (∀ i, 0 ≤ i → i < 13 → m' 29 i = nmF m f year known i) → Q rV m') : RM (d + 2) 128 (0, [some (mR 1026), some (mI f), some (mI year), some (mI known), x4], [], m) Q := by
  refine RMr [] [1280003] 20 ?_
  refine up_ind (n := 8) (P := fun k => ∀ m', (∀ j, j ≠ 29 → m' j = m j) → (∀ i, 0 ≤ i → i < k → m' 29 i = fA m i year known) → RM (d + 2) 128 (3, [some (mR 1026), some (mI f), some (mI year), some (mI known), some (mI k)], [], m') Q) ?_ ?_ 0 (by omega) (by omega) m (fun _ _ => rfl) (fun i h0 h1 => by omega)
  · intro m' hfr hv
    have e2 := hfr 2 (by decide)
    have e3 := hfr 3 (by decide)
    have e33 := hfr 33 (by decide)
    have e34 := hfr 34 (by decide)
    have e35 := hfr 35 (by decide)
    have e36 := hfr 36 (by decide)
    have e43 := hfr 43 (by decide)
    have e46 := hfr 46 (by decide)
    have eA := fA_cg e2 e3
    rw [← e2] at hn
    rw [← eA, ← e33, ← e34] at hi
    rw [← e43] at he
    refine RMr [] [1280003] 100 ?_
    repeat' first | (refine ⟨fun _ => ?_, fun _ => ?_⟩ <;> try omega) | (refine ⟨by first | omega | (simp only [upm_ap, upd1_ap, Nat.reduceEqDiff, ↓reduceIte, eq_self] at * <;> omega) | fail, ?_⟩) | (refine M_incomeOf hn hf hi ?_) | (refine M_bounded ?_) | (refine M_howMany hf he ?_) | (refine M_size ?_) | (refine hQ _ ?_ ?_) | (simp only [upm_ap, upd1_ap, Nat.reduceEqDiff, ↓reduceIte, eq_self] at *) | omega | fail
    · intro j hj
      simp only [upm_ap, hj, if_false]
      exact hfr j hj
    · intro i h0 h1
      try simp only [upm_ap, upd1_ap, Nat.reduceEqDiff, ↓reduceIte, eq_self]
      unfold nmF bd
      by_cases hi8 : i < 8
      · have : ¬ i = 8 := by omega
        have : ¬ i = 9 := by omega
        have : ¬ i = 10 := by omega
        have : ¬ i = 11 := by omega
        have : ¬ i = 12 := by omega
        simp only [*, if_true, if_false]
      · rcases (by omega : i = 8 ∨ i = 9 ∨ i = 10 ∨ i = 11 ∨ i = 12) with rfl | rfl | rfl | rfl | rfl
        · simp [e33, e34, eA]
        · simp [e35]
        · simp [e43, e46]
        · simp [e43, e46]
        · simp [e36]
  · intro k h0 h1 ih m' hfr hv
    have e2 := hfr 2 (by decide)
    have e3 := hfr 3 (by decide)
    have eA := fA_cg e2 e3
    rw [← e2] at hn
    refine RMr [] [1280003] 100 ?_
    repeat' first | (refine ⟨fun _ => ?_, fun _ => ?_⟩ <;> try omega) | (refine ⟨by first | omega | (simp only [upm_ap, upd1_ap, Nat.reduceEqDiff, ↓reduceIte, eq_self] at * <;> omega) | fail, ?_⟩) | (refine M_factAtE hn (congrFun (congrFun (congrFun eA k) year) known) ?_) | (refine ih _ ?_ ?_) | (simp only [upm_ap, upd1_ap, Nat.reduceEqDiff, ↓reduceIte, eq_self] at *) | omega | fail
    · intro j hj
      simp only [upm_ap, hj, if_false]
      exact hfr j hj
    · intro i hi0 hi1
      try simp only [upm_ap, upd1_ap, ↓reduceIte]
      by_cases e : i = k
      · simp [e]
      · simp only [e, if_false]
        exact hv i hi0 (by omega)
/-- one sign at work: the heap (top first), what the comparisons gave (last first) -/
def sgn (nm : Int → Int) (s : Int) (st log : List Int) : Option (List Int × List Int) :=
  if 0 ≤ s then some ((if 10000 ≤ s then nm (s - 10000) else s) :: st, log)
  else if s = -9 then match st with
    | a :: r => if a = 0 ∨ a = 1 then some ((1 - a) :: r, log) else none
    | _ => none
  else match st with
    | b :: a :: r =>
      if s = -1 then some (bd (a + b) :: r, log)
      else if s = -2 then some (bd (a - b) :: r, log)
      else if s = -3 then some (bd (a * b) :: r, log)
      else if s = -4 then some ((if a < b then 1 else 0) :: r, (if a < b then 1 else 0) :: log)
      else if s = -5 then some ((if b < a then 1 else 0) :: r, (if b < a then 1 else 0) :: log)
      else if s = -6 then some ((if a = b then 1 else 0) :: r, (if a = b then 1 else 0) :: log)
      else if s = -7 then (if (a = 0 ∨ a = 1) ∧ (b = 0 ∨ b = 1) then some (a * b :: r, log) else none)
      else if s = -8 then some ((if 0 < a + b then 1 else 0) :: r, log)
      else none
    | _ => none
def run (nm : Int → Int) : List Int → List Int → List Int → Option (List Int × List Int)
  | [], st, log => some (st, log)
  | s :: c, st, log => match sgn nm s st log with
    | some (st', log') => run nm c st' log'
    | none => none
theorem M_joined {s a b v : Int} (hs : -8 ≤ s ∧ s ≤ -1) (ha : -1000000000 ≤ a ∧ a ≤ 1000000000) (hb : -1000000000 ≤ b ∧ b ≤ 1000000000) (h7 : s = -7 → i32 (a * b))
    (hm : -1000000000000000000 ≤ a * b ∧ a * b ≤ 1000000000000000000)
    (h1 : s = -1 → Q (rI (bd (a + b))) m) (h2 : s = -2 → Q (rI (bd (a - b))) m) (h3 : s = -3 → Q (rI (bd (a * b))) m)
    (h4 : s = -4 → ∀ v, (v = if a < b then 1 else 0) → Q (rI v) m) (h5 : s = -5 → ∀ v, (v = if b < a then 1 else 0) → Q (rI v) m) (h6 : s = -6 → ∀ v, (v = if a = b then 1 else 0) → Q (rI v) m)
    (h7' : s = -7 → Q (rI (a * b)) m) (h8 : s = -8 → ∀ v, (v = if 0 < a + b then 1 else 0) → Q (rI v) m) : RM (d + 1) 135 (0, [some (mI s), some (mI a), some (mI b)], [], m) Q := by
  rcases (by omega : s = -1 ∨ s = -2 ∨ s = -3 ∨ s = -4 ∨ s = -5 ∨ s = -6 ∨ s = -7 ∨ s = -8) with rfl | rfl | rfl | rfl | rfl | rfl | rfl | rfl
  · have h1 := h1 rfl
    clear h2 h3 h4 h5 h6 h7' h8 h7
    refine RMr [] [] 60 ?_
    repeat' first | (refine ⟨fun _ => ?_, fun _ => ?_⟩ <;> try omega) | (refine ⟨by first | omega | (simp only [upm_ap, upd1_ap, Nat.reduceEqDiff, ↓reduceIte, eq_self] at * <;> omega) | fail, ?_⟩) | (refine M_bounded ?_) | (exact h1) | (simp only [upm_ap, upd1_ap, Nat.reduceEqDiff, ↓reduceIte, eq_self] at *) | omega | fail
  · have h1 := h2 rfl
    clear h2 h3 h4 h5 h6 h7' h8 h7
    refine RMr [] [] 60 ?_
    repeat' first | (refine ⟨fun _ => ?_, fun _ => ?_⟩ <;> try omega) | (refine ⟨by first | omega | (simp only [upm_ap, upd1_ap, Nat.reduceEqDiff, ↓reduceIte, eq_self] at * <;> omega) | fail, ?_⟩) | (refine M_bounded ?_) | (exact h1) | (simp only [upm_ap, upd1_ap, Nat.reduceEqDiff, ↓reduceIte, eq_self] at *) | omega | fail
  · have h1 := h3 rfl
    clear h2 h3 h4 h5 h6 h7' h8 h7
    refine RMr [] [] 60 ?_
    repeat' first | (refine ⟨fun _ => ?_, fun _ => ?_⟩ <;> try omega) | (refine ⟨by first | omega | (simp only [upm_ap, upd1_ap, Nat.reduceEqDiff, ↓reduceIte, eq_self] at * <;> omega) | fail, ?_⟩) | (refine M_bounded ?_) | (exact h1) | (simp only [upm_ap, upd1_ap, Nat.reduceEqDiff, ↓reduceIte, eq_self] at *) | omega | fail
  · have h1 := h4 rfl
    clear h2 h3 h4 h5 h6 h7' h8 h7
    refine RMr [] [] 60 ?_
    repeat' first | (refine ⟨fun _ => ?_, fun _ => ?_⟩ <;> try omega) | (refine ⟨by first | omega | (simp only [upm_ap, upd1_ap, Nat.reduceEqDiff, ↓reduceIte, eq_self] at * <;> omega) | fail, ?_⟩) | (exact h1 _ (by simp [*]; done)) | (exact h1 _ (by simp; omega)) | (simp only [upm_ap, upd1_ap, Nat.reduceEqDiff, ↓reduceIte, eq_self] at *) | omega | fail
  · have h1 := h5 rfl
    clear h2 h3 h4 h5 h6 h7' h8 h7
    refine RMr [] [] 60 ?_
    repeat' first | (refine ⟨fun _ => ?_, fun _ => ?_⟩ <;> try omega) | (refine ⟨by first | omega | (simp only [upm_ap, upd1_ap, Nat.reduceEqDiff, ↓reduceIte, eq_self] at * <;> omega) | fail, ?_⟩) | (exact h1 _ (by simp [*]; done)) | (exact h1 _ (by simp; omega)) | (simp only [upm_ap, upd1_ap, Nat.reduceEqDiff, ↓reduceIte, eq_self] at *) | omega | fail
  · have h1 := h6 rfl
    clear h2 h3 h4 h5 h6 h7' h8 h7
    refine RMr [] [] 60 ?_
    repeat' first | (refine ⟨fun _ => ?_, fun _ => ?_⟩ <;> try omega) | (refine ⟨by first | omega | (simp only [upm_ap, upd1_ap, Nat.reduceEqDiff, ↓reduceIte, eq_self] at * <;> omega) | fail, ?_⟩) | (exact h1 _ (by simp [*]; done)) | (simp only [upm_ap, upd1_ap, Nat.reduceEqDiff, ↓reduceIte, eq_self] at *) | omega | fail
  · have h1 := h7' rfl
    have h7 := h7 rfl
    clear h2 h3 h4 h5 h6 h7' h8
    refine RMr [] [] 60 ?_
    repeat' first | (refine ⟨fun _ => ?_, fun _ => ?_⟩ <;> try omega) | (refine ⟨by first | omega | (simp only [upm_ap, upd1_ap, Nat.reduceEqDiff, ↓reduceIte, eq_self] at * <;> omega) | fail, ?_⟩) | (exact h1) | (simp only [upm_ap, upd1_ap, Nat.reduceEqDiff, ↓reduceIte, eq_self] at *) | omega | fail
  · have h1 := h8 rfl
    clear h2 h3 h4 h5 h6 h7' h8 h7
    refine RMr [] [] 60 ?_
    repeat' first | (refine ⟨fun _ => ?_, fun _ => ?_⟩ <;> try omega) | (refine ⟨by first | omega | (simp only [upm_ap, upd1_ap, Nat.reduceEqDiff, ↓reduceIte, eq_self] at * <;> omega) | fail, ?_⟩) | (exact h1 _ (by simp [*]; done)) | (exact h1 _ (by simp; omega)) | (simp only [upm_ap, upd1_ap, Nat.reduceEqDiff, ↓reduceIte, eq_self] at *) | omega | fail
end
