/-! the Model: coin led back; entries; marks; accounts -/
set_option maxHeartbeats 400000
def smN (f : Int → Int) : Nat → Int
  | 0 => 0
  | n + 1 => smN f n + f n
theorem sm_ex : ∃ g : (Int → Int) → Int → Int, g = fun f n => smN f n.toNat := ⟨_, rfl⟩
/-- the sum of the first n -/
noncomputable def sm : (Int → Int) → Int → Int := Classical.choose sm_ex
theorem sm_eq (f : Int → Int) (n : Int) : sm f n = smN f n.toNat := by
  have h : sm = _ := Classical.choose_spec sm_ex
  rw [h]
theorem sm_0 (f : Int → Int) : sm f 0 = 0 := by rw [sm_eq]; rfl
theorem sm_s (f : Int → Int) {k : Int} (h : 0 ≤ k) : sm f (k + 1) = sm f k + f k := by
  rw [sm_eq, sm_eq]
  have e : (k + 1).toNat = k.toNat + 1 := by omega
  have e2 : ((k.toNat : Nat) : Int) = k := by omega
  rw [e]
  show smN f k.toNat + f (k.toNat : Nat) = _
  rw [e2]
/-- what a founder gets of n that are led back -/
noncomputable def lead (p : Int → Int) (n i : Int) : Int := n * p i / 1000000 + (if p i ≠ 0 ∧ cnt (fun j => decide (p j ≠ 0)) i < n - sm (fun j => n * p j / 1000000) 12 then 1 else 0)
theorem cnt_mono (p : Int → Bool) {a : Int} (h0 : 0 ≤ a) : ∀ b, a ≤ b → cnt p a ≤ cnt p b := by
  have : ∀ j : Nat, cnt p a ≤ cnt p (a + j) := by
    intro j
    induction j with
    | zero => simp
    | succ j ih =>
      have e : a + ((j + 1 : Nat) : Int) = (a + j) + 1 := by omega
      rw [e, cnt_s p (by omega)]
      split <;> omega
  intro b hb
  have h := this (b - a).toNat
  have e : a + ((b - a).toNat : Int) = b := by omega
  rw [e] at h
  exact h
section
variable {d : Nat} {m : sg} {Q : mQ sg}
theorem M_leadsBack {f n : Int} {x3 x4 x5 : Option mV} (hf : 0 ≤ f ∧ f < 12) (hn : 0 ≤ n ∧ n ≤ 1000000000) (hp : ∀ k, 0 ≤ k → k < 12 → 0 ≤ m 41 (12 * f + k) ∧ m 41 (12 * f + k) ≤ 1000000)
    (hq : ∀ k, 0 ≤ k → k ≤ 12 → 0 ≤ sm (fun j => n * m 41 (12 * f + j) / 1000000) k ∧ sm (fun j => n * m 41 (12 * f + j) / 1000000) k ≤ n) (hpd : ∀ k, 0 ≤ k → k < 12 → 0 ≤ m 42 k ∧ m 42 k ≤ 100000000000000000)
    (hQ : ∀ m', (∀ j, j ≠ 42 → m' j = m j) → (∀ i, 0 ≤ i → i < 12 → m' 42 i = m 42 i + lead (fun j => m 41 (12 * f + j)) n i) → Q rV m') : RM d 141 (0, [some (mR 1026), some (mI f), some (mI n), x3, x4, x5], [], m) Q := by
  have hqb : ∀ k, 0 ≤ k → k < 12 → 0 ≤ n * m 41 (12 * f + k) ∧ n * m 41 (12 * f + k) ≤ n * 1000000 := by
    intro k h0 h1
    have := hp k h0 h1
    exact ⟨Int.mul_nonneg hn.1 this.1, Int.mul_le_mul_of_nonneg_left this.2 hn.1⟩
  refine RMr [] [1410005] 40 ?_
  refine up_ind (n := 12) (P := fun k => ∀ m' x5 v, v = n - sm (fun j => n * m 41 (12 * f + j) / 1000000) k → (∀ j, j ≠ 42 → m' j = m j) → (∀ i, 0 ≤ i → i < k → m' 42 i = m 42 i + n * m 41 (12 * f + i) / 1000000) → (∀ i, k ≤ i → m' 42 i = m 42 i) → RM d 141 (5, [some (mR 1026), some (mI f), some (mI n), some (mI v), some (mI k), x5], [], m') Q) ?_ ?_ 0 (by omega) (by omega) m x5 n (by rw [sm_0]; omega) (fun _ _ => rfl) (fun i h0 h1 => by omega) (fun _ _ => rfl)
  · intro m1 x5 v hv hfr h1 h2
    clear h2
    have h12 := hq 12 (by omega) (by omega)
    have e41 := hfr 41 (by decide)
    refine RMr [] [1410062] 40 ?_
    repeat' first | (refine ⟨fun _ => ?_, fun _ => ?_⟩ <;> try omega) | (refine ⟨by first | omega | (simp only [upm_ap, upd1_ap, Nat.reduceEqDiff, ↓reduceIte, eq_self] at * <;> omega) | fail, ?_⟩) | (simp only [upm_ap, upd1_ap, Nat.reduceEqDiff, ↓reduceIte, eq_self] at *) | omega | fail
    refine up_ind (n := 12) (P := fun k => ∀ m' w, w = max 0 (v - cnt (fun j => decide (m 41 (12 * f + j) ≠ 0)) k) → (∀ j, j ≠ 42 → m' j = m j) → (∀ i, 0 ≤ i → i < k → m' 42 i = m1 42 i + (if m 41 (12 * f + i) ≠ 0 ∧ cnt (fun j => decide (m 41 (12 * f + j) ≠ 0)) i < v then 1 else 0)) → (∀ i, k ≤ i → m' 42 i = m1 42 i) → RM d 141 (62, [some (mR 1026), some (mI f), some (mI n), some (mI w), some (mI k), x5], [], m') Q) ?_ ?_ 0 (by omega) (by omega) m1 v (by rw [cnt_0]; omega) hfr (fun i h0 h1 => by omega) (fun _ _ => rfl)
    · intro m' w hw hfr' h3 h4
      refine RMr [] [1410062] 40 ?_
      repeat' first | (refine ⟨fun _ => ?_, fun _ => ?_⟩ <;> try omega) | (refine ⟨by first | omega | (simp only [upm_ap, upd1_ap, Nat.reduceEqDiff, ↓reduceIte, eq_self] at * <;> omega) | fail, ?_⟩) | (simp only [upm_ap, upd1_ap, Nat.reduceEqDiff, ↓reduceIte, eq_self] at *) | omega | fail
      refine hQ m' hfr' (fun i hi0 hi1 => ?_)
      rw [h3 i hi0 hi1, h1 i hi0 hi1]
      unfold lead
      rw [← hv, Int.add_assoc]
    · intro k h0 hk ih m' w hw hfr' h3 h4
      have e41' := hfr' 41 (by decide)
      have hs := cnt_s (fun j => decide (m 41 (12 * f + j) ≠ 0)) h0
      have hs1 : m 41 (12 * f + k) ≠ 0 → cnt (fun j => decide (m 41 (12 * f + j) ≠ 0)) (k + 1) = cnt (fun j => decide (m 41 (12 * f + j) ≠ 0)) k + 1 := fun h => by rw [hs]; simp [h]
      have hs2 : m 41 (12 * f + k) = 0 → cnt (fun j => decide (m 41 (12 * f + j) ≠ 0)) (k + 1) = cnt (fun j => decide (m 41 (12 * f + j) ≠ 0)) k := fun h => by rw [hs]; simp [h]
      have h4k := h4 k (by omega)
      have h1k := h1 k h0 hk
      have hqk := hqb k h0 hk
      have hpdk := hpd k h0 hk
      have hdone : v - cnt (fun j => decide (m 41 (12 * f + j) ≠ 0)) k ≤ 0 → Q rV m' := by
        intro hle
        refine hQ m' hfr' (fun i hi0 hi1 => ?_)
        unfold lead
        rw [← hv, ← Int.add_assoc, ← h1 i hi0 hi1]
        by_cases hik : i < k
        · rw [h3 i hi0 hik]
        · rw [h4 i (by omega)]
          have hmo := cnt_mono (fun j => decide (m 41 (12 * f + j) ≠ 0)) h0 i (by omega)
          rw [if_neg (fun hh => by have h9 : cnt (fun j => decide (m 41 (12 * f + j) ≠ 0)) i < v := hh.2; omega)]
          omega
      have hskip : m 41 (12 * f + k) = 0 → RM d 141 (62, [some (mR 1026), some (mI f), some (mI n), some (mI w), some (mI (k + 1)), x5], [], m') Q := by
        intro hz
        refine ih m' w (by rw [hs2 hz, hw]) hfr' (fun i hi0 hi1 => ?_) (fun i hi => h4 i (by omega))
        by_cases hik : i = k
        · subst hik
          rw [h4k, if_neg (fun hh => hh.1 hz)]
          omega
        · exact h3 i hi0 (by omega)
      have hput : m 41 (12 * f + k) ≠ 0 → 0 < w → RM d 141 (62, [some (mR 1026), some (mI f), some (mI n), some (mI (w + -1)), some (mI (k + 1)), x5], [], upm m' 42 k (m' 42 k + 1)) Q := by
        intro hz hwp
        refine ih _ (w + -1) (by rw [hs1 hz, hw]; omega) (fun j hj => by rw [upm_n hj]; exact hfr' j hj) (fun i hi0 hi1 => ?_) (fun i hi => by rw [upm_s, upd1_n (by omega)]; exact h4 i (by omega))
        by_cases hik : i = k
        · subst hik
          rw [upm_s, upd1_s, h4k, if_pos ⟨hz, by omega⟩]
        · rw [upm_s, upd1_n hik]
          exact h3 i hi0 (by omega)
      rw [← e41'] at hskip hput
      clear ih h3 h4 h1 hQ hfr hs hs1 hs2
      have hcb := cnt_b (fun j => decide (m 41 (12 * f + j) ≠ 0)) k h0
      refine RMr [] [1410062] 40 ?_
      repeat' first | (refine ⟨fun _ => ?_, fun _ => ?_⟩ <;> try omega) | (refine ⟨by first | omega | (simp only [upm_ap, upd1_ap, Nat.reduceEqDiff, ↓reduceIte, eq_self] at * <;> omega) | fail, ?_⟩) | (exact hdone (by omega)) | (exact hskip (by omega)) | (exact hput (by omega) (by omega)) | (simp only [upm_ap, upd1_ap, Nat.reduceEqDiff, ↓reduceIte, eq_self] at *) | omega | fail
  · intro k h0 hk ih m' x5 v hv hfr h1 h2
    have e41 := hfr 41 (by decide)
    have hs := sm_s (fun j => n * m 41 (12 * f + j) / 1000000) h0
    have hqk := hqb k h0 hk
    have hq1 := hq k h0 (by omega)
    have hq2 := hq (k + 1) (by omega) (by omega)
    have h2k := h2 k (by omega)
    have hpk := hp k h0 hk
    have hpdk := hpd k h0 hk
    have fin : RM d 141 (5, [some (mR 1026), some (mI f), some (mI n), some (mI (v - n * m' 41 (12 * f + k) / 1000000)), some (mI (k + 1)), some (mI (n * m' 41 (12 * f + k) / 1000000))], [], upm m' 42 k (m' 42 k + n * m' 41 (12 * f + k) / 1000000)) Q := by
      refine ih _ _ _ ?_ (fun j hj => by rw [upm_n hj]; exact hfr j hj) (fun i hi0 hi1 => ?_) (fun i hi => by rw [upm_s, upd1_n (by omega)]; exact h2 i (by omega))
      · rw [hs, hv, e41]; omega
      · by_cases hik : i = k
        · subst hik
          rw [upm_s, upd1_s, h2k, e41]
        · rw [upm_s, upd1_n hik]
          exact h1 i hi0 (by omega)
    rw [← e41] at hqk hpk
    have hdiv : n * m' 41 (12 * f + k) / 1000000 ≤ n := by omega
    have hsub : v - n * m' 41 (12 * f + k) / 1000000 = n - sm (fun j => n * m 41 (12 * f + j) / 1000000) (k + 1) := by rw [hs, hv, e41]; omega
    clear ih h1 h2 hQ hs
    refine RMr [] [1410005] 40 ?_
    repeat' first | (refine ⟨fun _ => ?_, fun _ => ?_⟩ <;> try omega) | (refine ⟨by first | omega | (simp only [upm_ap, upd1_ap, Nat.reduceEqDiff, ↓reduceIte, eq_self] at * <;> omega) | fail, ?_⟩) | (exact fin) | (simp only [upm_ap, upd1_ap, Nat.reduceEqDiff, ↓reduceIte, eq_self] at *) | omega | fail
theorem M_pays {f e year n : Int} (hf : 0 ≤ f ∧ f < 12) (hn : 0 ≤ n ∧ n ≤ 1000000000) (hp : ∀ k, 0 ≤ k → k < 12 → 0 ≤ m 41 (12 * f + k) ∧ m 41 (12 * f + k) ≤ 1000000)
    (hq : ∀ k, 0 ≤ k → k ≤ 12 → 0 ≤ sm (fun j => n * m 41 (12 * f + j) / 1000000) k ∧ sm (fun j => n * m 41 (12 * f + j) / 1000000) k ≤ n) (hpd : ∀ k, 0 ≤ k → k < 12 → 0 ≤ m 42 k ∧ m 42 k ≤ 100000000000000000) (hcn : 0 ≤ m 35 f ∧ m 35 f ≤ 1000000000000000) (hen : 0 ≤ m 51 0 ∧ m 51 0 ≤ 600)
    (h0 : n = 0 → Q rV m)
    (h1 : n ≠ 0 → ∀ m', (∀ j, j ≠ 35 → j ≠ 42 → j ≠ 51 → j ≠ 52 → m' j = m j) → m' 35 = upd1 (m 35) f (m 35 f - n) → (∀ i, 0 ≤ i → i < 12 → m' 42 i = m 42 i + lead (fun j => m 41 (12 * f + j)) n i) →
      (m 51 0 = 600 → m' 51 = m 51 ∧ m' 52 = m 52) → (m 51 0 < 600 → m' 51 0 = m 51 0 + 1 ∧ m' 52 = upd1 (upd1 (upd1 (upd1 (m 52) (4 * m 51 0) year) (4 * m 51 0 + 1) f) (4 * m 51 0 + 2) e) (4 * m 51 0 + 3) n) → Q rV m') : RM (d + 1) 140 (0, [some (mR 1026), some (mI f), some (mI e), some (mI year), some (mI n)], [], m) Q := by
  by_cases hz : n = 0
  · have h0 := h0 hz
    refine RMr [] [] 100 ?_
    repeat' first | (refine ⟨fun _ => ?_, fun _ => ?_⟩ <;> try omega) | (refine ⟨by first | omega | (simp only [upm_ap, upd1_ap, Nat.reduceEqDiff, ↓reduceIte, eq_self] at * <;> omega) | fail, ?_⟩) | (exact h0) | (simp only [upm_ap, upd1_ap, Nat.reduceEqDiff, ↓reduceIte, eq_self] at *) | omega | fail
  · have h1 := h1 hz
    clear h0
    refine RMr [] [] 100 ?_
    refine ⟨fun _ => ?_, fun h => absurd h hz⟩
    refine ⟨by omega, by omega, by omega, ?_⟩
    refine M_leadsBack (m := upm m 35 f (m 35 f - n)) hf hn hp hq hpd (fun m' hfr h42 => ?_)
    have e51 : m' 51 = m 51 := hfr 51 (by decide)
    have e52 : m' 52 = m 52 := hfr 52 (by decide)
    have e35 : m' 35 = upd1 (m 35) f (m 35 f - n) := hfr 35 (by decide)
    have efr : ∀ j, j ≠ 35 → j ≠ 42 → m' j = m j := fun j h35 h42 => by rw [hfr j h42, upm_n h35]
    by_cases h6 : m 51 0 = 600
    · have fin := h1 m' (fun j a b c e => efr j a b) e35 h42 (fun _ => ⟨e51, e52⟩) (fun h => by omega)
      rw [← e51] at h6
      repeat' first | (refine ⟨fun _ => ?_, fun _ => ?_⟩ <;> try omega) | (refine ⟨by first | omega | (simp only [upm_ap, upd1_ap, Nat.reduceEqDiff, ↓reduceIte, eq_self] at * <;> omega) | fail, ?_⟩) | (exact fin) | (simp only [upm_ap, upd1_ap, Nat.reduceEqDiff, ↓reduceIte, eq_self] at *) | omega | fail
    · rw [← e51] at h6 hen
      have fin := fun m2 a b c d => h1 m2 a b c (fun h => absurd h (by rw [← e51]; exact h6)) d
      clear h1
      repeat' first | (refine ⟨fun _ => ?_, fun _ => ?_⟩ <;> try omega) | (refine ⟨by first | omega | (simp only [upm_ap, upd1_ap, Nat.reduceEqDiff, ↓reduceIte, eq_self] at * <;> omega) | fail, ?_⟩) | (simp only [upm_ap, upd1_ap, Nat.reduceEqDiff, ↓reduceIte, eq_self] at *) | omega | fail
      refine fin _ (fun j a b c e => ?_) ?_ (fun i hi0 hi1 => ?_) (fun _ => ⟨?_, ?_⟩)
      · rw [upm_n c, upm_n e, upm_n e, upm_n e, upm_n e]; exact efr j a b
      · exact e35
      · exact h42 i hi0 hi1
      · rw [upm_s, upd1_s]
        show m' 51 0 + 1 = _
        rw [e51]
      · rw [← e51, ← e52]
        rfl
end
