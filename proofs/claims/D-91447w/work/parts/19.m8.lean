/-! the Model: marks, near ends, accounts, the tape, groups that are asked -/
set_option maxHeartbeats 400000
section
variable {d : Nat} {m : sg} {Q : mQ sg}
theorem M_marks {f k what : Int} {x4 : Option mV} (hn : m 32 0 ≤ 12) (hk : m 49 0 ≤ 12) 
    (h1 : 0 ≤ f → f < m 32 0 → 0 ≤ k → k < m 49 0 → what = 0 → Q (rI (pop (zand (m 36 f) (m 50 k)))) (upm m 0 0 0))
    (h2 : 0 ≤ f → f < m 32 0 → 0 ≤ k → k < m 49 0 → what = 1 → Q (rI (pop (zand (m 36 f) (zxor (m 50 k) (-1))))) (upm m 0 0 0))
    (h0 : ¬ ((0 ≤ f ∧ f < m 32 0) ∧ (0 ≤ k ∧ k < m 49 0) ∧ 0 ≤ what ∧ what ≤ 1) → Q (rI (-1)) (upm m 0 0 0)) : RM (d + 1) 167 (0, [some (mR 1026), some (mI f), some (mI k), some (mI what), x4], [], m) Q := by
  refine RMr [] [] 200 ?_
  repeat' first | (refine ⟨fun _ => ?_, fun _ => ?_⟩ <;> try omega) | (refine ⟨by first | omega | (simp only [upm_ap, upd1_ap, Nat.reduceEqDiff, ↓reduceIte, eq_self] at * <;> omega) | fail, ?_⟩) | (refine M_isFund (m := upm m 0 0 0) (fun _ _ => ?_) (fun _ => ?_)) | (refine M_within (fun _ _ => ?_) (fun _ => ?_)) | (refine M_size ?_) | (exact h0 (by omega)) | (exact h1 (by omega) (by omega) (by omega) (by omega) (by omega)) | (exact h2 (by omega) (by omega) (by omega) (by omega) (by omega)) | (simp only [upm_ap, upd1_ap, Nat.reduceEqDiff, ↓reduceIte, eq_self] at *) | omega | fail
theorem M_marksLeft {s : Int} {x2 : Option mV} (hs : 0 ≤ s ∧ s < 40) (hf : 0 ≤ m 55 s ∧ m 55 s < 12) (hx : m 54 s = 0 ∨ m 54 s = 1 → 0 ≤ m 56 s ∧ m 56 s < 12)
    (h0 : m 54 s = 0 → Q (rI (pop (zand (m 36 (m 55 s)) (m 50 (m 56 s))))) m) (h1 : m 54 s = 1 → Q (rI (pop (zand (m 36 (m 55 s)) (m 36 (m 56 s))))) m) (h2 : m 54 s ≠ 0 → m 54 s ≠ 1 → Q (rI 12) m) : RM (d + 1) 159 (0, [some (mR 1026), some (mI s), x2], [], m) Q := by
  by_cases ha : m 54 s = 0 ∨ m 54 s = 1
  · have hx := hx ha
    refine RMr [] [] 200 ?_
    repeat' first | (refine ⟨fun _ => ?_, fun _ => ?_⟩ <;> try omega) | (refine ⟨by first | omega | (simp only [upm_ap, upd1_ap, Nat.reduceEqDiff, ↓reduceIte, eq_self] at * <;> omega) | fail, ?_⟩) | (refine M_size ?_) | (exact h0 (by omega)) | (exact h1 (by omega)) | (exact h2 (by omega) (by omega)) | (simp only [upm_ap, upd1_ap, Nat.reduceEqDiff, ↓reduceIte, eq_self] at *) | omega | fail
  · refine RMr [] [] 200 ?_
    repeat' first | (refine ⟨fun _ => ?_, fun _ => ?_⟩ <;> try omega) | (refine ⟨by first | omega | (simp only [upm_ap, upd1_ap, Nat.reduceEqDiff, ↓reduceIte, eq_self] at * <;> omega) | fail, ?_⟩) | (exact h2 (by omega) (by omega)) | (simp only [upm_ap, upd1_ap, Nat.reduceEqDiff, ↓reduceIte, eq_self] at *) | omega | fail
/-- the first of the greatest above a floor -/
def nbest (g : Int → Int) (most0 : Int) : Nat → Int × Int
  | 0 => (-1, most0)
  | n + 1 => if g n ≤ (nbest g most0 n).2 then nbest g most0 n else ((n : Int), g n)
theorem nbest_s (g : Int → Int) (m0 : Int) {k : Int} (h : 0 ≤ k) : nbest g m0 (k + 1).toNat = if g k ≤ (nbest g m0 k.toNat).2 then nbest g m0 k.toNat else (k, g k) := by
  have e : (k + 1).toNat = k.toNat + 1 := by omega
  have e2 : ((k.toNat : Nat) : Int) = k := by omega
  rw [e]
  show (if g (k.toNat : Nat) ≤ _ then _ else (((k.toNat : Nat) : Int), g (k.toNat : Nat))) = _
  rw [e2]
theorem M_nearest {f : Int} {x2 x3 x4 x5 : Option mV} (hn : m 32 0 ≤ 12) (hk : 0 ≤ m 49 0 ∧ m 49 0 ≤ 12) (ha : 0 ≤ m 27 0 ∧ m 27 0 ≤ 20) (hm : ∀ a, 0 ≤ a → a < m 27 0 → 0 ≤ m 6 a ∧ m 6 a ≤ 20) (hi : 0 ≤ tOf m (aOn m (m 1 0)) 1 ∧ tOf m (aOn m (m 1 0)) 1 ≤ 1000)
    (h1 : 0 ≤ f → f < m 32 0 → m 37 f = -1 → Q (rI (nbest (fun k => pop (zand (m 36 f) (m 50 k))) (tOf m (aOn m (m 1 0)) 1 - 1) (m 49 0).toNat).1) (upm m 0 0 0))
    (h0 : ¬ (0 ≤ f ∧ f < m 32 0 ∧ m 37 f = -1) → Q (rI (-1)) (upm m 0 0 0)) : RM (d + 2) 166 (0, [some (mR 1026), some (mI f), x2, x3, x4, x5], [], m) Q := by
  by_cases hc : 0 ≤ f ∧ f < m 32 0 ∧ m 37 f = -1
  · have h1 := h1 hc.1 hc.2.1 hc.2.2
    clear h0
    generalize hG : (fun k => pop (zand (m 36 f) (m 50 k))) = G at h1
    have hG' : ∀ k, pop (zand (m 36 f) (m 50 k)) = G k := fun k => by rw [← hG]
    have key : ∀ k, 0 ≤ k → k ≤ m 49 0 → ∀ b w x5, (b, w) = nbest G (tOf m (aOn m (m 1 0)) 1 - 1) k.toNat → RM (d + 2) 166 (32, [some (mR 1026), some (mI f), some (mI b), some (mI w), some (mI k), x5], [], upm m 0 0 0) Q := by
      refine up_ind ?_ ?_
      · intro b w x5 hb
        rw [← hb] at h1
        refine RMr [] [1660032] 200 ?_
        repeat' first | (refine ⟨fun _ => ?_, fun _ => ?_⟩ <;> try omega) | (refine ⟨by first | omega | (simp only [upm_ap, upd1_ap, Nat.reduceEqDiff, ↓reduceIte, eq_self] at * <;> omega) | fail, ?_⟩) | (exact h1) | (simp only [upm_ap, upd1_ap, Nat.reduceEqDiff, ↓reduceIte, eq_self] at *) | omega | fail
      · intro k h0 hk2 ih b w x5 hb
        have hs := nbest_s G (tOf m (aOn m (m 1 0)) 1 - 1) h0
        rw [← hb] at hs
        have hgk := hG' k
        have f1 : G k ≤ w → RM (d + 2) 166 (32, [some (mR 1026), some (mI f), some (mI b), some (mI w), some (mI (k + 1)), some (mI (G k))], [], upm m 0 0 0) Q := fun h => ih b w _ (by rw [hs, if_pos h])
        have f2 : ¬ G k ≤ w → RM (d + 2) 166 (32, [some (mR 1026), some (mI f), some (mI k), some (mI (G k)), some (mI (k + 1)), some (mI (G k))], [], upm m 0 0 0) Q := fun h => ih k (G k) _ (by rw [hs, if_neg h])
        clear ih hs hG'
        rw [← hgk] at f1 f2
        refine RMr [] [1660032] 200 ?_
        repeat' first | (refine ⟨fun _ => ?_, fun _ => ?_⟩ <;> try omega) | (refine ⟨by first | omega | (simp only [upm_ap, upd1_ap, Nat.reduceEqDiff, ↓reduceIte, eq_self] at * <;> omega) | fail, ?_⟩) | (refine M_size ?_) | (exact f1 (by omega)) | (exact f2 (by omega)) | (simp only [upm_ap, upd1_ap, Nat.reduceEqDiff, ↓reduceIte, eq_self] at *) | omega | fail
    refine RMr [] [1660032] 200 ?_
    repeat' first | (refine ⟨fun _ => ?_, fun _ => ?_⟩ <;> try omega) | (refine ⟨by first | omega | (simp only [upm_ap, upd1_ap, Nat.reduceEqDiff, ↓reduceIte, eq_self] at * <;> omega) | fail, ?_⟩) | (refine M_isFree (m := upm m 0 0 0) hn (fun _ _ _ => ?_) (fun _ => ?_)) | (refine M_toldOnE (m := upm m 0 0 0) ha hm (v := tOf m (aOn m (m 1 0)) 1) rfl ?_) | (exact key 0 (by omega) (by omega) _ _ _ rfl) | (simp only [upm_ap, upd1_ap, Nat.reduceEqDiff, ↓reduceIte, eq_self] at *) | omega | fail
  · refine RMr [] [1660032] 200 ?_
    repeat' first | (refine ⟨fun _ => ?_, fun _ => ?_⟩ <;> try omega) | (refine ⟨by first | omega | (simp only [upm_ap, upd1_ap, Nat.reduceEqDiff, ↓reduceIte, eq_self] at * <;> omega) | fail, ?_⟩) | (refine M_isFree (m := upm m 0 0 0) hn (fun _ _ _ => ?_) (fun _ => ?_)) | (exact h0 (by omega)) | (simp only [upm_ap, upd1_ap, Nat.reduceEqDiff, ↓reduceIte, eq_self] at *) | omega | fail
theorem M_account {f year : Int} {x3 : Option mV} (hn : 0 ≤ m 32 0 ∧ m 32 0 ≤ 12) (hd : 0 ≤ m 1 0 ∧ m 1 0 ≤ 36000) (hac : 0 ≤ m 70 0 ∧ m 70 0 ≤ 200) (ha : 0 ≤ m 27 0 ∧ m 27 0 ≤ 20) (hm : ∀ a, 0 ≤ a → a < m 27 0 → 0 ≤ m 6 a ∧ m 6 a ≤ 20) (hi : ∀ day, 0 ≤ tOf m (aOn m day) 3 ∧ tOf m (aOn m day) 3 ≤ 1000)
    (h1 : 0 ≤ f → f < m 32 0 → 0 ≤ year → year ≤ 100 → 360 * (year + 1) ≤ m 1 0 → m 71 (101 * f + year) = 0 → m 70 0 < 200 → Q (rI (max 0 (m 1 0 - (360 * year + 359) - tOf m (aOn m (360 * year + 359)) 3))) (upm (upm (upm m 0 0 0) 71 (101 * f + year) 1) 70 0 (m 70 0 + 1)))
    (h0 : ¬ ((0 ≤ f ∧ f < m 32 0) ∧ (0 ≤ year ∧ year ≤ 100) ∧ 360 * (year + 1) ≤ m 1 0 ∧ m 71 (101 * f + year) = 0 ∧ m 70 0 < 200) → Q (rI (-1)) (upm m 0 0 0)) : RM (d + 2) 177 (0, [some (mR 1026), some (mI f), some (mI year), x3], [], m) Q := by
  have hi := hi (360 * year + 359)
  refine RMr [] [] 200 ?_
  repeat' first | (refine ⟨fun _ => ?_, fun _ => ?_⟩ <;> try omega) | (refine ⟨by first | omega | (simp only [upm_ap, upd1_ap, Nat.reduceEqDiff, ↓reduceIte, eq_self] at * <;> omega) | fail, ?_⟩) | (refine M_isFund (m := upm m 0 0 0) (fun _ _ => ?_) (fun _ => ?_)) | (refine M_isYear (fun _ _ => ?_) (fun _ => ?_)) | (refine M_toldOnE (m := upm (upm (upm m 0 0 0) 71 (101 * f + year) 1) 70 0 (m 70 0 + 1)) ha hm (v := tOf m (aOn m (360 * year + 359)) 3) rfl ?_) | (exact h0 (by omega)) | (exact h1 (by omega) (by omega) (by omega) (by omega) (by omega) (by omega) (by omega)) | (simp only [upm_ap, upd1_ap, Nat.reduceEqDiff, ↓reduceIte, eq_self] at *) | omega | fail
theorem M_addEnd {f text row how failed died : Int} {x7 : Option mV} (hf : 0 ≤ f ∧ f < 12) (hn : 0 ≤ m 43 f ∧ m 43 f < 80)
    (hQ : Q rV (upm (upm (upm (upm (upm (upm m 44 (80 * f + m 43 f) text) 45 (80 * f + m 43 f) row) 46 (80 * f + m 43 f) how) 47 (80 * f + m 43 f) failed) 48 (80 * f + m 43 f) died) 43 f (m 43 f + 1))) : RM d 123 (0, [some (mR 1026), some (mI f), some (mI text), some (mI row), some (mI how), some (mI failed), some (mI died), x7], [], m) Q := by
  refine RMr [] [] 200 ?_
  repeat' first | (refine ⟨fun _ => ?_, fun _ => ?_⟩ <;> try omega) | (refine ⟨by first | omega | (simp only [upm_ap, upd1_ap, Nat.reduceEqDiff, ↓reduceIte, eq_self] at * <;> omega) | fail, ?_⟩) | (exact hQ) | (simp only [upm_ap, upd1_ap, Nat.reduceEqDiff, ↓reduceIte, eq_self] at *) | omega | fail
/-- a byte of five words -/
def fbyte (a b c d e k : Int) : Int := zi2b (zshr (if k < 4 then a else if k < 8 then b else if k < 12 then c else if k < 16 then d else e) (24 - 8 * (k % 4)))
theorem zi2b_r (x : Int) : -128 ≤ zi2b x ∧ zi2b x ≤ 127 := by unfold zi2b; omega
theorem zi2b_i {x : Int} (h : -128 ≤ x ∧ x ≤ 127) : zi2b x = x := by unfold zi2b; omega
theorem M_feed {a b c d' e : Int} {x6 x7 : Option mV} (ht : 0 ≤ m 14 0 ∧ m 14 0 ≤ 400)
    (h0 : 400 < m 14 0 + 20 → Q (rI (-1)) (upm m 0 0 0))
    (h1 : m 14 0 + 20 ≤ 400 → ∀ m', (∀ j, j ≠ 0 → j ≠ 13 → j ≠ 14 → m' j = m j) → m' 14 0 = m 14 0 + 20 → (∀ k, 0 ≤ k → k < 20 → m' 13 (m 14 0 + k) = fbyte a b c d' e k) → (∀ i, i < m 14 0 → m' 13 i = m 13 i) → m' 0 0 = 0 → Q (rI (m 14 0 + 20)) m') : RM d 85 (0, [some (mR 1026), some (mI a), some (mI b), some (mI c), some (mI d'), some (mI e), x6, x7], [], m) Q := by
  by_cases hc : m 14 0 + 20 ≤ 400
  · have h1 := h1 hc
    clear h0
    have key : ∀ k, 0 ≤ k → k ≤ 20 → ∀ m' x7, (∀ j, j ≠ 0 → j ≠ 13 → j ≠ 14 → m' j = m j) → m' 14 0 = m 14 0 + k → (∀ i, 0 ≤ i → i < k → m' 13 (m 14 0 + i) = fbyte a b c d' e i) → (∀ i, i < m 14 0 → m' 13 i = m 13 i) → m' 0 0 = 0 → RM d 85 (23, [some (mR 1026), some (mI a), some (mI b), some (mI c), some (mI d'), some (mI e), some (mI k), x7], [], m') Q := by
      refine up_ind ?_ ?_
      · intro m' x7 hfr h14 hb hold h00
        have fin := h1 m' hfr h14 hb hold h00
        rw [← h14] at fin
        refine RMr [] [850023] 200 ?_
        repeat' first | (refine ⟨fun _ => ?_, fun _ => ?_⟩ <;> try omega) | (refine ⟨by first | omega | (simp only [upm_ap, upd1_ap, Nat.reduceEqDiff, ↓reduceIte, eq_self] at * <;> omega) | fail, ?_⟩) | (exact fin) | (simp only [upm_ap, upd1_ap, Nat.reduceEqDiff, ↓reduceIte, eq_self] at *) | omega | fail
      · intro k hk0 hk1 ih m' x7 hfr h14 hb hold h00
        have fin : ∀ w, zi2b (zi2b (zshr w (24 - 8 * (k % 4)))) = fbyte a b c d' e k → RM d 85 (23, [some (mR 1026), some (mI a), some (mI b), some (mI c), some (mI d'), some (mI e), some (mI (k + 1)), some (mI w)], [], upm (upm m' 13 (m' 14 0) (zi2b (zi2b (zshr w (24 - 8 * (k % 4)))))) 14 0 (m' 14 0 + 1)) Q := by
          intro w hw
          refine ih _ _ (fun j a b c => by rw [upm_n c, upm_n b]; exact hfr j a b c) (by rw [upm_s, upd1_s]; omega) (fun i h0 h1 => ?_) (fun i h => ?_) h00
          · rw [upm_n (by decide), upm_s]
            by_cases hik : i = k
            · rw [hik, h14, upd1_s, hw]
            · rw [h14, upd1_n (by omega)]
              exact hb i h0 (by omega)
          · rw [upm_n (by decide), upm_s, h14, upd1_n (by omega)]
            exact hold i h
        have fin2 : ∀ w, (w = if k < 4 then a else if k < 8 then b else if k < 12 then c else if k < 16 then d' else e) → RM d 85 (23, [some (mR 1026), some (mI a), some (mI b), some (mI c), some (mI d'), some (mI e), some (mI (k + 1)), some (mI w)], [], upm (upm m' 13 (m' 14 0) (zi2b (zi2b (zshr w (24 - 8 * (k % 4)))))) 14 0 (m' 14 0 + 1)) Q := by
          intro w hw
          refine fin w ?_
          unfold fbyte
          rw [← hw]
          exact zi2b_i (zi2b_r _)
        clear fin ih hb hold hfr
        refine RMr [] [850023] 200 ?_
        repeat' first | (refine ⟨fun _ => ?_, fun _ => ?_⟩ <;> try omega) | (refine ⟨by first | omega | (simp only [upm_ap, upd1_ap, Nat.reduceEqDiff, ↓reduceIte, eq_self] at * <;> omega) | fail, ?_⟩) | (exact fin2 _ (by first | (rw [if_pos (by omega)]) | (rw [if_neg (by omega), if_pos (by omega)]) | (rw [if_neg (by omega), if_neg (by omega), if_pos (by omega)]) | (rw [if_neg (by omega), if_neg (by omega), if_neg (by omega), if_pos (by omega)]) | (rw [if_neg (by omega), if_neg (by omega), if_neg (by omega), if_neg (by omega)]) | fail)) | (simp only [upm_ap, upd1_ap, Nat.reduceEqDiff, ↓reduceIte, eq_self] at *) | omega | fail
    refine RMr [] [850023] 200 ?_
    repeat' first | (refine ⟨fun _ => ?_, fun _ => ?_⟩ <;> try omega) | (refine ⟨by first | omega | (simp only [upm_ap, upd1_ap, Nat.reduceEqDiff, ↓reduceIte, eq_self] at * <;> omega) | fail, ?_⟩) | (simp only [upm_ap, upd1_ap, Nat.reduceEqDiff, ↓reduceIte, eq_self] at *) | omega | fail
    exact key 0 (by omega) (by omega) _ _ (fun j a b c => upm_n a) (by show m 14 0 = _; omega) (fun i h0 h1 => by omega) (fun i h => rfl) (by rw [upm_s, upd1_s])
  · refine RMr [] [] 200 ?_
    repeat' first | (refine ⟨fun _ => ?_, fun _ => ?_⟩ <;> try omega) | (refine ⟨by first | omega | (simp only [upm_ap, upd1_ap, Nat.reduceEqDiff, ↓reduceIte, eq_self] at * <;> omega) | fail, ?_⟩) | (exact h0 (by omega)) | (simp only [upm_ap, upd1_ap, Nat.reduceEqDiff, ↓reduceIte, eq_self] at *) | omega | fail
end
