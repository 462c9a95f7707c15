/-! THE MODEL READS: small methods -/
set_option maxHeartbeats 1600000
set_option maxRecDepth 100000
theorem mh_in : ∀ {l : List Nat} {j : Nat}, m_has l j = true → j ∈ l
  | [], _, h => by cases h
  | a :: r, j, h => by
    unfold m_has at h
    cases e : Nat.beq a j with
    | true => rw [Nat.eq_of_beq_eq_true e]; exact List.mem_cons_self
    | false => rw [e] at h; exact List.mem_cons_of_mem _ (mh_in h)
/-- what reading a sum or a condition leaves -/
def frX (m m' : sg) : Prop := (∀ j, m_has [4, 5, 15, 16, 17, 18, 19, 20, 22] j = false → m' j = m j) ∧ (∀ i, i < 18480 → m' 4 i = m 4 i) ∧ (∀ i, i ≠ 44 → m' 5 i = m 5 i)
theorem frX.rfl {m : sg} : frX m m := ⟨fun _ _ => Eq.refl _, fun _ _ => Eq.refl _, fun _ _ => Eq.refl _⟩
theorem frX.up {m m' : sg} (h : frX m m') {j : Nat} (hj : m_has [15, 16, 17, 18, 19, 20, 22] j = true) {i v : Int} : frX m (upm m' j i v) := by
  have hm : j ∈ [15, 16, 17, 18, 19, 20, 22] := mh_in hj
  have h45 : (4 : Nat) ≠ j ∧ (5 : Nat) ≠ j := by
    have : ∀ j ∈ [15, 16, 17, 18, 19, 20, 22], (4 : Nat) ≠ j ∧ (5 : Nat) ≠ j := by decide
    exact this j hm
  refine ⟨fun k hk => ?_, fun k hk => by rw [upm_n h45.1]; exact h.2.1 k hk, fun k hk => by rw [upm_n h45.2]; exact h.2.2 k hk⟩
  rw [upm_n (fun e => ?_)]
  · exact h.1 k hk
  · subst e
    have : ∀ j ∈ [15, 16, 17, 18, 19, 20, 22], m_has [4, 5, 15, 16, 17, 18, 19, 20, 22] j = true := by decide
    rw [this _ hm] at hk
    cases hk
theorem frX.fr4 {m m' m'' : sg} (h : frX m m') (h4 : fr4 m' m'') : frX m m'' := by
  refine ⟨fun k hk => ?_, fun k hk => ?_, fun k hk => ?_⟩
  · rw [h4 k (fun e => by subst e; cases hk) (fun e => by subst e; cases hk) (fun e => by subst e; cases hk) (fun e => by subst e; cases hk)]
    exact h.1 k hk
  · rw [h4 4 (by decide) (by decide) (by decide) (by decide)]; exact h.2.1 k hk
  · rw [h4 5 (by decide) (by decide) (by decide) (by decide)]; exact h.2.2 k hk
/-- the Model at a token, having written pre -/
def MP (t : Int → Int) (n : Int) (nm : Nat) (q o : Int) (pre : List Int) (m : sg) : Prop := (m 13 = t ∧ m 14 0 = n ∧ MT t n m q) ∧ (m 19 0 = 0 ∧ m 22 0 = o ∧ m 23 0 = (if nm = 13 then 1 else 0) ∧ (nm = 13 ∨ nm = 10)) ∧ (m 5 44 = pre.length ∧ ∀ i : Nat, i < pre.length → m 4 (18480 + i) = pre.getD i 0) ∧ (0 ≤ q ∧ q ≤ n ∧ n ≤ 400) ∧ (0 ≤ o ∧ o ≤ 4)
/-- a fault is told -/
def FT (m0 : sg) (k p o : Int) (m : sg) : Prop := frX m0 m ∧ (m 19 0 = k ∧ (1 ≤ k ∧ k ≤ 4) ∧ m 20 0 = p) ∧ (o - 1 ≤ m 22 0 ∧ m 22 0 ≤ o)
theorem FT.x {m0 m : sg} {k p o : Int} (h : FT m0 k p o m) : m 19 0 ≠ 0 := by have := h.2.1; omega
/-- a bracket's count afterwards -/
theorem FT.dn {m0 m : sg} {k p o : Int} (h : FT m0 k p (o + 1) m) : FT m0 k p o (upm m 22 0 (m 22 0 - 1)) := ⟨h.1.up (by decide), ⟨by rw [upm_n (by decide)]; exact h.2.1.1, h.2.1.2.1, by rw [upm_n (by decide)]; exact h.2.1.2.2⟩, by rw [upm_s, upd1_s]; have := h.2.2; omega⟩
theorem FT.dn2 {m0 m : sg} {k p o : Int} (h : FT m0 k p o m) (e : m 22 0 = o) : FT m0 k p o (upm m 22 0 (m 22 0 - 1)) := ⟨h.1.up (by decide), ⟨by rw [upm_n (by decide)]; exact h.2.1.1, h.2.1.2.1, by rw [upm_n (by decide)]; exact h.2.1.2.2⟩, by rw [upm_s, upd1_s]; omega⟩
theorem sgn_iff {t : Int → Int} {n q c : Int} (hc : (c < 48 ∨ 57 < c) ∧ (c < 97 ∨ 122 < c) ∧ c ≠ 0) : isWb t n q [c] = true ↔ srt t n q = 4 ∧ t q = c := by
  rw [isWb_iff]
  constructor
  · intro ⟨h1, h2⟩
    have h2 := h2 0 (by show 0 < 1; decide)
    rw [show q + ((0 : Nat) : Int) = q by omega] at h2
    have h2 : byt t n q = c := h2
    have hlt : q < n := by
      unfold byt at h2
      by_cases h : q < n
      · exact h
      · rw [if_neg h] at h2; omega
    have e : t q = c := by unfold byt at h2; rw [if_pos hlt] at h2; exact h2
    refine ⟨?_, e⟩
    unfold srt
    rw [if_neg (by omega), if_neg (fun h => by have := of_decide_eq_true h; omega), if_neg (fun h => by have := of_decide_eq_true h; omega)]
  · intro ⟨h1, h2⟩
    unfold srt at h1
    by_cases c1 : n ≤ q
    · rw [if_pos c1] at h1; omega
    · rw [if_neg c1] at h1
      by_cases c2 : sml t n q = true
      · rw [if_pos c2] at h1; omega
      · rw [if_neg c2] at h1
        by_cases c3 : dgt t n q = true
        · rw [if_pos c3] at h1
          split at h1 <;> omega
        · have hk : tke t n q = q + 1 := by unfold tke; rw [if_neg c2, if_neg c3, if_pos (by omega)]
          refine ⟨by rw [hk]; show q + 1 - q = ((1 : Nat) : Int); omega, fun i hi => ?_⟩
          have hi : i < 1 := hi
          have : i = 0 := by omega
          subst this
          rw [show q + ((0 : Nat) : Int) = q by omega]
          show byt t n q = c
          unfold byt
          rw [if_pos (by omega)]
          exact h2
/-- a word of letters -/
theorem wrd_srt {t : Int → Int} {n q : Int} {w : List Int} (h : isWb t n q w = true) (hw : 97 ≤ w.getD 0 0 ∧ w.getD 0 0 ≤ 122) : srt t n q = 3 := by
  have hl : 0 < w.length := by
    cases w with
    | nil => exact absurd hw.1 (by decide)
    | cons a r => exact Nat.succ_pos _
  have h2 := (isWb_iff.mp h).2 0 hl
  rw [show q + ((0 : Nat) : Int) = q by omega] at h2
  have hs : sml t n q = true := decide_eq_true (by rw [h2]; exact hw)
  unfold srt
  rw [if_neg (by have := (sml_lt hs).1; omega), if_pos hs]
section
variable {d : Nat} {m m0 : sg} {Q : mQ sg} {t : Int → Int} {n : Int} {nm : Nat} {q o : Int} {pre : List Int}
theorem M_isWell (h1 : m 19 0 = 0 → Q (rI 1) m) (h0 : m 19 0 ≠ 0 → Q (rI 0) m) : RM d 94 (0, [some (mR 1026)], [], m) Q := by
  refine RMr [] [] 40 ?_
  repeat' first | (refine ⟨fun _ => ?_, fun _ => ?_⟩ <;> try omega) | (refine ⟨by first | omega | (simp only [upm_ap, upd1_ap, Nat.reduceEqDiff, ↓reduceIte, eq_self] at * <;> omega) | fail, ?_⟩) | (exact h1 (by omega)) | (exact h0 (by omega)) | (simp only [upm_ap, upd1_ap, Nat.reduceEqDiff, ↓reduceIte, eq_self] at *) | omega | fail
theorem M_fails {k : Int} (h1 : m 19 0 = 0 → Q rV (upm (upm m 19 0 k) 20 0 (m 16 0))) (h0 : m 19 0 ≠ 0 → Q rV m) : RM d 98 (0, [some (mR 1026), some (mI k)], [], m) Q := by
  refine RMr [] [] 40 ?_
  repeat' first | (refine ⟨fun _ => ?_, fun _ => ?_⟩ <;> try omega) | (refine ⟨by first | omega | (simp only [upm_ap, upd1_ap, Nat.reduceEqDiff, ↓reduceIte, eq_self] at * <;> omega) | fail, ?_⟩) | (exact h1 (by omega)) | (exact h0 (by omega)) | (simp only [upm_ap, upd1_ap, Nat.reduceEqDiff, ↓reduceIte, eq_self] at *) | omega | fail
theorem P_fail {k : Int} (hP : MP t n nm q o pre m) (hF : frX m0 m) (hk : 1 ≤ k ∧ k ≤ 4) (hQ : ∀ m', FT m0 k q o m' → m' 22 0 = o → Q rV m') : RM d 98 (0, [some (mR 1026), some (mI k)], [], m) Q := by
  refine M_fails (fun _ => ?_) (fun h => absurd hP.2.1.1 h)
  have e : (upm (upm m 19 0 k) 20 0 (m 16 0)) 22 0 = o := by rw [upm_n (by decide), upm_n (by decide)]; exact hP.2.1.2.1
  refine hQ _ ⟨(hF.up (by decide)).up (by decide), ⟨by rw [upm_n (by decide), upm_s, upd1_s], hk, ?_⟩, by omega⟩ e
  rw [upm_s, upd1_s]
  exact hP.1.2.2.1
theorem P_next {x1 : Option mV} (hP : MP t n nm q o pre m) (hF : frX m0 m) (hQ : ∀ m', frX m0 m' → MP t n nm (nx t n q) o pre m' → Q rV m') : RM (d + 1) 90 (0, [some (mR 1026), x1], [], m) Q := by
  obtain ⟨⟨h1, h2, h3⟩, ⟨h4, h5, h6, h6'⟩, ⟨h7, h8⟩, h9, h10⟩ := hP
  have hb := tke_b (t := t) h9.2.1
  have hnx := nx_b (t := t) h9.2.1
  refine M_next h1 h2 h9.2.2 h3.2.1 (by omega) (fun m' f4 mt => hQ m' (hF.fr4 f4) ?_)
  have e : ∀ j, m_has [15, 16, 17, 18] j = false → m' j = m j := fun j hj => f4 j (fun e => by subst e; cases hj) (fun e => by subst e; cases hj) (fun e => by subst e; cases hj) (fun e => by subst e; cases hj)
  refine ⟨⟨by rw [e 13 rfl]; exact h1, by rw [e 14 rfl]; exact h2, mt⟩, ⟨by rw [e 19 rfl]; exact h4, by rw [e 22 rfl]; exact h5, by rw [e 23 rfl]; exact h6, h6'⟩, ⟨by rw [e 5 rfl]; exact h7, fun i hi => by rw [e 4 rfl]; exact h8 i hi⟩, by omega, h10⟩
theorem P_sgn {c : Int} (hP : MP t n nm q o pre m) (hc : (c < 48 ∨ 57 < c) ∧ (c < 97 ∨ 122 < c) ∧ c ≠ 0) (h1 : isWb t n q [c] = true → Q (rI 1) m) (h0 : isWb t n q [c] = false → Q (rI 0) m) : RM d 104 (0, [some (mR 1026), some (mI c)], [], m) Q := by
  obtain ⟨⟨-, -, e1, e2, e3, e4, e5⟩, -⟩ := hP
  have hi := sgn_iff (t := t) (n := n) (q := q) hc
  by_cases h4 : srt t n q = 4
  · have e5 := e5 h4
    by_cases hv : t q = c
    · have h1 := h1 (hi.mpr ⟨h4, hv⟩)
      refine RMr [] [] 40 ?_
      repeat' first | (refine ⟨fun _ => ?_, fun _ => ?_⟩ <;> try omega) | (refine ⟨by first | omega | (simp only [upm_ap, upd1_ap, Nat.reduceEqDiff, ↓reduceIte, eq_self] at * <;> omega) | fail, ?_⟩) | (exact h1) | (simp only [upm_ap, upd1_ap, Nat.reduceEqDiff, ↓reduceIte, eq_self] at *) | omega | fail
    · have h0 := h0 (by
        cases hh : isWb t n q [c] with
        | false => rfl
        | true => exact absurd (hi.mp hh).2 hv)
      refine RMr [] [] 40 ?_
      repeat' first | (refine ⟨fun _ => ?_, fun _ => ?_⟩ <;> try omega) | (refine ⟨by first | omega | (simp only [upm_ap, upd1_ap, Nat.reduceEqDiff, ↓reduceIte, eq_self] at * <;> omega) | fail, ?_⟩) | (exact h0) | (simp only [upm_ap, upd1_ap, Nat.reduceEqDiff, ↓reduceIte, eq_self] at *) | omega | fail
  · have h0 := h0 (by
      cases hh : isWb t n q [c] with
      | false => rfl
      | true => exact absurd (hi.mp hh).1 h4)
    refine RMr [] [] 40 ?_
    repeat' first | (refine ⟨fun _ => ?_, fun _ => ?_⟩ <;> try omega) | (refine ⟨by first | omega | (simp only [upm_ap, upd1_ap, Nat.reduceEqDiff, ↓reduceIte, eq_self] at * <;> omega) | fail, ?_⟩) | (exact h0) | (simp only [upm_ap, upd1_ap, Nat.reduceEqDiff, ↓reduceIte, eq_self] at *) | omega | fail
theorem P_isw {a : Int} {w : List Int} {x2 : Option mV} (hw : lit a = w) (hP : MP t n nm q o pre m) (ha : (100 ≤ a ∧ a < 159) ∧ (97 ≤ w.getD 0 0 ∧ w.getD 0 0 ≤ 122)) (h1 : isWb t n q w = true → Q (rI 1) m) (h0 : isWb t n q w = false → Q (rI 0) m) : RM (d + 1) 97 (0, [some (mR 1026), some (mR a), x2], [], m) Q := by
  subst hw
  obtain ⟨⟨g1, g2, e1, e2, e3, e4, e5⟩, -, -, hb, -⟩ := hP
  have hi := isWb_iff (t := t) (n := n) (q := q) (w := lit a)
  obtain ⟨ha, hw0⟩ := ha
  have hF : ¬ isWb t n q (lit a) = true → Q (rI 0) m := fun h => h0 (by simpa using h)
  have htk := tke_b (t := t) hb.2.1
  by_cases hs : srt t n q = 3
  · by_cases hl : tke t n q - q = ((lit a).length : Int)
    · have key : ∀ k : Int, 0 ≤ k → k ≤ ((lit a).length : Int) → (∀ i : Nat, (i : Int) < k → byt t n (q + i) = (lit a).getD i 0) → RM (d + 1) 97 (28, [some (mR 1026), some (mR a), some (mI k)], [], m) Q := by
        refine up_ind ?_ ?_
        · intro hk
          have h1 := h1 (hi.mpr ⟨hl, fun i hi => hk i (by omega)⟩)
          refine RMr [] [970028] 60 ?_
          repeat' first | (refine ⟨fun _ => ?_, fun _ => ?_⟩ <;> try omega) | (refine ⟨by first | omega | (simp only [upm_ap, upd1_ap, Nat.reduceEqDiff, ↓reduceIte, eq_self] at * <;> omega) | fail, ?_⟩) | (exact h1) | (simp only [upm_ap, upd1_ap, Nat.reduceEqDiff, ↓reduceIte, eq_self] at *) | omega | fail
        · intro k k0 k1 ih hk
          have hbt : byt t n (q + k) = m 13 (m 16 0 + k) := by unfold byt; rw [if_pos (by omega), g1, e1]
          by_cases hc : byt t n (q + k) = (lit a).getD k.toNat 0
          · have ih := ih (fun i hi => by
              by_cases hik : (i : Int) = k
              · rw [hik, hc, show k.toNat = i by omega]
              · exact hk i (by omega))
            rw [hbt] at hc
            refine RMr [] [970028] 60 ?_
            repeat' first | (refine ⟨fun _ => ?_, fun _ => ?_⟩ <;> try omega) | (refine ⟨by first | omega | (simp only [upm_ap, upd1_ap, Nat.reduceEqDiff, ↓reduceIte, eq_self] at * <;> omega) | fail, ?_⟩) | (exact ih) | (simp only [upm_ap, upd1_ap, Nat.reduceEqDiff, ↓reduceIte, eq_self] at *) | omega | fail
          · have h0 := hF (fun h => hc (by
              have := (hi.mp h).2 k.toNat (by omega)
              rw [show ((k.toNat : Nat) : Int) = k by omega] at this
              exact this))
            rw [hbt] at hc
            refine RMr [] [970028] 60 ?_
            repeat' first | (refine ⟨fun _ => ?_, fun _ => ?_⟩ <;> try omega) | (refine ⟨by first | omega | (simp only [upm_ap, upd1_ap, Nat.reduceEqDiff, ↓reduceIte, eq_self] at * <;> omega) | fail, ?_⟩) | (exact h0) | (simp only [upm_ap, upd1_ap, Nat.reduceEqDiff, ↓reduceIte, eq_self] at *) | omega | fail
      have go := key 0 (by omega) (by omega) (fun i hi => by omega)
      refine RMr [] [970028] 60 ?_
      repeat' first | (refine ⟨fun _ => ?_, fun _ => ?_⟩ <;> try omega) | (refine ⟨by first | omega | (simp only [upm_ap, upd1_ap, Nat.reduceEqDiff, ↓reduceIte, eq_self] at * <;> omega) | fail, ?_⟩) | (exact go) | (simp only [upm_ap, upd1_ap, Nat.reduceEqDiff, ↓reduceIte, eq_self] at *) | omega | fail
    · have h0 := hF (fun h => hl (hi.mp h).1)
      refine RMr [] [] 60 ?_
      repeat' first | (refine ⟨fun _ => ?_, fun _ => ?_⟩ <;> try omega) | (refine ⟨by first | omega | (simp only [upm_ap, upd1_ap, Nat.reduceEqDiff, ↓reduceIte, eq_self] at * <;> omega) | fail, ?_⟩) | (exact h0) | (simp only [upm_ap, upd1_ap, Nat.reduceEqDiff, ↓reduceIte, eq_self] at *) | omega | fail
  · have h0 := hF (fun h => hs (wrd_srt h hw0))
    refine RMr [] [] 60 ?_
    repeat' first | (refine ⟨fun _ => ?_, fun _ => ?_⟩ <;> try omega) | (refine ⟨by first | omega | (simp only [upm_ap, upd1_ap, Nat.reduceEqDiff, ↓reduceIte, eq_self] at * <;> omega) | fail, ?_⟩) | (exact h0) | (simp only [upm_ap, upd1_ap, Nat.reduceEqDiff, ↓reduceIte, eq_self] at *) | omega | fail
end
