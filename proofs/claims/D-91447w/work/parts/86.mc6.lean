/-! THE MODEL keeps a text -/
set_option maxHeartbeats 3200000
set_option maxRecDepth 100000
/-- the text a holds the clauses cs -/
def TX (m : sg) (a : Int) (cs : List Cl) : Prop := m 5 a = (cat cs).length ∧ m 6 a = cs.length ∧ rowsR m (20 * a) 0 cs ∧ ∀ i : Nat, i < (cat cs).length → m 4 (420 * a + i) = (cat cs).getD i 0
/-- what keeping a text at a leaves (44: none is kept) -/
def frR (a : Int) (m m' : sg) : Prop := (∀ j, m_has [0, 4, 5, 6, 7, 8, 9, 10, 11, 12, 14, 15, 16, 17, 18, 19, 20, 21, 22, 23, 24, 25, 26] j = false → m' j = m j) ∧ (∀ i, i < 18480 → ¬ (420 * a ≤ i ∧ i < 420 * a + 420) → m' 4 i = m 4 i) ∧ (∀ i, i ≠ 44 → i ≠ a → m' 5 i = m 5 i ∧ m' 6 i = m 6 i) ∧ (∀ j, 7 ≤ j → j ≤ 12 → ∀ i, i < 880 → ¬ (20 * a ≤ i ∧ i < 20 * a + 20) → m' j i = m j i)
theorem frY.r {m m' : sg} (h : frY m m') : frR 44 m m' := by
  refine ⟨fun j hj => h.1 j ?_, fun i hi _ => h.2.1 i hi, fun i hi _ => h.2.2.1 i hi, fun j h1 h2 i hi _ => h.2.2.2 j h1 h2 i hi⟩
  cases hc : m_has [4, 5, 6, 7, 8, 9, 10, 11, 12, 15, 16, 17, 18, 19, 20, 22, 24, 25, 26] j with
  | false => rfl
  | true =>
    have : ∀ j ∈ [4, 5, 6, 7, 8, 9, 10, 11, 12, 15, 16, 17, 18, 19, 20, 22, 24, 25, 26], m_has [0, 4, 5, 6, 7, 8, 9, 10, 11, 12, 14, 15, 16, 17, 18, 19, 20, 21, 22, 23, 24, 25, 26] j = true := by decide
    rw [this j (mh_in hc)] at hj
    exact hj
theorem frR.tr {a : Int} {m m' m'' : sg} (h : frR 44 m m') (h2 : frR a m' m'') : frR a m m'' :=
  ⟨fun j hj => (h2.1 j hj).trans (h.1 j hj), fun i hi hn => (h2.2.1 i hi hn).trans (h.2.1 i hi (by omega)), fun i hi hn => ⟨(h2.2.2.1 i hi hn).1.trans (h.2.2.1 i hi hi).1, (h2.2.2.1 i hi hn).2.trans (h.2.2.1 i hi hi).2⟩, fun j h1 h3 i hi hn => (h2.2.2.2 j h1 h3 i hi hn).trans (h.2.2.2 j h1 h3 i hi (by omega))⟩
theorem frR.up {a : Int} {m m' : sg} (h : frR a m m') {j : Nat} (hj : m_has [0, 14, 15, 16, 17, 18, 19, 20, 21, 22, 23, 24, 25, 26] j = true) {i v : Int} : frR a m (upm m' j i v) := by
  have hm := mh_in hj
  have hne : ∀ k, 4 ≤ k → k ≤ 12 → k ≠ j := by
    have : ∀ j ∈ [0, 14, 15, 16, 17, 18, 19, 20, 21, 22, 23, 24, 25, 26], j = 0 ∨ 12 < j := by decide
    intro k h4 hk e
    have := this j hm
    omega
  refine ⟨fun k hk => ?_, fun k hk hn => by rw [upm_n (hne 4 (by omega) (by omega))]; exact h.2.1 k hk hn, fun k hk hn => by rw [upm_n (hne 5 (by omega) (by omega)), upm_n (hne 6 (by omega) (by omega))]; exact h.2.2.1 k hk hn, fun k h1 h2 x hx hn => by rw [upm_n (hne k (by omega) (by omega))]; exact h.2.2.2 k h1 h2 x hx hn⟩
  rw [upm_n (fun e => ?_)]
  · exact h.1 k hk
  · subst e
    have : ∀ j ∈ [0, 14, 15, 16, 17, 18, 19, 20, 21, 22, 23, 24, 25, 26], m_has [0, 4, 5, 6, 7, 8, 9, 10, 11, 12, 14, 15, 16, 17, 18, 19, 20, 21, 22, 23, 24, 25, 26] j = true := by decide
    rw [this _ hm] at hk
    cases hk
theorem frR.rfl {a : Int} {m : sg} : frR a m m := ⟨fun _ _ => Eq.refl _, fun _ _ _ => Eq.refl _, fun _ _ _ => ⟨Eq.refl _, Eq.refl _⟩, fun _ _ _ _ _ _ => Eq.refl _⟩
section
variable {d : Nat} {m m0 m' : sg} {Q : mQ sg} {t : Int → Int} {n : Int} {nm : Nat} {q q' o : Int} {pre pre' : List Int} {k : Int} {cs : List Cl} {nn : List (Int × Int)}
/-- texts that are there stay -/
theorem TX.fr {a b : Int} (h : TX m b cs) (hf : frR a m m') (hb : 0 ≤ b ∧ b < 44) (hne : b ≠ a) (hl : (cat cs).length ≤ 420 ∧ cs.length ≤ 20) : TX m' b cs := by
  have e := hf.2.2.1 b (by omega) hne
  refine ⟨by rw [e.1]; exact h.1, by rw [e.2]; exact h.2.1, rowsR_cg cs _ _ (fun j h1 h2 i i0 i1 => hf.2.2.2 j h1 h2 i (by omega) (by omega)) h.2.2.1, fun i hi => by rw [hf.2.1 _ (by omega) (by omega)]; exact h.2.2.2 i hi⟩
theorem M_stopsX {a kf pf : Int} {x2 x3 x4 : Option mV} (hX : m 19 0 = kf ∧ (1 ≤ kf ∧ kf ≤ 4) ∧ m 20 0 = pf) (hQ : Q (rI (-1 - kf)) (upm (upm m 14 0 0) 21 0 pf)) : RM (d + 1) 114 (0, [some (mR 1026), some (mI a), x2, x3, x4], [], m) Q := by
  obtain ⟨h1, hi, h3⟩ := hX
  subst h1 h3
  have h2 : m 19 0 ≠ 0 := by omega
  have h2' : (upm m 14 0 0) 19 0 ≠ 0 := h2
  have h2'' : (upm (upm m 14 0 0) 21 0 (m 20 0)) 19 0 ≠ 0 := h2
  refine RMr [] [] 60 ?_
  repeat' first | (refine ⟨fun _ => ?_, fun _ => ?_⟩ <;> try omega) | (refine ⟨by first | omega | (simp only [upm_ap, upd1_ap, Nat.reduceEqDiff, ↓reduceIte, eq_self] at * <;> omega) | fail, ?_⟩) | (refine M_isWell (fun e => absurd e h2'') (fun _ => ?_)) | (refine M_isWell (fun e => absurd e h2') (fun _ => ?_)) | (exact hQ) | (simp only [upm_ap, upd1_ap, Nat.reduceEqDiff, ↓reduceIte, eq_self] at *) | omega | fail
theorem M_stops {a : Int} {x2 x3 x4 : Option mV} (hw : m 19 0 = 0) (hT : TX m 44 cs) (ha : 0 ≤ a ∧ a < 44) (hl : (cat cs).length ≤ 420 ∧ cs.length ≤ 20) (hQ : ∀ m', frR a m m' → TX m' a cs → m' 14 0 = 0 → m' 21 0 = -1 → m' 0 0 = m 0 0 → Q (rI 0) m') : RM (d + 1) 114 (0, [some (mR 1026), some (mI a), x2, x3, x4], [], m) Q := by
  obtain ⟨t1, t2, t3, t4⟩ := hT
  -- rows
  have lp2 : ∀ k : Int, 0 ≤ k → k ≤ (cs.length : Int) → ∀ m' x3 x4, frR a m m' → m' 14 0 = 0 → m' 21 0 = -1 ∧ m' 0 0 = m 0 0 → m' 5 a = (cat cs).length → m' 6 a = cs.length → m' 6 44 = cs.length → (∀ j, 7 ≤ j → j ≤ 12 → ∀ i, 880 ≤ i → m' j i = m j i) → (∀ j, 7 ≤ j → j ≤ 12 → ∀ i, 0 ≤ i → i < k → m' j (20 * a + i) = m j (880 + i)) → (∀ i : Nat, i < (cat cs).length → m' 4 (420 * a + i) = (cat cs).getD i 0) → RM (d + 1) 114 (107, [some (mR 1026), some (mI a), some (mI k), x3, x4], [], m') Q := by
    refine up_ind ?_ ?_
    · intro m' x3 x4 hF e14 e21 e5 e6 e44 hsrc hrow hsg
      have rw2 : ∀ (cs : List Cl) (r s b : Int), (∀ j, 7 ≤ j → j ≤ 12 → ∀ i, 0 ≤ i → i < (cs.length : Int) → m' j (r + i) = m j (s + i)) → rowsR m s b cs → rowsR m' r b cs := by
        intro cs
        induction cs with
        | nil => intro _ _ _ _ _; exact trivial
        | cons c cs ih =>
          intro r s b h hr
          have e := fun j h1 h2 => h j h1 h2 0 (Int.le_refl _) (by rw [List.length_cons]; omega)
          simp only [Int.add_zero] at e
          obtain ⟨⟨a1, a2, a3, a4, a5, a6⟩, a7⟩ := hr
          refine ⟨⟨by rw [e 7 (by omega) (by omega)]; exact a1, by rw [e 8 (by omega) (by omega)]; exact a2, by rw [e 9 (by omega) (by omega)]; exact a3, by rw [e 10 (by omega) (by omega)]; exact a4, by rw [e 11 (by omega) (by omega)]; exact a5, by rw [e 12 (by omega) (by omega)]; exact a6⟩, ?_⟩
          refine ih _ (s + 1) _ (fun j h1 h2 i i0 i1 => ?_) a7
          rw [show r + 1 + i = r + (1 + i) by omega, show s + 1 + i = s + (1 + i) by omega]
          exact h j h1 h2 _ (by omega) (by rw [List.length_cons]; omega)
      have fin := hQ m' hF ⟨e5, e6, rw2 cs _ 880 _ hrow (by rw [show (880 : Int) = 20 * 44 by omega]; exact t3), hsg⟩ e14 e21.1 e21.2
      refine RMr [] [1140107] 40 ?_
      repeat' first | (refine ⟨fun _ => ?_, fun _ => ?_⟩ <;> try omega) | (refine ⟨by first | omega | (simp only [upm_ap, upd1_ap, Nat.reduceEqDiff, ↓reduceIte, eq_self] at * <;> omega) | fail, ?_⟩) | (exact fin) | (simp only [upm_ap, upd1_ap, Nat.reduceEqDiff, ↓reduceIte, eq_self] at *) | omega | fail
    · intro k k0 k1 ih m' x3 x4 hF e14 e21 e5 e6 e44 hsrc hrow hsg
      have go : ∀ m'', m'' = upm (upm (upm (upm (upm (upm m' 7 (20 * a + k) (m' 7 (880 + k))) 8 (20 * a + k) (m' 8 (880 + k))) 9 (20 * a + k) (m' 9 (880 + k))) 10 (20 * a + k) (m' 10 (880 + k))) 11 (20 * a + k) (m' 11 (880 + k))) 12 (20 * a + k) (m' 12 (880 + k)) → RM (d + 1) 114 (107, [some (mR 1026), some (mI a), some (mI (k + 1)), some (mI (880 + k)), some (mI (20 * a + k))], [], m'') Q := by
        intro m'' hm
        have oth : ∀ j, ¬ (7 ≤ j ∧ j ≤ 12) → m'' j = m' j := fun j hj => by rw [hm, upm_n (by omega), upm_n (by omega), upm_n (by omega), upm_n (by omega), upm_n (by omega), upm_n (by omega)]
        have row : ∀ j, 7 ≤ j → j ≤ 12 → m'' j = upd1 (m' j) (20 * a + k) (m' j (880 + k)) := by
          intro j j0 j1
          have : j = 7 ∨ j = 8 ∨ j = 9 ∨ j = 10 ∨ j = 11 ∨ j = 12 := by omega
          rcases this with r | r | r | r | r | r <;> (subst r; rw [hm]; rfl)
        refine ih m'' _ _ ⟨fun j hj => ?_, fun i hi hn => ?_, fun i hi hn => ?_, fun j h1 h2 i hi hn => ?_⟩ (by rw [oth 14 (by omega)]; exact e14) (by rw [oth 21 (by omega), oth 0 (by omega)]; exact e21) (by rw [oth 5 (by omega)]; exact e5) (by rw [oth 6 (by omega)]; exact e6) (by rw [oth 6 (by omega)]; exact e44) (fun j h1 h2 i hi => ?_) (fun j h1 h2 i i0 i1 => ?_) (fun i hi => by rw [oth 4 (by omega)]; exact hsg i hi)
        · rw [oth j (fun e => ?_)]
          · exact hF.1 j hj
          · have : j = 7 ∨ j = 8 ∨ j = 9 ∨ j = 10 ∨ j = 11 ∨ j = 12 := by omega
            rcases this with r | r | r | r | r | r <;> (subst r; cases hj)
        · rw [oth 4 (by omega)]; exact hF.2.1 i hi hn
        · rw [oth 5 (by omega), oth 6 (by omega)]; exact hF.2.2.1 i hi hn
        · rw [row j h1 h2, upd1_n (by omega)]; exact hF.2.2.2 j h1 h2 i hi hn
        · rw [row j h1 h2, upd1_n (by omega)]; exact hsrc j h1 h2 i hi
        · rw [row j h1 h2]
          by_cases e : i = k
          · rw [e, upd1_s]; exact hsrc j h1 h2 _ (by omega)
          · rw [upd1_n (by omega)]; exact hrow j h1 h2 i i0 (by omega)
      have go := go _ rfl
      clear ih hrow hsg hF
      refine RMr [] [1140107] 120 ?_
      repeat' first | (refine ⟨fun _ => ?_, fun _ => ?_⟩ <;> try omega) | (refine ⟨by first | omega | (simp only [upm_ap, upd1_ap, Nat.reduceEqDiff, ↓reduceIte, eq_self] at * <;> omega) | fail, ?_⟩) | (exact go) | (simp only [upm_ap, upd1_ap, Nat.reduceEqDiff, ↓reduceIte, eq_self] at *) | omega | fail
  have lp1 : ∀ k : Int, 0 ≤ k → k ≤ ((cat cs).length : Int) → ∀ m' x3 x4, frR a m m' → m' 14 0 = 0 → m' 21 0 = -1 ∧ m' 0 0 = m 0 0 → m' 5 a = (cat cs).length → m' 6 a = cs.length → m' 5 44 = (cat cs).length → m' 6 44 = cs.length → (∀ j, 7 ≤ j → j ≤ 12 → m' j = m j) → (∀ i, 18480 ≤ i → m' 4 i = m 4 i) → (∀ i : Nat, (i : Int) < k → m' 4 (420 * a + i) = (cat cs).getD i 0) → RM (d + 1) 114 (66, [some (mR 1026), some (mI a), some (mI k), x3, x4], [], m') Q := by
    refine up_ind ?_ ?_
    · intro m' x3 x4 hF e14 e21 e5 e6 e45 e44 hrow hsrc hsg
      have go := lp2 0 (Int.le_refl _) (by omega) m' x3 x4 hF e14 e21 e5 e6 e44 (fun j h1 h2 i _ => by rw [hrow j h1 h2]) (fun j h1 h2 i i0 i1 => by omega) (fun i hi => hsg i (by omega))
      clear lp2
      refine RMr [] [1140066, 1140107] 40 ?_
      repeat' first | (refine ⟨fun _ => ?_, fun _ => ?_⟩ <;> try omega) | (refine ⟨by first | omega | (simp only [upm_ap, upd1_ap, Nat.reduceEqDiff, ↓reduceIte, eq_self] at * <;> omega) | fail, ?_⟩) | (exact go) | (simp only [upm_ap, upd1_ap, Nat.reduceEqDiff, ↓reduceIte, eq_self] at *) | omega | fail
    · intro k k0 k1 ih m' x3 x4 hF e14 e21 e5 e6 e45 e44 hrow hsrc hsg
      have go := ih (upm m' 4 (420 * a + k) (m' 4 (18480 + k))) x3 x4 ⟨fun j hj => by rw [upm_n (fun e => by subst e; cases hj)]; exact hF.1 j hj, fun i hi hn => by rw [upm_s, upd1_n (by omega)]; exact hF.2.1 i hi hn, hF.2.2.1, fun j h1 h2 => by rw [upm_n (by omega)]; exact hF.2.2.2 j h1 h2⟩ e14 e21 e5 e6 e45 e44 (fun j h1 h2 => by rw [upm_n (by omega)]; exact hrow j h1 h2) (fun i hi => by rw [upm_s, upd1_n (by omega)]; exact hsrc i hi) (fun i hi => by
          rw [upm_s]
          by_cases e : (i : Int) = k
          · rw [e, upd1_s, hsrc _ (by omega), ← e]
            exact t4 i (by omega)
          · rw [upd1_n (by omega)]; exact hsg i (by omega))
      clear ih lp2
      refine RMr [] [1140066, 1140107] 60 ?_
      repeat' first | (refine ⟨fun _ => ?_, fun _ => ?_⟩ <;> try omega) | (refine ⟨by first | omega | (simp only [upm_ap, upd1_ap, Nat.reduceEqDiff, ↓reduceIte, eq_self] at * <;> omega) | fail, ?_⟩) | (exact go) | (simp only [upm_ap, upd1_ap, Nat.reduceEqDiff, ↓reduceIte, eq_self] at *) | omega | fail
  have w1 : (upm m 14 0 0) 19 0 = 0 := hw
  have w2 : (upm (upm m 14 0 0) 21 0 (-1)) 19 0 = 0 := hw
  have go := lp1 0 (Int.le_refl _) (by omega) (upm (upm (upm (upm m 14 0 0) 21 0 (-1)) 5 a (m 5 44)) 6 a (m 6 44)) x3 x4 ⟨fun j hj => ?_, fun i hi hn => ?_, fun i hi hn => ?_, fun j h1 h2 i hi hn => ?_⟩ rfl ⟨rfl, rfl⟩ (by rw [upm_n (by decide), upm_s, upd1_s]; exact t1) (by rw [upm_s, upd1_s]; exact t2) (by rw [upm_n (by decide), upm_s, upd1_n (by omega)]; exact t1) (by rw [upm_s, upd1_n (by omega)]; exact t2) (fun j h1 h2 => by rw [upm_n (by omega), upm_n (by omega), upm_n (by omega), upm_n (by omega)]) (fun i hi => by rw [upm_n (by decide), upm_n (by decide), upm_n (by decide), upm_n (by decide)]) (fun i hi => by omega)
  · clear lp1 lp2
    refine RMr [] [1140066] 60 ?_
    repeat' first | (refine ⟨fun _ => ?_, fun _ => ?_⟩ <;> try omega) | (refine ⟨by first | omega | (simp only [upm_ap, upd1_ap, Nat.reduceEqDiff, ↓reduceIte, eq_self] at * <;> omega) | fail, ?_⟩) | (refine M_isWell (fun _ => ?_) (fun e => absurd w2 e)) | (refine M_isWell (fun _ => ?_) (fun e => absurd w1 e)) | (exact go) | (simp only [upm_ap, upd1_ap, Nat.reduceEqDiff, ↓reduceIte, eq_self] at *) | omega | fail
  · rw [upm_n (fun e => by subst e; cases hj), upm_n (fun e => by subst e; cases hj), upm_n (fun e => by subst e; cases hj), upm_n (fun e => by subst e; cases hj)]
  · rw [upm_n (by decide), upm_n (by decide), upm_n (by decide), upm_n (by decide)]
  · rw [upm_n (by decide), upm_s, upd1_n hn, upm_s, upd1_n hn]
    exact ⟨rfl, rfl⟩
  · rw [upm_n (by omega), upm_n (by omega), upm_n (by omega), upm_n (by omega)]
theorem M_starts {v : Int} (hv : v = (if nm = 13 then 1 else 0)) (hnm : nm = 13 ∨ nm = 10) (h13 : m 13 = t) (h14 : m 14 0 = n) (hn : 0 ≤ n ∧ n ≤ 400) (hQ : ∀ m', frY (upm m 23 0 v) m' → MD t n nm (sk t n 0) [] 0 [] [] m' → Q rV m') : RM (d + 2) 89 (0, [some (mR 1026), some (mI v)], [], m) Q := by
  have hv2 : 0 ≤ v ∧ v ≤ 1 := by rw [hv]; split <;> omega
  have hsk := sk_b (t := t) (n := n) (k := 0) hn.1
  have fin : ∀ m', fr4 (upm (upm (upm (upm (upm (upm (upm m 23 0 v) 19 0 0) 15 0 0) 22 0 0) 24 0 0) 5 44 0) 6 44 0) m' → MT t n m' (sk t n 0) → Q rV m' := by
    intro m' hf hT
    have hY : frY (upm m 23 0 v) (upm (upm (upm (upm (upm (upm (upm m 23 0 v) 19 0 0) 15 0 0) 22 0 0) 24 0 0) 5 44 0) 6 44 0) := (((((frY.rfl.up (by decide)).up (by decide)).up (by decide)).up (by decide)).mn (by omega)).mn (by omega)
    refine hQ m' (hY.x (frX.rfl.fr4 hf)) ⟨⟨⟨by rw [hf 13 (by decide) (by decide) (by decide) (by decide)]; exact h13, by rw [hf 14 (by decide) (by decide) (by decide) (by decide)]; exact h14, hT⟩, ⟨by rw [hf 19 (by decide) (by decide) (by decide) (by decide)]; rfl, by rw [hf 22 (by decide) (by decide) (by decide) (by decide)]; rfl, ?_, hnm⟩, ⟨by rw [hf 5 (by decide) (by decide) (by decide) (by decide)]; rfl, fun i hi => absurd hi (Nat.not_lt_zero _)⟩, by omega, by omega⟩, by rw [hf 6 (by decide) (by decide) (by decide) (by decide)]; rfl, trivial, by rw [hf 24 (by decide) (by decide) (by decide) (by decide)]; rfl, fun i hi => absurd hi (Nat.not_lt_zero _)⟩
    rw [hf 23 (by decide) (by decide) (by decide) (by decide), ← hv]
    rfl
  refine RMr [] [] 60 ?_
  repeat' first | (refine ⟨fun _ => ?_, fun _ => ?_⟩ <;> try omega) | (refine ⟨by first | omega | (simp only [upm_ap, upd1_ap, Nat.reduceEqDiff, ↓reduceIte, eq_self] at * <;> omega) | fail, ?_⟩) | (refine M_next (t := t) (n := n) (p := 0) h13 h14 hn.2 rfl (by omega) (fun m' hf hT => ?_)) | (exact fin _ hf hT) | (simp only [upm_ap, upd1_ap, Nat.reduceEqDiff, ↓reduceIte, eq_self] at *) | omega | fail
end
