/-! THE MODEL: near, fund -/
set_option maxHeartbeats 3200000
set_option maxRecDepth 100000
/-- marks, trust, rows of the ends of a deed -/
def mks : List Cl → Int → Int
  | [], b => b
  | c :: r, b => mks r (if c.1 = 7 then zor b c.2.1 else b)
def tmo : List Cl → Int → Int
  | [], v => v
  | c :: r, v => tmo r (if c.1 = 9 then c.2.1 else v)
def tye : List Cl → Int → Int
  | [], v => v
  | c :: r, v => tye r (if c.1 = 9 then c.2.2.1 else v)
def eix : List Cl → Int → List Int
  | [], _ => []
  | c :: r, k => if c.1 = 8 then k :: eix r (k + 1) else eix r (k + 1)
theorem eix_len : ∀ (cs : List Cl) (k : Int), (eix cs k).length = (nms cs).length
  | [], _ => rfl
  | c :: r, k => by
    show (if c.1 = 8 then k :: eix r (k + 1) else eix r (k + 1)).length = (if c.1 = 8 then (c.2.2.2.2.2.2, c.2.1) :: nms r else nms r).length
    by_cases h : c.1 = 8
    · rw [if_pos h, if_pos h, List.length_cons, List.length_cons, eix_len r]
    · rw [if_neg h, if_neg h, eix_len r]
/-- a fund's rows: its ends -/
def frF (f : Int) (m m' : sg) : Prop := (∀ j, m_has [36, 38, 39, 43, 44, 45, 46, 47, 48] j = false → m' j = m j) ∧ (∀ j, m_has [36, 38, 39, 43] j = true → ∀ i, i ≠ f → m' j i = m j i) ∧ (∀ j, m_has [44, 45, 46, 47, 48] j = true → ∀ i, ¬ (80 * f ≤ i ∧ i < 80 * f + 80) → m' j i = m j i)
def endsR (f text : Int) (rs : List Int) (m : sg) : Prop := m 43 f = rs.length ∧ ∀ e : Nat, e < rs.length → m 44 (80 * f + e) = text ∧ m 45 (80 * f + e) = rs.getD e 0 ∧ m 46 (80 * f + e) = 0 ∧ m 47 (80 * f + e) = 0 ∧ m 48 (80 * f + e) = -1
theorem frF.rfl {f : Int} {m : sg} : frF f m m := ⟨fun _ _ => Eq.refl _, fun _ _ _ _ => Eq.refl _, fun _ _ _ _ => Eq.refl _⟩
theorem frF.up {f : Int} {m m' : sg} (h : frF f m m') {j : Nat} (hj : m_has [36, 38, 39, 43] j = true) {v : Int} : frF f m (upm m' j f v) := by
  have hm := mh_in hj
  refine ⟨fun k hk => ?_, fun k hk i hi => ?_, fun k hk i hi => ?_⟩
  · rw [upm_n (fun e => ?_)]
    · exact h.1 k hk
    · subst e
      have : ∀ j ∈ [36, 38, 39, 43], m_has [36, 38, 39, 43, 44, 45, 46, 47, 48] j = true := by decide
      rw [this _ hm] at hk
      cases hk
  · by_cases e : k = j
    · subst e
      rw [upm_s, upd1_n hi]
      exact h.2.1 k hk i hi
    · rw [upm_n e]
      exact h.2.1 k hk i hi
  · rw [upm_n (fun e => ?_)]
    · exact h.2.2 k hk i hi
    · subst e
      have : ∀ j ∈ [36, 38, 39, 43], m_has [44, 45, 46, 47, 48] j = false := by decide
      rw [this _ hm] at hk
      cases hk
theorem frF.ue {f : Int} {m m' : sg} (h : frF f m m') {j : Nat} (hj : m_has [44, 45, 46, 47, 48] j = true) {i v : Int} (hi : 80 * f ≤ i ∧ i < 80 * f + 80) : frF f m (upm m' j i v) := by
  have hm := mh_in hj
  refine ⟨fun k hk => ?_, fun k hk x hx => ?_, fun k hk x hx => ?_⟩
  · rw [upm_n (fun e => ?_)]
    · exact h.1 k hk
    · subst e
      have : ∀ j ∈ [44, 45, 46, 47, 48], m_has [36, 38, 39, 43, 44, 45, 46, 47, 48] j = true := by decide
      rw [this _ hm] at hk
      cases hk
  · rw [upm_n (fun e => ?_)]
    · exact h.2.1 k hk x hx
    · subst e
      have : ∀ j ∈ [44, 45, 46, 47, 48], m_has [36, 38, 39, 43] j = false := by decide
      rw [this _ hm] at hk
      cases hk
  · by_cases e : k = j
    · subst e
      rw [upm_s, upd1_n (by omega)]
      exact h.2.2 k hk x hx
    · rw [upm_n e]
      exact h.2.2 k hk x hx
section
variable {d : Nat} {m m0 m' m1 : sg} {Q : mQ sg} {t : Int → Int} {n : Int}
theorem rowsR_f {f : Int} (h : frF f m m') {r b : Int} {cs : List Cl} (hr : rowsR m r b cs) : rowsR m' r b cs := rowsR_cg cs _ _ (fun j h1 h2 i _ _ => by
  have : j = 7 ∨ j = 8 ∨ j = 9 ∨ j = 10 ∨ j = 11 ∨ j = 12 := by omega
  rcases this with r | r | r | r | r | r <;> (subst r; rw [h.1 _ (by decide)])) hr
theorem endsR_s {f text : Int} {rs : List Int} {r : Int} (hf : 0 ≤ f ∧ f < 12) (hl : rs.length < 80) (h : endsR f text rs m) : endsR f text (rs ++ [r]) (upm (upm (upm (upm (upm (upm m 44 (80 * f + m 43 f) text) 45 (80 * f + m 43 f) r) 46 (80 * f + m 43 f) 0) 47 (80 * f + m 43 f) 0) 48 (80 * f + m 43 f) (-1)) 43 f (m 43 f + 1)) := by
  obtain ⟨h1, h2⟩ := h
  have len : (rs ++ [r]).length = rs.length + 1 := by rw [List.length_append]; rfl
  refine ⟨by rw [upm_s, upd1_s, h1, len]; omega, fun e he => ?_⟩
  rw [len] at he
  have p44 : (upm (upm (upm (upm (upm (upm m 44 (80 * f + m 43 f) text) 45 (80 * f + m 43 f) r) 46 (80 * f + m 43 f) 0) 47 (80 * f + m 43 f) 0) 48 (80 * f + m 43 f) (-1)) 43 f (m 43 f + 1)) 44 = upd1 (m 44) (80 * f + m 43 f) text := rfl
  have p45 : (upm (upm (upm (upm (upm (upm m 44 (80 * f + m 43 f) text) 45 (80 * f + m 43 f) r) 46 (80 * f + m 43 f) 0) 47 (80 * f + m 43 f) 0) 48 (80 * f + m 43 f) (-1)) 43 f (m 43 f + 1)) 45 = upd1 (m 45) (80 * f + m 43 f) r := rfl
  have p46 : (upm (upm (upm (upm (upm (upm m 44 (80 * f + m 43 f) text) 45 (80 * f + m 43 f) r) 46 (80 * f + m 43 f) 0) 47 (80 * f + m 43 f) 0) 48 (80 * f + m 43 f) (-1)) 43 f (m 43 f + 1)) 46 = upd1 (m 46) (80 * f + m 43 f) 0 := rfl
  have p47 : (upm (upm (upm (upm (upm (upm m 44 (80 * f + m 43 f) text) 45 (80 * f + m 43 f) r) 46 (80 * f + m 43 f) 0) 47 (80 * f + m 43 f) 0) 48 (80 * f + m 43 f) (-1)) 43 f (m 43 f + 1)) 47 = upd1 (m 47) (80 * f + m 43 f) 0 := rfl
  have p48 : (upm (upm (upm (upm (upm (upm m 44 (80 * f + m 43 f) text) 45 (80 * f + m 43 f) r) 46 (80 * f + m 43 f) 0) 47 (80 * f + m 43 f) 0) 48 (80 * f + m 43 f) (-1)) 43 f (m 43 f + 1)) 48 = upd1 (m 48) (80 * f + m 43 f) (-1) := rfl
  rw [p44, p45, p46, p47, p48, h1]
  by_cases ee : e = rs.length
  · rw [ee, upd1_s, upd1_s, upd1_s, upd1_s, upd1_s, getD_ar (Nat.le_refl _), Nat.sub_self]
    exact ⟨rfl, rfl, rfl, rfl, rfl⟩
  · have := h2 e (by omega)
    rw [upd1_n (by omega), upd1_n (by omega), upd1_n (by omega), upd1_n (by omega), upd1_n (by omega), getD_al (by omega)]
    exact this
theorem C_fundR {f a1 a2 text x4 : Int} {N : Int} (hf : 0 ≤ f ∧ f < 12) (ht : 0 ≤ text ∧ text < 44) (hN : 0 ≤ N ∧ N ≤ 12) (h6 : m1 6 text = N) : ∀ (cs : List Cl) (k b0 b tm ty : Int) (rs : List Int) (m : sg) (x7 : Option mV), 0 ≤ k → k + cs.length = N → rs.length + cs.length ≤ 20 → rowsR m1 (20 * text + k) b0 cs → frF f m1 m → m 36 f = b → m 38 f = tm → m 39 f = ty → endsR f text rs m →
    (∀ m' x7, frF f m1 m' → m' 36 f = mks cs b → m' 38 f = tmo cs tm → m' 39 f = tye cs ty → endsR f text (rs ++ eix cs (20 * text + k)) m' → RM (d + 2) 118 (274, [some (mR 1026), some (mI a1), some (mI a2), some (mI text), some (mI x4), some (mI f), some (mI N), x7], [], m') Q) → RM (d + 2) 118 (155, [some (mR 1026), some (mI a1), some (mI a2), some (mI text), some (mI x4), some (mI f), some (mI k), x7], [], m) Q
  | [], k, b0, b, tm, ty, rs, m, x7, k0, hk, hl, hr, hF, e36, e38, e39, hE, hQ => by
    have hk : k = N := by
      have : (([] : List Cl).length : Int) = 0 := rfl
      omega
    subst hk
    have e6 : m 6 = m1 6 := hF.1 6 (by decide)
    have fin := hQ m x7 hF e36 e38 e39 (by rw [show rs ++ eix [] (20 * text + k) = rs from List.append_nil _]; exact hE)
    rw [← h6, ← e6] at fin
    rw [← e6] at h6
    rw [← h6]
    refine RMr [] [1180155, 1180274] 60 ?_
    repeat' first | (refine ⟨fun _ => ?_, fun _ => ?_⟩ <;> try omega) | (refine ⟨by first | omega | (simp only [upm_ap, upd1_ap, Nat.reduceEqDiff, ↓reduceIte, eq_self] at * <;> omega) | fail, ?_⟩) | (exact fin) | (simp only [upm_ap, upd1_ap, Nat.reduceEqDiff, ↓reduceIte, eq_self] at *) | omega | fail
  | c :: cs, k, b0, b, tm, ty, rs, m, x7, k0, hk, hl, hr, hF, e36, e38, e39, hE, hQ => by
    have e6 : m 6 text = N := by rw [hF.1 6 (by decide)]; exact h6
    obtain ⟨⟨r7, r8, r9, r10, r11, r12⟩, hr2⟩ := hr
    have e7 : m 7 (20 * text + k) = c.1 := by rw [hF.1 7 (by decide)]; exact r7
    have e8 : m 8 (20 * text + k) = c.2.1 := by rw [hF.1 8 (by decide)]; exact r8
    have e9 : c.1 = 8 ∨ c.1 = 9 → m 9 (20 * text + k) = c.2.2.1 := by rw [hF.1 9 (by decide)]; exact r9
    rw [List.length_cons] at hk hl
    have hE43 := hE.1
    -- a step
    have stp : ∀ b' tm' ty' rs' m', b' = (if c.1 = 7 then zor b c.2.1 else b) → tm' = (if c.1 = 9 then c.2.1 else tm) → ty' = (if c.1 = 9 then c.2.2.1 else ty) → rs' = (if c.1 = 8 then rs ++ [20 * text + k] else rs) → frF f m1 m' → m' 36 f = b' → m' 38 f = tm' → m' 39 f = ty' → endsR f text rs' m' → RM (d + 2) 118 (155, [some (mR 1026), some (mI a1), some (mI a2), some (mI text), some (mI x4), some (mI f), some (mI (k + 1)), some (mI (20 * text + k))], [], m') Q := by
      intro b' tm' ty' rs' m' hb ht' hy hrs hF' g36 g38 g39 hE'
      refine C_fundR hf ht hN h6 cs (k + 1) _ b' tm' ty' rs' m' _ (by omega) (by omega) ?_ (by rw [show 20 * text + (k + 1) = 20 * text + k + 1 by omega]; exact hr2) hF' g36 g38 g39 hE' (fun m2 x7 q1 q2 q3 q4 q5 => hQ m2 x7 q1 ?_ ?_ ?_ ?_)
      · rw [hrs]
        split
        · rw [List.length_append]; show _ + 1 + _ ≤ _; omega
        · omega
      · rw [q2, hb]; rfl
      · rw [q3, ht']; rfl
      · rw [q4, hy]; rfl
      · have e : rs' ++ eix cs (20 * text + (k + 1)) = rs ++ eix (c :: cs) (20 * text + k) := by
          show _ = rs ++ (if c.1 = 8 then (20 * text + k) :: eix cs (20 * text + k + 1) else eix cs (20 * text + k + 1))
          rw [hrs, show 20 * text + (k + 1) = 20 * text + k + 1 by omega]
          by_cases h8 : c.1 = 8
          · rw [if_pos h8, if_pos h8, List.append_assoc]; rfl
          · rw [if_neg h8, if_neg h8]
        rw [← e]
        exact q5
    by_cases h7 : c.1 = 7
    · have go := stp (zor b c.2.1) tm ty rs (upm m 36 f (zor b c.2.1)) (by rw [if_pos h7]) (by rw [if_neg (by omega)]) (by rw [if_neg (by omega)]) (by rw [if_neg (by omega)]) (hF.up (by decide)) (by rw [upm_s, upd1_s]) (by rw [upm_n (by decide)]; exact e38) (by rw [upm_n (by decide)]; exact e39) hE
      have q1 : (upm m 36 f (zor b c.2.1)) 7 (20 * text + k) = c.1 := e7
      rw [← e36, ← e8] at go q1
      clear stp hQ
      refine RMr [] [1180155, 1180274] 120 ?_
      repeat' first | (refine ⟨fun _ => ?_, fun _ => ?_⟩ <;> try omega) | (refine ⟨by first | omega | (simp only [upm_ap, upd1_ap, Nat.reduceEqDiff, ↓reduceIte, eq_self] at * <;> omega) | fail, ?_⟩) | (exact go) | (simp only [upm_ap, upd1_ap, Nat.reduceEqDiff, ↓reduceIte, eq_self] at *) | omega | fail
    · by_cases h9 : c.1 = 9
      · have go := stp b c.2.1 c.2.2.1 rs (upm (upm m 38 f c.2.1) 39 f c.2.2.1) (by rw [if_neg h7]) (by rw [if_pos h9]) (by rw [if_pos h9]) (by rw [if_neg (by omega)]) ((hF.up (by decide)).up (by decide)) (by rw [upm_n (by decide), upm_n (by decide)]; exact e36) (by rw [upm_n (by decide), upm_s, upd1_s]) (by rw [upm_s, upd1_s]) hE
        have q1 : (upm (upm m 38 f c.2.1) 39 f c.2.2.1) 7 (20 * text + k) = c.1 := e7
        rw [← e9 (Or.inr h9), ← e8] at go q1
        clear stp hQ
        refine RMr [] [1180155, 1180274] 120 ?_
        repeat' first | (refine ⟨fun _ => ?_, fun _ => ?_⟩ <;> try omega) | (refine ⟨by first | omega | (simp only [upm_ap, upd1_ap, Nat.reduceEqDiff, ↓reduceIte, eq_self] at * <;> omega) | fail, ?_⟩) | (exact go) | (simp only [upm_ap, upd1_ap, Nat.reduceEqDiff, ↓reduceIte, eq_self] at *) | omega | fail
      · by_cases h8 : c.1 = 8
        · have go := stp b tm ty (rs ++ [20 * text + k]) (upm (upm (upm (upm (upm (upm m 44 (80 * f + m 43 f) text) 45 (80 * f + m 43 f) (20 * text + k)) 46 (80 * f + m 43 f) 0) 47 (80 * f + m 43 f) 0) 48 (80 * f + m 43 f) (-1)) 43 f (m 43 f + 1)) (by rw [if_neg h7]) (by rw [if_neg h9]) (by rw [if_neg h9]) (by rw [if_pos h8]) ((((((hF.ue (by decide) (by omega)).ue (by decide) (by omega)).ue (by decide) (by omega)).ue (by decide) (by omega)).ue (by decide) (by omega)).up (by decide)) e36 e38 e39 (endsR_s hf (by omega) hE)
          clear stp hQ
          refine RMr [] [1180155, 1180274] 120 ?_
          repeat' first | (refine ⟨fun _ => ?_, fun _ => ?_⟩ <;> try omega) | (refine ⟨by first | omega | (simp only [upm_ap, upd1_ap, Nat.reduceEqDiff, ↓reduceIte, eq_self] at * <;> omega) | fail, ?_⟩) | (refine M_addEnd hf (by omega) ?_) | (exact go) | (simp only [upm_ap, upd1_ap, Nat.reduceEqDiff, ↓reduceIte, eq_self] at *) | omega | fail
        · have go := stp b tm ty rs m (by rw [if_neg h7]) (by rw [if_neg h9]) (by rw [if_neg h9]) (by rw [if_neg h8]) hF e36 e38 e39 hE
          clear stp hQ
          refine RMr [] [1180155, 1180274] 120 ?_
          repeat' first | (refine ⟨fun _ => ?_, fun _ => ?_⟩ <;> try omega) | (refine ⟨by first | omega | (simp only [upm_ap, upd1_ap, Nat.reduceEqDiff, ↓reduceIte, eq_self] at * <;> omega) | fail, ?_⟩) | (exact go) | (simp only [upm_ap, upd1_ap, Nat.reduceEqDiff, ↓reduceIte, eq_self] at *) | omega | fail
/-- a new fund: its rows -/
def newF (f a1 a2 text : Int) (cs : List Cl) (m m' : sg) : Prop := ∃ m2, frF f (upm (upm (upm (upm (upm (upm (upm m 33 f a1) 34 f a2) 35 f 0) 36 f 0) 37 f (-1)) 38 f 7) 39 f 1) m2 ∧ m2 36 f = mks cs 0 ∧ m2 38 f = tmo cs 7 ∧ m2 39 f = tye cs 1 ∧ endsR f text (eix cs (20 * text)) m2 ∧ m' = upm (upm m2 41 (12 * f + f) 1000000) 32 0 (f + 1)
theorem M_fund {a1 a2 : Int} {x3 x4 x5 x6 x7 : Option mV} {f g : Nat} {x : (Int × Int) ⊕ List Cl} (h13 : m 13 = t) (h14 : m 14 0 = n) (ha : 0 ≤ m 32 0 ∧ m 32 0 ≤ 12) (hz : m 32 0 < 12 → m 43 (m 32 0) = 0) (hn : 0 ≤ n ∧ n ≤ 400) (hx : deedC t n f g (sk t n 0) [] = some x) (h0 : ¬ ((0 ≤ a1 ∧ a1 ≤ 999) ∧ (0 ≤ a2 ∧ a2 ≤ 99999) ∧ m 32 0 ≠ 12) → Q (rI (-1)) (upm m 0 0 0))
    (h1 : 0 ≤ a1 → a1 ≤ 999 → 0 ≤ a2 → a2 ≤ 99999 → m 32 0 < 12 → xPost m (20 + m 32 0) x (fun k _ m' => Q (rI (-1 - k)) m') (fun cs m' => ∀ m'', newF (m 32 0) a1 a2 (20 + m 32 0) cs m' m'' → Q (rI (m 32 0)) m'')) : RM (d + 64) 118 (0, [some (mR 1026), some (mI a1), some (mI a2), x3, x4, x5, x6, x7], [], m) Q := by
  have hsk := sk_b (t := t) (n := n) (k := 0) hn.1
  have tail : 0 ≤ a1 → a1 ≤ 999 → 0 ≤ a2 → a2 ≤ 99999 → m 32 0 < 12 → ∀ m1, frY (upm (upm m 0 0 0) 23 0 0) m1 → MD t n 10 (sk t n 0) [] 0 [] [] m1 → RM (d + 64) 118 (45, [some (mR 1026), some (mI a1), some (mI a2), x3, x4, x5, x6, x7], [], m1) Q := by
    intro b1 b2 b3 b4 b5 m1 hY hD
    have h1 := h1 b1 b2 b3 b4 b5
    have d0 : dkOk n (sk t n 0) [] := ⟨by show ((0 : Nat) : Int) ≤ _; omega, by show 0 ≤ 12; omega, by show 0 ≤ 6; omega, fun c hc => by cases hc⟩
    have hok : ∀ cs', x = .inr cs' → dkOk n n cs' := fun cs' e => deed_ok g _ [] _ (by omega) d0 (by rw [← e]; exact hx)
    refine C_fundL (d := d + 2) g _ [] m1 x hx hD hY d0 ?_
    rcases x with ⟨kf, pf⟩ | cs
    · intro m2 g1
      obtain ⟨r1, r2⟩ := fr_st g1.1
      have e32 : m2 32 = m 32 := r1.1 32 (by decide)
      have fin := h1 (upm (upm m2 14 0 0) 21 0 pf) ((r1.up (by decide)).up (by decide)) r2 rfl rfl g1.2.2.1.1 g1.2.2.1.2
      have hk := g1.2.2.1
      have hb : 0 ≤ m2 32 0 ∧ m2 32 0 < 12 := by rw [e32]; omega
      refine RMr [] [] 60 ?_
      repeat' first | (refine ⟨fun _ => ?_, fun _ => ?_⟩ <;> try omega) | (refine ⟨by first | omega | (simp only [upm_ap, upd1_ap, Nat.reduceEqDiff, ↓reduceIte, eq_self] at * <;> omega) | fail, ?_⟩) | (refine M_stopsX g1.2 ?_) | (exact fin) | (simp only [upm_ap, upd1_ap, Nat.reduceEqDiff, ↓reduceIte, eq_self] at *) | omega | fail
    · intro m2 hY2 w2 hT
      obtain ⟨r1, r2⟩ := fr_st hY2
      have e32 : m2 32 = m 32 := r1.1 32 (by decide)
      have hok := hok cs rfl
      have hb : 0 ≤ m2 32 0 ∧ m2 32 0 < 12 := by rw [e32]; omega
      refine RMr [] [1180079] 60 ?_
      repeat' first | (refine ⟨fun _ => ?_, fun _ => ?_⟩ <;> try omega) | (refine ⟨by first | omega | (simp only [upm_ap, upd1_ap, Nat.reduceEqDiff, ↓reduceIte, eq_self] at * <;> omega) | fail, ?_⟩) | (refine M_stops w2 hT (by omega) (by have := hok.1; have := hok.2.1; omega) (fun m3 hr hT3 e14 e21 e0 => ?_)) | (simp only [upm_ap, upd1_ap, Nat.reduceEqDiff, ↓reduceIte, eq_self] at *) | omega | fail
      rw [e32] at hr hT3
      have fin := h1 m3 (r1.tr hr) (e0.trans r2) e14 e21 hT3
      have f32 : m3 32 0 = m 32 0 := by rw [hr.1 32 (by decide), e32]
      have f43 : m3 43 (m 32 0) = 0 := by rw [hr.1 43 (by decide), r1.1 43 (by decide)]; exact hz b5
      have hl := hok.2.1
      have lp := C_fundR (d := d + 62) (Q := Q) (m1 := upm (upm (upm (upm (upm (upm (upm m3 33 (m 32 0) a1) 34 (m 32 0) a2) 35 (m 32 0) 0) 36 (m 32 0) 0) 37 (m 32 0) (-1)) 38 (m 32 0) 7) 39 (m 32 0) 1) (f := m 32 0) (a1 := a1) (a2 := a2) (text := 20 + m 32 0) (x4 := 0) (N := cs.length) (by omega) (by omega) (by omega) hT3.2.1 cs 0 0 0 7 1 [] (upm (upm (upm (upm (upm (upm (upm m3 33 (m 32 0) a1) 34 (m 32 0) a2) 35 (m 32 0) 0) 36 (m 32 0) 0) 37 (m 32 0) (-1)) 38 (m 32 0) 7) 39 (m 32 0) 1) x7 (Int.le_refl _) (by omega) (by show 0 + _ ≤ 20; omega) (by rw [Int.add_zero]; exact rowsR_cg cs _ _ (fun j h1 h2 i _ _ => by rw [upm_n (by omega), upm_n (by omega), upm_n (by omega), upm_n (by omega), upm_n (by omega), upm_n (by omega), upm_n (by omega)]) hT3.2.2.1) frF.rfl (by rw [upm_n (by decide), upm_n (by decide), upm_n (by decide), upm_s, upd1_s]) (by rw [upm_n (by decide), upm_s, upd1_s]) (by rw [upm_s, upd1_s]) ⟨f43, fun e he => absurd he (Nat.not_lt_zero _)⟩ ?_
      · rw [← f32] at lp
        rw [e32]
        clear fin
        rw [← f32]
        have hb3 : 0 ≤ m3 32 0 ∧ m3 32 0 < 12 := by omega
        refine RMr [] [1180155] 90 ?_
        repeat' first | (refine ⟨fun _ => ?_, fun _ => ?_⟩ <;> try omega) | (refine ⟨by first | omega | (simp only [upm_ap, upd1_ap, Nat.reduceEqDiff, ↓reduceIte, eq_self] at * <;> omega) | fail, ?_⟩) | (exact lp) | (simp only [upm_ap, upd1_ap, Nat.reduceEqDiff, ↓reduceIte, eq_self] at *) | omega | fail
      · intro m4 x7 hF q36 q38 q39 hE
        have g32 : m4 32 0 = m 32 0 := by rw [hF.1 32 (by decide)]; exact f32
        have fin := fin _ ⟨m4, hF, q36, q38, q39, by rw [List.nil_append, Int.add_zero] at hE; exact hE, rfl⟩
        have hb4 : 0 ≤ m4 32 0 ∧ m4 32 0 < 12 := by omega
        rw [← g32] at fin ⊢
        clear hF hE q36 q38 q39 g32
        refine RMr [] [] 60 ?_
        repeat' first | (refine ⟨fun _ => ?_, fun _ => ?_⟩ <;> try omega) | (refine ⟨by first | omega | (simp only [upm_ap, upd1_ap, Nat.reduceEqDiff, ↓reduceIte, eq_self] at * <;> omega) | fail, ?_⟩) | (exact fin) | (simp only [upm_ap, upd1_ap, Nat.reduceEqDiff, ↓reduceIte, eq_self] at *) | omega | fail
  refine RMr [] [1180045] 60 ?_
  repeat' first | (refine ⟨fun _ => ?_, fun _ => ?_⟩ <;> try omega) | (refine ⟨by first | omega | (simp only [upm_ap, upd1_ap, Nat.reduceEqDiff, ↓reduceIte, eq_self] at * <;> omega) | fail, ?_⟩) | (refine M_within (fun _ _ => ?_) (fun _ => ?_)) | (refine M_starts (nm := 10) rfl (by omega) h13 h14 hn (fun m1 hY hD => ?_)) | (exact tail (by omega) (by omega) (by omega) (by omega) (by omega) _ hY hD) | (exact h0 (by omega)) | (simp only [upm_ap, upd1_ap, Nat.reduceEqDiff, ↓reduceIte, eq_self] at *) | omega | fail
theorem M_near {v : Int} {x2 : Option mV} {f : Nat} {x : (Int × Int) ⊕ List Cl} (h13 : m 13 = t) (h14 : m 14 0 = n) (ha : 0 ≤ m 49 0 ∧ m 49 0 ≤ 12) (hn : 0 ≤ n ∧ n ≤ 400) (hx : neaC t n f (sk t n 0) = some x) (h0 : ¬ (0 ≤ v ∧ v ≤ 255 ∧ m 49 0 ≠ 12) → Q (rI (-1)) (upm m 0 0 0))
    (h1 : 0 ≤ v → v ≤ 255 → m 49 0 < 12 → xPost m (32 + m 49 0) x (fun k _ m' => Q (rI (-1 - k)) m') (fun cs m' => Q (rI (m 49 0)) (upm (upm m' 50 (m 49 0) v) 49 0 (m 49 0 + 1)))) : RM (d + 64) 124 (0, [some (mR 1026), some (mI v), x2], [], m) Q := by
  have hsk := sk_b (t := t) (n := n) (k := 0) hn.1
  have tail : 0 ≤ v → v ≤ 255 → m 49 0 < 12 → ∀ m1, frY (upm (upm m 0 0 0) 23 0 0) m1 → MD t n 10 (sk t n 0) [] 0 [] [] m1 → RM (d + 64) 124 (33, [some (mR 1026), some (mI v), x2], [], m1) Q := by
    intro f0 f1 a1 m1 hY hD
    have h1 := h1 f0 f1 a1
    have hok : ∀ cs', x = .inr cs' → (cat cs').length ≤ 420 ∧ cs'.length ≤ 20 := by
      intro cs' e
      rw [e] at hx
      unfold neaC at hx
      by_cases he : isWb t n (sk t n 0) wEnd = true
      · rw [if_pos he] at hx
        rcases dB_some hx with ⟨e, -, he⟩ | ⟨c, q', hc, hk2⟩
        · cases he
        · have far := cls_far (by omega) hc
          by_cases hq : n ≤ q'
          · rw [if_pos hq] at hk2
            cases hk2
            have : (cat [c]).length = c.2.2.2.1.length + c.2.2.2.2.1.length := by
              show (c.2.2.2.1 ++ (c.2.2.2.2.1 ++ [])).length = _
              rw [List.append_nil, List.length_append]
            exact ⟨by omega, by show 1 ≤ 20; omega⟩
          · rw [if_neg hq] at hk2; cases hk2
      · rw [if_neg he] at hx; cases hx
    refine C_nearL (d := d + 2) hx hD hY ?_
    rcases x with ⟨kf, pf⟩ | cs
    · intro m2 g1
      obtain ⟨r1, r2⟩ := fr_st g1.1
      have e49 : m2 49 = m 49 := r1.1 49 (by decide)
      have fin := h1 (upm (upm m2 14 0 0) 21 0 pf) ((r1.up (by decide)).up (by decide)) r2 rfl rfl g1.2.2.1.1 g1.2.2.1.2
      have hk := g1.2.2.1
      have hb : 0 ≤ m2 49 0 ∧ m2 49 0 < 12 := by rw [e49]; omega
      refine RMr [] [] 60 ?_
      repeat' first | (refine ⟨fun _ => ?_, fun _ => ?_⟩ <;> try omega) | (refine ⟨by first | omega | (simp only [upm_ap, upd1_ap, Nat.reduceEqDiff, ↓reduceIte, eq_self] at * <;> omega) | fail, ?_⟩) | (refine M_stopsX g1.2 ?_) | (exact fin) | (simp only [upm_ap, upd1_ap, Nat.reduceEqDiff, ↓reduceIte, eq_self] at *) | omega | fail
    · intro m2 hY2 w2 hT
      obtain ⟨r1, r2⟩ := fr_st hY2
      have e49 : m2 49 = m 49 := r1.1 49 (by decide)
      have hok := hok cs rfl
      have hb : 0 ≤ m2 49 0 ∧ m2 49 0 < 12 := by rw [e49]; omega
      refine RMr [] [1240085] 60 ?_
      repeat' first | (refine ⟨fun _ => ?_, fun _ => ?_⟩ <;> try omega) | (refine ⟨by first | omega | (simp only [upm_ap, upd1_ap, Nat.reduceEqDiff, ↓reduceIte, eq_self] at * <;> omega) | fail, ?_⟩) | (refine M_stops w2 hT (by omega) hok (fun m3 hr hT3 e14 e21 e0 => ?_)) | (simp only [upm_ap, upd1_ap, Nat.reduceEqDiff, ↓reduceIte, eq_self] at *) | omega | fail
      rw [e49] at hr hT3
      have fin := h1 m3 (r1.tr hr) (e0.trans r2) e14 e21 hT3
      have f49 : m3 49 0 = m 49 0 := by rw [hr.1 49 (by decide), e49]
      rw [← f49] at fin
      have hb3 : 0 ≤ m3 49 0 ∧ m3 49 0 < 12 := by omega
      have fin' : Q (rI (m3 49 0 + 1 - 1)) (upm (upm m3 50 (m3 49 0) v) 49 0 (m3 49 0 + 1)) := by rw [show m3 49 0 + 1 - 1 = m3 49 0 by omega]; exact fin
      refine RMr [] [] 60 ?_
      repeat' first | (refine ⟨fun _ => ?_, fun _ => ?_⟩ <;> try omega) | (refine ⟨by first | omega | (simp only [upm_ap, upd1_ap, Nat.reduceEqDiff, ↓reduceIte, eq_self] at * <;> omega) | fail, ?_⟩) | (exact fin') | (simp only [upm_ap, upd1_ap, Nat.reduceEqDiff, ↓reduceIte, eq_self] at *) | omega | fail
  refine RMr [] [1240033] 60 ?_
  repeat' first | (refine ⟨fun _ => ?_, fun _ => ?_⟩ <;> try omega) | (refine ⟨by first | omega | (simp only [upm_ap, upd1_ap, Nat.reduceEqDiff, ↓reduceIte, eq_self] at * <;> omega) | fail, ?_⟩) | (refine M_within (fun _ _ => ?_) (fun _ => ?_)) | (refine M_starts (nm := 10) rfl (by omega) h13 h14 hn (fun m1 hY hD => ?_)) | (exact tail (by omega) (by omega) (by omega) _ hY hD) | (exact h0 (by omega)) | (simp only [upm_ap, upd1_ap, Nat.reduceEqDiff, ↓reduceIte, eq_self] at *) | omega | fail
end
