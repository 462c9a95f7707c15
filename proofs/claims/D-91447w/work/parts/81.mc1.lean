/-! THE MODEL READS clauses: rows, names -/
set_option maxHeartbeats 1600000
set_option maxRecDepth 100000
/-- a clause in its row -/
def rowO (m : sg) (r b : Int) (c : Cl) : Prop := m 7 r = c.1 ∧ m 8 r = c.2.1 ∧ (c.1 = 8 ∨ c.1 = 9 → m 9 r = c.2.2.1) ∧ m 10 r = b ∧ (c.1 = 8 ∨ c.1 = 6 → m 11 r = b + c.2.2.2.1.length) ∧ m 12 r = b + c.2.2.2.1.length + c.2.2.2.2.1.length
def rowsR (m : sg) : Int → Int → List Cl → Prop
  | _, _, [] => True
  | r, b, c :: cs => rowO m r b c ∧ rowsR m (r + 1) (b + c.2.2.2.1.length + c.2.2.2.2.1.length) cs
theorem rowsR_cg {m m' : sg} : ∀ (cs : List Cl) (r b : Int), (∀ j, 7 ≤ j → j ≤ 12 → ∀ i, r ≤ i → i < r + cs.length → m' j i = m j i) → rowsR m r b cs → rowsR m' r b cs
  | [], _, _, _, _ => trivial
  | c :: cs, r, b, h, hr => by
    have e := fun j h1 h2 => h j h1 h2 r (Int.le_refl _) (by rw [List.length_cons]; omega)
    obtain ⟨⟨a1, a2, a3, a4, a5, a6⟩, a7⟩ := hr
    refine ⟨⟨by rw [e 7 (by omega) (by omega)]; exact a1, by rw [e 8 (by omega) (by omega)]; exact a2, by rw [e 9 (by omega) (by omega)]; exact a3, by rw [e 10 (by omega) (by omega)]; exact a4, by rw [e 11 (by omega) (by omega)]; exact a5, by rw [e 12 (by omega) (by omega)]; exact a6⟩, ?_⟩
    exact rowsR_cg cs _ _ (fun j h1 h2 i i0 i1 => h j h1 h2 i (by omega) (by rw [List.length_cons]; omega)) a7
theorem rowsR_app {m : sg} {c : Cl} : ∀ (cs : List Cl) (r b : Int), rowsR m r b cs → rowO m (r + cs.length) (b + (cat cs).length) c → rowsR m r b (cs ++ [c])
  | [], r, b, _, h => by
    have e1 : r + (([] : List Cl).length : Int) = r := by show r + ((0 : Nat) : Int) = r; omega
    have e2 : b + ((cat []).length : Int) = b := by show b + ((0 : Nat) : Int) = b; omega
    rw [e1, e2] at h
    exact ⟨h, trivial⟩
  | x :: cs, r, b, hr, h => by
    refine ⟨hr.1, rowsR_app cs _ _ hr.2 ?_⟩
    have e1 : r + ((x :: cs).length : Int) = r + 1 + cs.length := by rw [List.length_cons]; omega
    have e2 : b + ((cat (x :: cs)).length : Int) = b + x.2.2.2.1.length + x.2.2.2.2.1.length + (cat cs).length := by
      show b + ((x.2.2.2.1 ++ (x.2.2.2.2.1 ++ cat cs)).length : Int) = _
      rw [List.length_append, List.length_append]; omega
    rw [e1, e2] at h
    exact h
def NMS (m : sg) (nn : List (Int × Int)) : Prop := ∀ i : Nat, i < nn.length → m 25 i = (nn.getD i (0, 0)).1 ∧ m 26 i = (nn.getD i (0, 0)).2
def frY (m m' : sg) : Prop := (∀ j, m_has [4, 5, 6, 7, 8, 9, 10, 11, 12, 15, 16, 17, 18, 19, 20, 22, 24, 25, 26] j = false → m' j = m j) ∧ (∀ i, i < 18480 → m' 4 i = m 4 i) ∧ (∀ i, i ≠ 44 → m' 5 i = m 5 i ∧ m' 6 i = m 6 i) ∧ (∀ j, 7 ≤ j → j ≤ 12 → ∀ i, i < 880 → m' j i = m j i)
theorem frY.rfl {m : sg} : frY m m := ⟨fun _ _ => Eq.refl _, fun _ _ => Eq.refl _, fun _ _ => ⟨Eq.refl _, Eq.refl _⟩, fun _ _ _ _ _ => Eq.refl _⟩
theorem frY.x {m m' m'' : sg} (h : frY m m') (hx : frX m' m'') : frY m m'' := by
  have e : ∀ j, m_has [4, 5, 6, 7, 8, 9, 10, 11, 12, 15, 16, 17, 18, 19, 20, 22, 24, 25, 26] j = false → m_has [4, 5, 15, 16, 17, 18, 19, 20, 22] j = false := by
    intro j hj
    cases hc : m_has [4, 5, 15, 16, 17, 18, 19, 20, 22] j with
    | false => rfl
    | true =>
      have : ∀ j ∈ [4, 5, 15, 16, 17, 18, 19, 20, 22], m_has [4, 5, 6, 7, 8, 9, 10, 11, 12, 15, 16, 17, 18, 19, 20, 22, 24, 25, 26] j = true := by decide
      rw [this j (mh_in hc)] at hj
      exact hj
  refine ⟨fun j hj => (hx.1 j (e j hj)).trans (h.1 j hj), fun i hi => (hx.2.1 i hi).trans (h.2.1 i hi), fun i hi => ⟨(hx.2.2 i hi).trans (h.2.2.1 i hi).1, by rw [hx.1 6 (by decide)]; exact (h.2.2.1 i hi).2⟩, fun j h1 h2 i hi => ?_⟩
  have : j = 7 ∨ j = 8 ∨ j = 9 ∨ j = 10 ∨ j = 11 ∨ j = 12 := by omega
  rcases this with r | r | r | r | r | r <;> (subst r; rw [hx.1 _ (by decide)]; exact h.2.2.2 _ (by omega) (by omega) i hi)
/-- a write into the row that is made -/
theorem frY.row {m m' : sg} (h : frY m m') {j : Nat} (hj : 7 ≤ j ∧ j ≤ 12) {i v : Int} (hi : 880 ≤ i) : frY m (upm m' j i v) := by
  refine ⟨fun k hk => ?_, fun k hk => by rw [upm_n (by omega)]; exact h.2.1 k hk, fun k hk => by rw [upm_n (by omega), upm_n (by omega)]; exact h.2.2.1 k hk, fun k h1 h2 x hx => ?_⟩
  · rw [upm_n (fun e => ?_)]
    · exact h.1 k hk
    · rw [e] at hk
      have : j = 7 ∨ j = 8 ∨ j = 9 ∨ j = 10 ∨ j = 11 ∨ j = 12 := by omega
      rcases this with r | r | r | r | r | r <;> (subst r; cases hk)
  · by_cases e : k = j
    · subst e
      rw [upm_s, upd1_n (by omega)]
      exact h.2.2.2 k h1 h2 x hx
    · rw [upm_n e]
      exact h.2.2.2 k h1 h2 x hx
theorem frY.up {m m' : sg} (h : frY m m') {j : Nat} (hj : m_has [15, 16, 17, 18, 19, 20, 22, 24, 25, 26] j = true) {i v : Int} : frY m (upm m' j i v) := by
  have hm := mh_in hj
  have hne : ∀ k, k ≤ 12 → k ≠ j := by
    have : ∀ j ∈ [15, 16, 17, 18, 19, 20, 22, 24, 25, 26], 12 < j := by decide
    intro k hk e
    have := this j hm
    omega
  refine ⟨fun k hk => ?_, fun k hk => by rw [upm_n (hne 4 (by omega))]; exact h.2.1 k hk, fun k hk => by rw [upm_n (hne 5 (by omega)), upm_n (hne 6 (by omega))]; exact h.2.2.1 k hk, fun k h1 h2 x hx => by rw [upm_n (hne k (by omega))]; exact h.2.2.2 k h1 h2 x hx⟩
  rw [upm_n (fun e => ?_)]
  · exact h.1 k hk
  · subst e
    have : ∀ j ∈ [15, 16, 17, 18, 19, 20, 22, 24, 25, 26], m_has [4, 5, 6, 7, 8, 9, 10, 11, 12, 15, 16, 17, 18, 19, 20, 22, 24, 25, 26] j = true := by decide
    rw [this _ hm] at hk
    cases hk
theorem frY.mn {m m' : sg} (h : frY m m') {j : Nat} (hj : j = 5 ∨ j = 6) {v : Int} : frY m (upm m' j 44 v) := by
  refine ⟨fun k hk => ?_, fun k hk => by rw [upm_n (by omega)]; exact h.2.1 k hk, fun k hk => ?_, fun k h1 h2 x hx => by rw [upm_n (by omega)]; exact h.2.2.2 k h1 h2 x hx⟩
  · rw [upm_n (fun e => by rcases hj with q | q <;> (subst q; subst e; cases hk))]
    exact h.1 k hk
  · have := h.2.2.1 k hk
    rcases hj with q | q
    · subst q
      rw [upm_s, upd1_n hk, upm_n (by decide)]
      exact this
    · subst q
      rw [upm_s, upd1_n hk, upm_n (by decide)]
      exact this
/-- the Model between clauses: signs pre, k rows begun, the clauses cs, the names nn -/
def MD (t : Int → Int) (n : Int) (nm : Nat) (q : Int) (pre : List Int) (k : Int) (cs : List Cl) (nn : List (Int × Int)) (m : sg) : Prop := MP t n nm q 0 pre m ∧ m 6 44 = k ∧ rowsR m 880 0 cs ∧ (m 24 0 = nn.length ∧ NMS m nn)
section
variable {d : Nat} {m m0 m' : sg} {Q : mQ sg} {t : Int → Int} {n : Int} {nm : Nat} {q q' : Int} {pre pre' : List Int} {k : Int} {cs : List Cl} {nn : List (Int × Int)}
theorem MD.x (h : MD t n nm q pre k cs nn m) (hx : frX m m') (hP : MP t n nm q' 0 pre' m') : MD t n nm q' pre' k cs nn m' := by
  refine ⟨hP, by rw [hx.1 6 (by decide)]; exact h.2.1, rowsR_cg cs _ _ (fun j h1 h2 i _ _ => ?_) h.2.2.1, by rw [hx.1 24 (by decide)]; exact h.2.2.2.1, fun i hi => by rw [hx.1 25 (by decide), hx.1 26 (by decide)]; exact h.2.2.2.2 i hi⟩
  have : j = 7 ∨ j = 8 ∨ j = 9 ∨ j = 10 ∨ j = 11 ∨ j = 12 := by omega
  rcases this with r | r | r | r | r | r <;> (subst r; rw [hx.1 _ (by decide)])
theorem MP.u {o : Int} (hP : MP t n nm q o pre m) {j : Nat} (hj : m_has [6, 7, 8, 9, 10, 11, 12, 24, 25, 26] j = true) {i v : Int} : MP t n nm q o pre (upm m j i v) := by
  have hm := mh_in hj
  have hne : ∀ k, m_has [4, 5, 13, 14, 15, 16, 17, 18, 19, 22, 23] k = true → k ≠ j := by
    intro k hk e
    subst e
    have : ∀ j ∈ [6, 7, 8, 9, 10, 11, 12, 24, 25, 26], m_has [4, 5, 13, 14, 15, 16, 17, 18, 19, 22, 23] j = false := by decide
    rw [this _ hm] at hk
    cases hk
  obtain ⟨⟨h1, h2, a1, a2, a3, a4, a5⟩, ⟨h4, h5, h6, h6'⟩, ⟨h7, h8⟩, h9, h10⟩ := hP
  have e := fun k hk => upm_n (m := m) (i := i) (v := v) (hne k hk)
  refine ⟨⟨by rw [e 13 (by decide)]; exact h1, by rw [e 14 (by decide)]; exact h2, by rw [e 16 (by decide)]; exact a1, by rw [e 15 (by decide)]; exact a2, by rw [e 17 (by decide)]; exact a3, by rw [e 18 (by decide)]; exact a4, by rw [e 18 (by decide)]; exact a5⟩, ⟨by rw [e 19 (by decide)]; exact h4, by rw [e 22 (by decide)]; exact h5, by rw [e 23 (by decide)]; exact h6, h6'⟩, ⟨by rw [e 5 (by decide)]; exact h7, fun i hi => by rw [e 4 (by decide)]; exact h8 i hi⟩, h9, h10⟩
/-- a write into the row that is made -/
theorem MD.row (h : MD t n nm q pre k cs nn m) {j : Nat} (hj : 7 ≤ j ∧ j ≤ 12) {i v : Int} (hi : 880 + (cs.length : Int) ≤ i) : MD t n nm q pre k cs nn (upm m j i v) := by
  have hj' : m_has [6, 7, 8, 9, 10, 11, 12, 24, 25, 26] j = true := by
    have : j = 7 ∨ j = 8 ∨ j = 9 ∨ j = 10 ∨ j = 11 ∨ j = 12 := by omega
    rcases this with r | r | r | r | r | r <;> (subst r; rfl)
  refine ⟨h.1.u hj', by rw [upm_n (by omega)]; exact h.2.1, rowsR_cg cs _ _ (fun a h1 h2 x x0 x1 => ?_) h.2.2.1, by rw [upm_n (by omega)]; exact h.2.2.2.1, fun x hx => by rw [upm_n (by omega), upm_n (by omega)]; exact h.2.2.2.2 x hx⟩
  by_cases e : a = j
  · subst e
    rw [upm_s, upd1_n (by omega)]
  · rw [upm_n e]
theorem any_s {p : Int × Int → Bool} {l : List (Int × Int)} {k : Nat} (h : k < l.length) : (l.take (k + 1)).any p = ((l.take k).any p || p (l.getD k (0, 0))) := by
  rw [List.take_add_one, List.any_append, List.getD_eq_getElem?_getD, List.getElem?_eq_getElem h]
  simp
theorem C_isThere {x1 x2 x3 x4 : Option mV} (hD : MD t n nm q pre k cs nn m) (hl : nn.length ≤ 6) (hok : ∀ i : Nat, i < nn.length → 0 ≤ (nn.getD i (0, 0)).1 ∧ (nn.getD i (0, 0)).1 + (nn.getD i (0, 0)).2 ≤ n) (h1 : nn.any (nmE t n q) = true → Q (rI 1) m) (h0 : nn.any (nmE t n q) = false → Q (rI 0) m) : RM d 121 (0, [some (mR 1026), x1, x2, x3, x4], [], m) Q := by
  obtain ⟨⟨⟨g1, g2, e1, e2, e3, e4, e5⟩, -, -, hb, -⟩, -, -, hn, hN⟩ := hD
  have htk := tke_b (t := t) hb.2.1
  have key : ∀ k : Int, 0 ≤ k → k ≤ (nn.length : Int) → ∀ v x3 x4, v = (if (nn.take k.toNat).any (nmE t n q) then 1 else 0) → RM d 121 (4, [some (mR 1026), some (mI v), some (mI k), x3, x4], [], m) Q := by
    refine up_ind ?_ ?_
    · intro v x3 x4 hv
      rw [Int.toNat_natCast, List.take_length] at hv
      cases ha : nn.any (nmE t n q) with
      | true =>
        rw [ha] at hv
        have h1 := h1 ha
        rw [if_pos rfl] at hv
        subst hv
        refine RMr [] [1210004] 40 ?_
        repeat' first | (refine ⟨fun _ => ?_, fun _ => ?_⟩ <;> try omega) | (refine ⟨by first | omega | (simp only [upm_ap, upd1_ap, Nat.reduceEqDiff, ↓reduceIte, eq_self] at * <;> omega) | fail, ?_⟩) | (exact h1) | (simp only [upm_ap, upd1_ap, Nat.reduceEqDiff, ↓reduceIte, eq_self] at *) | omega | fail
      | false =>
        rw [ha] at hv
        have h0 := h0 ha
        rw [if_neg (by decide)] at hv
        subst hv
        refine RMr [] [1210004] 40 ?_
        repeat' first | (refine ⟨fun _ => ?_, fun _ => ?_⟩ <;> try omega) | (refine ⟨by first | omega | (simp only [upm_ap, upd1_ap, Nat.reduceEqDiff, ↓reduceIte, eq_self] at * <;> omega) | fail, ?_⟩) | (exact h0) | (simp only [upm_ap, upd1_ap, Nat.reduceEqDiff, ↓reduceIte, eq_self] at *) | omega | fail
    · intro k k0 k1 ih v x3 x4 hv
      have hN := hN k.toNat (by omega)
      have hok := hok k.toNat (by omega)
      rw [show (k + 1).toNat = k.toNat + 1 by omega] at ih
      simp only [any_s (show k.toNat < nn.length by omega)] at ih
      generalize hx : nn.getD k.toNat (0, 0) = x at hN hok ih
      obtain ⟨a, s⟩ := x
      rw [show ((k.toNat : Nat) : Int) = k by omega] at hN
      dsimp only at hN hok
      -- after the inner loop
      have aft : ∀ w x4, w = (if nmE t n q (a, s) then 1 else 0) → RM d 121 (95, [some (mR 1026), some (mI v), some (mI k), some (mI w), x4], [], m) Q := by
        intro w x4 hw
        by_cases hv1 : (nn.take k.toNat).any (nmE t n q) = true
        · rw [if_pos hv1] at hv
          subst hv
          have ih := ih 1 (some (mI w)) x4 (by rw [hv1]; rfl)
          refine RMr [] [1210004] 40 ?_
          repeat' first | (refine ⟨fun _ => ?_, fun _ => ?_⟩ <;> try omega) | (refine ⟨by first | omega | (simp only [upm_ap, upd1_ap, Nat.reduceEqDiff, ↓reduceIte, eq_self] at * <;> omega) | fail, ?_⟩) | (exact ih) | (simp only [upm_ap, upd1_ap, Nat.reduceEqDiff, ↓reduceIte, eq_self] at *) | omega | fail
        · rw [if_neg hv1] at hv
          subst hv
          by_cases hw1 : nmE t n q (a, s) = true
          · rw [if_pos hw1] at hw
            subst hw
            have ih := ih 1 (some (mI 1)) x4 (by rw [hw1, Bool.or_true]; rfl)
            refine RMr [] [1210004] 40 ?_
            repeat' first | (refine ⟨fun _ => ?_, fun _ => ?_⟩ <;> try omega) | (refine ⟨by first | omega | (simp only [upm_ap, upd1_ap, Nat.reduceEqDiff, ↓reduceIte, eq_self] at * <;> omega) | fail, ?_⟩) | (exact ih) | (simp only [upm_ap, upd1_ap, Nat.reduceEqDiff, ↓reduceIte, eq_self] at *) | omega | fail
          · rw [if_neg hw1] at hw
            subst hw
            have ih := ih 0 (some (mI 0)) x4 (by rw [show nmE t n q (a, s) = false by simpa using hw1, show (nn.take k.toNat).any (nmE t n q) = false by simpa using hv1]; rfl)
            refine RMr [] [1210004] 40 ?_
            repeat' first | (refine ⟨fun _ => ?_, fun _ => ?_⟩ <;> try omega) | (refine ⟨by first | omega | (simp only [upm_ap, upd1_ap, Nat.reduceEqDiff, ↓reduceIte, eq_self] at * <;> omega) | fail, ?_⟩) | (exact ih) | (simp only [upm_ap, upd1_ap, Nat.reduceEqDiff, ↓reduceIte, eq_self] at *) | omega | fail
      by_cases hs : s = tke t n q - q
      · have inn : ∀ j : Int, 0 ≤ j → j ≤ s → (∀ i : Nat, (i : Int) < j → t (q + i) = t (a + i)) → RM d 121 (39, [some (mR 1026), some (mI v), some (mI k), some (mI 1), some (mI j)], [], m) Q := by
          refine up_ind ?_ ?_
          · intro hj
            have aft := aft 1 (some (mI s)) (by
              rw [if_pos]
              unfold nmE
              rw [Bool.and_eq_true]
              refine ⟨decide_eq_true hs, List.all_eq_true.mpr (fun i hi => decide_eq_true (hj i ?_))⟩
              have := List.mem_range.mp hi
              have : i < s.toNat := this
              omega)
            clear ih
            refine RMr [] [1210039, 1210095] 40 ?_
            repeat' first | (refine ⟨fun _ => ?_, fun _ => ?_⟩ <;> try omega) | (refine ⟨by first | omega | (simp only [upm_ap, upd1_ap, Nat.reduceEqDiff, ↓reduceIte, eq_self] at * <;> omega) | fail, ?_⟩) | (exact aft) | (simp only [upm_ap, upd1_ap, Nat.reduceEqDiff, ↓reduceIte, eq_self] at *) | omega | fail
          · intro j j0 j1 ihj hj
            have aft := aft 0 (some (mI (j + 1)))
            have b1 : m 13 (m 16 0 + j) = t (q + j) := by rw [g1, e1]
            have b2 : m 13 (m 25 k + j) = t (a + j) := by rw [g1, hN.1]
            by_cases hc : t (q + j) = t (a + j)
            · have ihj := ihj (fun i hi => by
                by_cases hij : (i : Int) = j
                · rw [hij]; exact hc
                · exact hj i (by omega))
              clear ih aft
              refine RMr [] [1210039, 1210095] 60 ?_
              repeat' first | (refine ⟨fun _ => ?_, fun _ => ?_⟩ <;> try omega) | (refine ⟨by first | omega | (simp only [upm_ap, upd1_ap, Nat.reduceEqDiff, ↓reduceIte, eq_self] at * <;> omega) | fail, ?_⟩) | (exact ihj) | (simp only [upm_ap, upd1_ap, Nat.reduceEqDiff, ↓reduceIte, eq_self] at *) | omega | fail
            · have aft := aft (by
                rw [if_neg]
                intro hh
                unfold nmE at hh
                rw [Bool.and_eq_true] at hh
                have := of_decide_eq_true (List.all_eq_true.mp hh.2 j.toNat (List.mem_range.mpr (by show j.toNat < s.toNat; omega)))
                rw [show ((j.toNat : Nat) : Int) = j by omega] at this
                exact hc this)
              clear ih ihj
              refine RMr [] [1210095] 90 ?_
              repeat' first | (refine ⟨fun _ => ?_, fun _ => ?_⟩ <;> try omega) | (refine ⟨by first | omega | (simp only [upm_ap, upd1_ap, Nat.reduceEqDiff, ↓reduceIte, eq_self] at * <;> omega) | fail, ?_⟩) | (exact aft) | (simp only [upm_ap, upd1_ap, Nat.reduceEqDiff, ↓reduceIte, eq_self] at *) | omega | fail
        have go := inn 0 (Int.le_refl _) (by omega) (fun i hi => by omega)
        clear inn aft ih
        refine RMr [] [1210004, 1210039] 60 ?_
        repeat' first | (refine ⟨fun _ => ?_, fun _ => ?_⟩ <;> try omega) | (refine ⟨by first | omega | (simp only [upm_ap, upd1_ap, Nat.reduceEqDiff, ↓reduceIte, eq_self] at * <;> omega) | fail, ?_⟩) | (exact go) | (simp only [upm_ap, upd1_ap, Nat.reduceEqDiff, ↓reduceIte, eq_self] at *) | omega | fail
      · have aft := aft 0 (some (mI 0)) (by
          rw [if_neg]
          intro hh
          unfold nmE at hh
          rw [Bool.and_eq_true] at hh
          exact hs (of_decide_eq_true hh.1))
        clear ih
        refine RMr [] [1210004, 1210095] 60 ?_
        repeat' first | (refine ⟨fun _ => ?_, fun _ => ?_⟩ <;> try omega) | (refine ⟨by first | omega | (simp only [upm_ap, upd1_ap, Nat.reduceEqDiff, ↓reduceIte, eq_self] at * <;> omega) | fail, ?_⟩) | (exact aft) | (simp only [upm_ap, upd1_ap, Nat.reduceEqDiff, ↓reduceIte, eq_self] at *) | omega | fail
  have go := key 0 (Int.le_refl _) (by omega) 0 x3 x4 (by rfl)
  clear key
  refine RMr [] [1210004] 40 ?_
  repeat' first | (refine ⟨fun _ => ?_, fun _ => ?_⟩ <;> try omega) | (refine ⟨by first | omega | (simp only [upm_ap, upd1_ap, Nat.reduceEqDiff, ↓reduceIte, eq_self] at * <;> omega) | fail, ?_⟩) | (exact go) | (simp only [upm_ap, upd1_ap, Nat.reduceEqDiff, ↓reduceIte, eq_self] at *) | omega | fail
end
