/-! THE DESK READS: trees, frames -/
set_option maxHeartbeats 3200000
set_option maxRecDepth 100000
/-- as TS, TC; all cells from lo on, below hi -/
def TSb (lo hi : Int) (m : mD) : Nat → Int → List Int → Prop
  | 0, _, _ => False
  | n + 1, a, c => (lo ≤ a ∧ a < hi) ∧ ((m.2.1 a = 8 ∧ (0 ≤ m.1 800 a 0 ∧ m.1 800 a 0 ≤ 9999) ∧ c = [m.1 800 a 0]) ∨ (m.2.1 a = 9 ∧ (0 ≤ m.1 900 a 0 ∧ m.1 900 a 0 < 13) ∧ c = [10000 + m.1 900 a 0]) ∨
    (m.2.1 a = 10 ∧ ∃ c1 c2 s, TSb lo hi m n (m.1 1001 a 0) c1 ∧ TSb lo hi m n (m.1 1002 a 0) c2 ∧ (m.1 1000 a 0 = 43 ∧ s = -1 ∨ m.1 1000 a 0 = 45 ∧ s = -2 ∨ m.1 1000 a 0 = 42 ∧ s = -3) ∧ c = c1 ++ (c2 ++ [s])))
def TCb (lo hi : Int) (m : mD) : Nat → Int → List Int → Prop
  | 0, _, _ => False
  | n + 1, a, c => (lo ≤ a ∧ a < hi) ∧ ((m.2.1 a = 11 ∧ ∃ c1 c2 s, TSb lo hi m n (m.1 1101 a 0) c1 ∧ TSb lo hi m n (m.1 1102 a 0) c2 ∧ (m.1 1100 a 0 = 60 ∧ s = -4 ∨ m.1 1100 a 0 = 62 ∧ s = -5 ∨ m.1 1100 a 0 = 61 ∧ s = -6) ∧ c = c1 ++ (c2 ++ [s])) ∨
    (m.2.1 a = 12 ∧ m.2.1 (m.1 1201 a 0) = 11201 ∧ (lo ≤ m.1 1201 a 0 ∧ m.1 1201 a 0 < hi) ∧ ∃ c0 cs, (m.1 21201 (m.1 1201 a 0) 0 = ((c0 :: cs).length : Int)) ∧ m.1 21201 (m.1 1201 a 0) 0 ≤ 1000 ∧ (∀ i : Nat, i < (c0 :: cs).length → TCb lo hi m n (m.1 11201 (m.1 1201 a 0) i) ((c0 :: cs).getD i [])) ∧ (m.1 1200 a 0 = 1 ∧ c = jcode (-7) c0 cs ∨ m.1 1200 a 0 = 0 ∧ c = jcode (-8) c0 cs)) ∨
    (m.2.1 a = 13 ∧ ∃ c1, TCb lo hi m n (m.1 1300 a 0) c1 ∧ c = c1 ++ [-9]))
section
variable {lo hi lo' hi' : Int} {m m' : mD}
theorem TSb.ts : ∀ {n : Nat} {a : Int} {c : List Int}, TSb lo hi m n a c → TS m n a c
  | 0, _, _, h => h.elim
  | n + 1, a, c, ⟨_, h⟩ => by
    rcases h with h | h | ⟨h1, c1, c2, s, h2, h3, h4⟩
    · exact Or.inl h
    · exact Or.inr (Or.inl h)
    · exact Or.inr (Or.inr ⟨h1, c1, c2, s, h2.ts, h3.ts, h4⟩)
theorem TSb.cg : ∀ {n n' : Nat} {a : Int} {c : List Int}, TSb lo hi m n a c → n ≤ n' → lo' ≤ lo → hi ≤ hi' → (∀ g b, lo ≤ b → b < hi → m'.1 g b = m.1 g b) → (∀ b, lo ≤ b → b < hi → m'.2.1 b = m.2.1 b) → TSb lo' hi' m' n' a c
  | 0, _, _, _, h, _, _, _, _, _ => h.elim
  | n + 1, 0, _, _, _, hn, _, _, _, _ => absurd hn (by omega)
  | n + 1, n' + 1, a, c, ⟨hb, h⟩, hn, hl, hh, hg, hk => by
    refine ⟨by omega, ?_⟩
    rw [hk a hb.1 hb.2, hg 800 a hb.1 hb.2, hg 900 a hb.1 hb.2, hg 1000 a hb.1 hb.2, hg 1001 a hb.1 hb.2, hg 1002 a hb.1 hb.2]
    rcases h with h | h | ⟨h1, c1, c2, s, h2, h3, h4⟩
    · exact Or.inl h
    · exact Or.inr (Or.inl h)
    · exact Or.inr (Or.inr ⟨h1, c1, c2, s, h2.cg (by omega) hl hh hg hk, h3.cg (by omega) hl hh hg hk, h4⟩)
theorem TCb.tc : ∀ {n : Nat} {a : Int} {c : List Int}, TCb lo hi m n a c → TC m n a c
  | 0, _, _, h => h.elim
  | n + 1, a, c, ⟨_, h⟩ => by
    rcases h with ⟨h1, c1, c2, s, h2, h3, h4⟩ | ⟨h1, h2, _, c0, cs, h4, h5, h6, h7⟩ | ⟨h1, c1, h2, h3⟩
    · exact Or.inl ⟨h1, c1, c2, s, h2.ts, h3.ts, h4⟩
    · exact Or.inr (Or.inl ⟨h1, h2, c0, cs, h4, h5, fun i hi => (h6 i hi).tc, h7⟩)
    · exact Or.inr (Or.inr ⟨h1, c1, h2.tc, h3⟩)
theorem TCb.cg : ∀ {n n' : Nat} {a : Int} {c : List Int}, TCb lo hi m n a c → n ≤ n' → lo' ≤ lo → hi ≤ hi' → (∀ g b, lo ≤ b → b < hi → m'.1 g b = m.1 g b) → (∀ b, lo ≤ b → b < hi → m'.2.1 b = m.2.1 b) → TCb lo' hi' m' n' a c
  | 0, _, _, _, h, _, _, _, _, _ => h.elim
  | n + 1, 0, _, _, _, hn, _, _, _, _ => absurd hn (by omega)
  | n + 1, n' + 1, a, c, ⟨hb, h⟩, hn, hl, hh, hg, hk => by
    refine ⟨by omega, ?_⟩
    rw [hk a hb.1 hb.2, hg 1100 a hb.1 hb.2, hg 1101 a hb.1 hb.2, hg 1102 a hb.1 hb.2, hg 1200 a hb.1 hb.2, hg 1201 a hb.1 hb.2, hg 1300 a hb.1 hb.2]
    rcases h with ⟨h1, c1, c2, s, h2, h3, h4⟩ | ⟨h1, h2, hb2, c0, cs, h4, h5, h6, h7⟩ | ⟨h1, c1, h2, h3⟩
    · exact Or.inl ⟨h1, c1, c2, s, h2.cg (by omega) hl hh hg hk, h3.cg (by omega) hl hh hg hk, h4⟩
    · refine Or.inr (Or.inl ⟨h1, ?_⟩)
      rw [hk _ hb2.1 hb2.2, hg 21201 _ hb2.1 hb2.2, hg 11201 _ hb2.1 hb2.2]
      exact ⟨h2, by omega, c0, cs, h4, h5, fun i hi => (h6 i hi).cg (by omega) hl hh hg hk, h7⟩
    · exact Or.inr (Or.inr ⟨h1, c1, h2.cg (by omega) hl hh hg hk, h3⟩)
theorem TSb.b {n : Nat} {a : Int} {c : List Int} (h : TSb lo hi m n a c) : lo ≤ a ∧ a < hi ∧ (8 ≤ m.2.1 a ∧ m.2.1 a ≤ 10) := by
  cases n with
  | zero => exact h.elim
  | succ n =>
    refine ⟨h.1.1, h.1.2, ?_⟩
    rcases h.2 with h | h | h <;> (have := h.1; omega)
theorem TCb.b {n : Nat} {a : Int} {c : List Int} (h : TCb lo hi m n a c) : lo ≤ a ∧ a < hi ∧ (11 ≤ m.2.1 a ∧ m.2.1 a ≤ 13) := by
  cases n with
  | zero => exact h.elim
  | succ n =>
    refine ⟨h.1.1, h.1.2, ?_⟩
    rcases h.2 with h | h | h <;> (have := h.1; omega)
end
/-- reading changes the reader and the list of tests L alone -/
def RX (r L : Int) (m m' : mD) : Prop := m.2.2.1 ≤ m'.2.2.1 ∧ (∀ b, b < m.2.2.1 → m'.2.1 b = m.2.1 b) ∧ ∀ g b, b < m.2.2.1 → m'.1 g b = m.1 g b ∨ (b = r ∧ m_has [402, 403, 404, 405, 407, 408] g = true) ∨ (b = L ∧ L ≠ 0 ∧ m_has [11604, 21604] g = true)
section
variable {r L : Int} {m m' m'' : mD} {lo hi : Int}
theorem RX.rfl : RX r L m m := ⟨Int.le_refl _, fun _ _ => Eq.refl _, fun _ _ _ => Or.inl (Eq.refl _)⟩
theorem RX.tr (h : RX r L m m') (h2 : RX r L m' m'') : RX r L m m'' := by
  have := h.1
  refine ⟨Int.le_trans h.1 h2.1, fun b hb => (h2.2.1 b (by omega)).trans (h.2.1 b hb), fun g b hb => ?_⟩
  rcases h2.2.2 g b (by omega) with e | e
  · rw [e]; exact h.2.2 g b hb
  · exact Or.inr e
theorem RC.x (h : RC r m m') : RX r L m m' := by
  refine ⟨by rw [h.1]; exact Int.le_refl _, fun b _ => by rw [h.1], fun g b _ => ?_⟩
  rcases h.2 g b with e | e
  · exact Or.inl e
  · refine Or.inr (Or.inl ⟨e.1, ?_⟩)
    have : ∀ g ∈ [402, 403, 404, 407, 408], m_has [402, 403, 404, 405, 407, 408] g = true := by decide
    exact this g (mh_in e.2)
/-- cells but the reader and L -/
theorem RX.o (h : RX r L m m') {b : Int} (hb : b < m.2.2.1) (h1 : b ≠ r) (h2 : b ≠ L) (g : Nat) : m'.1 g b = m.1 g b := by
  rcases h.2.2 g b hb with e | e | e
  · exact e
  · exact absurd e.1 h1
  · exact absurd e.1 h2
theorem RX.g (h : RX r L m m') {b : Int} (hb : b < m.2.2.1) {g : Nat} (hg : m_has [402, 403, 404, 405, 407, 408, 11604, 21604] g = false) : m'.1 g b = m.1 g b := by
  rcases h.2.2 g b hb with e | e | e
  · exact e
  · have : ∀ g ∈ [402, 403, 404, 405, 407, 408], m_has [402, 403, 404, 405, 407, 408, 11604, 21604] g = true := by decide
    rw [this g (mh_in e.2)] at hg; cases hg
  · have : ∀ g ∈ [11604, 21604], m_has [402, 403, 404, 405, 407, 408, 11604, 21604] g = true := by decide
    rw [this g (mh_in e.2.2)] at hg; cases hg
/-- no list -/
theorem RX.l (h : RX r 0 m m') : RX r L m m' := ⟨h.1, h.2.1, fun g b hb => by
  rcases h.2.2 g b hb with e | e | e
  · exact Or.inl e
  · exact Or.inr (Or.inl e)
  · exact absurd (Eq.refl (0 : Int)) e.2.1⟩
theorem TSb.x {n n' : Nat} {a : Int} {c : List Int} (h : TSb lo hi m n a c) (hx : RX r L m m') (hh : hi ≤ m.2.2.1) (hn : n ≤ n') (hr : r < lo) (hL : L < lo) {hi' : Int} (hi2 : hi ≤ hi') : TSb lo hi' m' n' a c := h.cg hn (Int.le_refl _) hi2 (fun g b b0 b1 => hx.o (by omega) (by omega) (by omega) g) (fun b b0 b1 => hx.2.1 b (by omega))
theorem TCb.x {n n' : Nat} {a : Int} {c : List Int} (h : TCb lo hi m n a c) (hx : RX r L m m') (hh : hi ≤ m.2.2.1) (hn : n ≤ n') (hr : r < lo) (hL : L < lo) {hi' : Int} (hi2 : hi ≤ hi') : TCb lo hi' m' n' a c := h.cg hn (Int.le_refl _) hi2 (fun g b b0 b1 => hx.o (by omega) (by omega) (by omega) g) (fun b b0 b1 => hx.2.1 b (by omega))
/-- a new cell -/
theorem dal_x {a : Int} {k : Nat} {c : Int} (ha : m.2.2.1 ≤ a) : RX r L m (dal m a k c) ∧ (∀ g i, (dal m a k c).1 g a i = 0) ∧ (dal m a k c).2.1 a = k ∧ (dal m a k c).2.2.1 = a + 1 ∧ (dal m a k c).2.2.2 = m.2.2.2 - c := by
  refine ⟨⟨by show _ ≤ a + 1; omega, fun b hb => ?_, fun g b hb => Or.inl ?_⟩, fun g i => ?_, ?_, rfl, rfl⟩
  · show (if b = a then k else m.2.1 b) = _
    rw [if_neg (by omega)]
  · show (if b = a then (fun _ => 0) else m.1 g b) = _
    rw [if_neg (by omega)]
  · show (if a = a then (fun _ => (0 : Int)) else m.1 g a) i = 0
    rw [if_pos (Eq.refl a)]
  · show (if a = a then k else m.2.1 a) = k
    rw [if_pos (Eq.refl a)]
/-- a store into a cell that was not there before -/
theorem RX.st (h : RX r L m m') {a : Int} (ha : m.2.2.1 ≤ a) {g : Nat} {i v : Int} : RX r L m (dst m' g a i v) := ⟨h.1, h.2.1, fun g' b hb => by rw [ds_o (by omega)]; exact h.2.2 g' b hb⟩
end
/-- a fault thrown -/
def WT (r L : Int) (m0 : mD) (k p B : Int) (w : Int) (m : mD) : Prop := RX r L m0 m ∧ (m.2.1 w = 5 ∧ m.1 506 w 0 = k ∧ m.1 507 w 0 = p ∧ m0.2.2.1 ≤ w ∧ w < m.2.2.1) ∧ (1 ≤ k ∧ k ≤ 4) ∧ B ≤ m.2.2.2
section
variable {d : Nat} {m m0 m1 : mD} {Q : mQ mD} {t : Int → Int} {n r L : Int} {nm : Nat} {q o ai : Int}
theorem DS.x {o' : Int} (h : DS t n nm q o ai r m) (hx : RX r L m m1) (hb : L ≠ r) (hr : m1.1 402 r 0 = m.1 402 r 0 ∧ m1.1 403 r 0 = m.1 403 r 0 ∧ m1.1 404 r 0 = m.1 404 r 0 ∧ m1.1 405 r 0 = o' ∧ m1.1 407 r 0 = m.1 407 r 0 ∧ m1.1 408 r 0 = m.1 408 r 0) (ho : 0 ≤ o' ∧ o' ≤ 4) : DS t n nm q o' ai r m1 := by
  obtain ⟨⟨a1, a2, a3, a4, a5⟩, ⟨b1, b2, b3, b4, b5⟩, ⟨c1, c2, c3⟩, hq, ho2, hr1⟩ := h
  have e := fun g hg => hx.g (b := r) hr1.2 (g := g) hg
  have e5 : m1.1 10106 1005 = m.1 10106 1005 := hx.g (by omega) (by decide)
  have := hx.1
  exact ⟨⟨by rw [hx.2.1 r hr1.2]; exact a1, by rw [e 400 (by decide)]; exact a2, by rw [e 401 (by decide)]; exact a3, by rw [e5]; exact a4, a5⟩, ⟨by rw [hr.1]; exact b1, by rw [hr.2.1]; exact b2, by rw [hr.2.2.1]; exact b3, by rw [hr.2.2.2.2.1]; exact b4, by rw [hr.2.2.2.2.2]; exact b5⟩, ⟨hr.2.2.2.1, by rw [e 406 (by decide)]; exact c2, by rw [e 409 (by decide)]; exact c3⟩, hq, ho, by omega⟩
/-- the reader stays as it is -/
theorem DS.y (h : DS t n nm q o ai r m) (hx : RX r L m m1) (hb : L ≠ r) (hs : ∀ g, m_has [402, 403, 404, 405, 407, 408] g = true → m1.1 g r = m.1 g r) : DS t n nm q o ai r m1 := h.x hx hb ⟨by rw [hs 402 (by decide)], by rw [hs 403 (by decide)], by rw [hs 404 (by decide)], by rw [hs 405 (by decide)]; exact h.2.2.1.1, by rw [hs 407 (by decide)], by rw [hs 408 (by decide)]⟩ h.2.2.2.2.1
theorem DS.c (h : DS t n nm q o ai r m) {q' : Int} (hc : RC r m m1) (hk : DK t n q' r m1) (hq : 0 ≤ q' ∧ q' ≤ n) : DS t n nm q' o ai r m1 := by
  obtain ⟨a, b, ⟨c1, c2, c3⟩, hq, ho2, hr1⟩ := h
  exact ⟨a.c hc, hk, ⟨by rw [hc.n (by decide)]; exact c1, by rw [hc.n (by decide)]; exact c2, by rw [hc.n (by decide)]; exact c3⟩, by omega, ho2, by rw [hc.1]; exact hr1⟩
end
