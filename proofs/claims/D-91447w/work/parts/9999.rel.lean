/-! THE RELATION: frames -/
set_option maxHeartbeats 3200000
set_option maxRecDepth 100000
/-- the regions that texts lie in -/
abbrev trL : List Nat := [800, 900, 1000, 1001, 1002, 1100, 1101, 1102, 1200, 1201, 1300, 11201, 21201, 1600, 1601, 1602, 1603, 1604, 22700, 11604, 21604, 300, 301, 303, 10300, 20300, 10301, 700, 701]
section
variable {lo hi lo' hi' : Int} {m m' : mD}
theorem TSb.cr : ∀ {n n' : Nat} {a : Int} {c : List Int}, TSb lo hi m n a c → n ≤ n' → lo' ≤ lo → hi ≤ hi' → (∀ g b, m_has trL g = true → lo ≤ b → b < hi → m'.1 g b = m.1 g b) → (∀ b, lo ≤ b → b < hi → m'.2.1 b = m.2.1 b) → TSb lo' hi' m' n' a c
  | 0, _, _, _, h, _, _, _, _, _ => h.elim
  | n + 1, 0, _, _, _, hn, _, _, _, _ => absurd hn (by omega)
  | n + 1, n' + 1, a, c, ⟨hb, h⟩, hn, hl, hh, hg, hk => by
    refine ⟨by omega, ?_⟩
    rw [hk a hb.1 hb.2, hg 800 a (by decide) hb.1 hb.2, hg 900 a (by decide) hb.1 hb.2, hg 1000 a (by decide) hb.1 hb.2, hg 1001 a (by decide) hb.1 hb.2, hg 1002 a (by decide) hb.1 hb.2]
    rcases h with h | h | ⟨h1, c1, c2, s, h2, h3, h4⟩
    · exact Or.inl h
    · exact Or.inr (Or.inl h)
    · exact Or.inr (Or.inr ⟨h1, c1, c2, s, h2.cr (by omega) hl hh hg hk, h3.cr (by omega) hl hh hg hk, h4⟩)
theorem TCb.cr : ∀ {n n' : Nat} {a : Int} {c : List Int}, TCb lo hi m n a c → n ≤ n' → lo' ≤ lo → hi ≤ hi' → (∀ g b, m_has trL g = true → lo ≤ b → b < hi → m'.1 g b = m.1 g b) → (∀ b, lo ≤ b → b < hi → m'.2.1 b = m.2.1 b) → TCb lo' hi' m' n' a c
  | 0, _, _, _, h, _, _, _, _, _ => h.elim
  | n + 1, 0, _, _, _, hn, _, _, _, _ => absurd hn (by omega)
  | n + 1, n' + 1, a, c, ⟨hb, h⟩, hn, hl, hh, hg, hk => by
    refine ⟨by omega, ?_⟩
    rw [hk a hb.1 hb.2, hg 1100 a (by decide) hb.1 hb.2, hg 1101 a (by decide) hb.1 hb.2, hg 1102 a (by decide) hb.1 hb.2, hg 1200 a (by decide) hb.1 hb.2, hg 1201 a (by decide) hb.1 hb.2, hg 1300 a (by decide) hb.1 hb.2]
    rcases h with ⟨h1, c1, c2, s, h2, h3, h4⟩ | ⟨h1, h2, hb2, c0, cs, h4, h5, h6, h7⟩ | ⟨h1, c1, h2, h3⟩
    · exact Or.inl ⟨h1, c1, c2, s, h2.cr (by omega) hl hh hg hk, h3.cr (by omega) hl hh hg hk, h4⟩
    · refine Or.inr (Or.inl ⟨h1, ?_⟩)
      rw [hk _ hb2.1 hb2.2, hg 21201 _ (by decide) hb2.1 hb2.2, hg 11201 _ (by decide) hb2.1 hb2.2]
      exact ⟨h2, by omega, c0, cs, h4, h5, fun i hi => (h6 i hi).cr (by omega) hl hh hg hk, h7⟩
    · exact Or.inr (Or.inr ⟨h1, c1, h2.cr (by omega) hl hh hg hk, h3⟩)
theorem CMb.cr {n n' : Nat} {a : Int} {c : List Int} (h : CMb lo hi m n a c) (hn : n ≤ n') (hl : lo' ≤ lo) (hh : hi ≤ hi') (hg : ∀ g b, m_has trL g = true → lo ≤ b → b < hi → m'.1 g b = m.1 g b) (hk : ∀ b, lo ≤ b → b < hi → m'.2.1 b = m.2.1 b) : CMb lo' hi' m' n' a c := by
  obtain ⟨hb, h11, c1, c2, s, h2, h3, h4⟩ := h
  refine ⟨by omega, by rw [hk a hb.1 hb.2]; exact h11, c1, c2, s, ?_⟩
  rw [hg 1100 a (by decide) hb.1 hb.2, hg 1101 a (by decide) hb.1 hb.2, hg 1102 a (by decide) hb.1 hb.2]
  exact ⟨h2.cr hn hl hh hg hk, h3.cr hn hl hh hg hk, h4⟩
theorem AM.cr {a : Int} {c : Cl} (h : AM lo hi m a c) (hl : lo' ≤ lo) (hh : hi ≤ hi') (hg : ∀ g b, m_has trL g = true → lo ≤ b → b < hi → m'.1 g b = m.1 g b) (hk : ∀ b, lo ≤ b → b < hi → m'.2.1 b = m.2.1 b) : AM lo' hi' m' a c := by
  obtain ⟨⟨a1, a2, a3⟩, ⟨b1, b2, b3⟩, h3, h4, h5, c1, c2, c3, c4⟩ := h
  unfold AM
  rw [hk a a1 a2, hg 1600 a (by decide) a1 a2, hg 1601 a (by decide) a1 a2, hg 1602 a (by decide) a1 a2, hg 1603 a (by decide) a1 a2, hg 1604 a (by decide) a1 a2, hk _ b1.1 b1.2, hg 22700 _ (by decide) b1.1 b1.2, hk _ c1.1 c1.2, hg 21604 _ (by decide) c1.1 c1.2, hg 11604 _ (by decide) c1.1 c1.2]
  exact ⟨⟨by omega, by omega, a3⟩, ⟨by omega, b2, b3⟩, h3.cr (Nat.le_refl _) hl hh hg hk, h4.cr (Nat.le_refl _) hl hh hg hk, h5, by omega, c2, c3, fun i hi => (c4 i hi).cr (Nat.le_refl _) hl hh hg hk⟩
theorem ACp.cr {a : Int} {cs : List Cl} (h : ACp lo hi m a cs) (hl : lo' ≤ lo) (hh : hi ≤ hi') (hg : ∀ g b, m_has trL g = true → lo ≤ b → b < hi → m'.1 g b = m.1 g b) (hk : ∀ b, lo ≤ b → b < hi → m'.2.1 b = m.2.1 b) : ACp lo' hi' m' a cs := by
  obtain ⟨⟨⟨a1, a2, a3, a4⟩, a5, a6, a7⟩, b1, b2, b3, b4⟩ := h
  unfold ACp
  rw [hg 300 a (by decide) a1 (by omega), hg 301 a (by decide) a1 (by omega), hg 303 a (by decide) a1 (by omega), hk a a1 (by omega), hk _ (by omega) (show m.1 300 a 0 < hi by omega), hk _ (by omega) a4, hg 10301 _ (by decide) (by omega) a4, hg 20300 _ (by decide) (by omega) (show m.1 300 a 0 < hi by omega), hg 10300 _ (by decide) (by omega) (show m.1 300 a 0 < hi by omega)]
  refine ⟨⟨⟨by omega, a2, a3, by omega⟩, a5, a6, a7⟩, b1, b2, b3, fun i hi => ?_⟩
  obtain ⟨⟨c1, c2, c3⟩, c4, c5⟩ := b4 i hi
  rw [hk _ (by omega) c2, hg 700 _ (by decide) (by omega) c2, hg 701 _ (by decide) (by omega) c2]
  exact ⟨⟨c1, by omega, c3⟩, c4, c5.cr (Nat.le_refl _) (Int.le_refl _) hh (fun g b hg' b0 b1 => hg g b hg' (by omega) b1) (fun b b0 b1 => hk b (by omega) b1)⟩
end
/-- regions S may be written, new cells may be -/
def Fr (S : List Nat) (h h' : mD) : Prop := h.2.2.1 ≤ h'.2.2.1 ∧ (∀ b, b < h.2.2.1 → h'.2.1 b = h.2.1 b) ∧ ∀ g b, m_has S g = false → b < h.2.2.1 → h'.1 g b = h.1 g b
/-- no region of T is in S -/
abbrev dsj (T S : List Nat) : Prop := T.all (fun g => !m_has S g) = true
theorem dj {S : List Nat} : ∀ {T : List Nat}, dsj T S → ∀ {g : Nat}, m_has T g = true → m_has S g = false
  | [], _, _, hg => by cases hg
  | t :: T, h, g, hg => by
    unfold dsj at h
    rw [List.all_cons, Bool.and_eq_true] at h
    unfold m_has at hg
    cases hb : Nat.beq t g with
    | true =>
      have := Nat.eq_of_beq_eq_true hb
      subst this
      have := h.1
      revert this
      cases m_has S t <;> simp
    | false =>
      rw [hb] at hg
      exact dj h.2 hg
theorem Fr.tr {S : List Nat} {h h' h'' : mD} (a : Fr S h h') (b : Fr S h' h'') : Fr S h h'' := ⟨Int.le_trans a.1 b.1, fun x hx => (b.2.1 x (by have := a.1; omega)).trans (a.2.1 x hx), fun g x hg hx => (b.2.2 g x hg (by have := a.1; omega)).trans (a.2.2 g x hg hx)⟩
theorem Fr.rf {S : List Nat} {h : mD} : Fr S h h := ⟨Int.le_refl _, fun _ _ => rfl, fun _ _ _ _ => rfl⟩
theorem Fr.ex {S : List Nat} {h h' : mD} {c : Int} (a : Ex h h' c) : Fr S h h' := ⟨a.1, a.2.2.1, fun g b _ hb => a.2.1 g b hb⟩
theorem Fr.ds {S : List Nat} {h h' : mD} (a : Fr S h h') {g : Nat} {x i v : Int} (hg : m_has S g = true) : Fr S h (dst h' g x i v) := ⟨a.1, a.2.1, fun g' b hg' hb => by
  rw [ds_n (fun e => by subst e; rw [hg] at hg'; cases hg')]
  exact a.2.2 g' b hg' hb⟩
theorem Fr.dp {S : List Nat} {h h' : mD} (a : Fr S h h') {c : Int} : Fr S h (dpy h' c) := a
theorem Fr.up {S S' : List Nat} {h h' : mD} (a : Fr S h h') (hs : ∀ g, m_has S g = true → m_has S' g = true) : Fr S' h h' := ⟨a.1, a.2.1, fun g b hg hb => a.2.2 g b (by cases e : m_has S g with | false => rfl | true => rw [hs g e] at hg; cases hg) hb⟩
/-! THE RELATION: what it says -/
/-- ops only -/
def opsO (c : List Int) : Prop := ∀ s ∈ c, s = -7 ∨ s = -8 ∨ s = -9
/-- a condition's code: comparisons, ops between them -/
def cmpD : List Int → List (List Int) → Prop
  | c, [] => opsO c
  | c, x :: l => ∃ p r, opsO p ∧ c = p ++ (x ++ r) ∧ cmpD r l
/-- a list of Integers: persons, each once -/
def PL (h : mD) (r rs : Nat) (a : Int) (P : Int → Prop) : Prop := boxL h r rs a ∧ (∀ i, 0 ≤ i → i < h.1 rs a 0 → (0 ≤ h.1 2600 (h.1 r a i) 0 ∧ h.1 2600 (h.1 r a i) 0 < 100) ∧ ∀ j, 0 ≤ j → j < h.1 rs a 0 → h.1 2600 (h.1 r a i) 0 = h.1 2600 (h.1 r a j) 0 → i = j) ∧ ∀ p, hasV h r rs a p ↔ (0 ≤ p ∧ p < 100 ∧ P p)
def tOk (m : sg) (text : Int) : Prop := (20 ≤ text ∧ text < 20 + m 32 0) ∨ (32 ≤ text ∧ text < 32 + m 49 0)
/-- a row of the Model's texts that holds an end -/
def TRw (m : sg) (text row : Int) (c : Cl) : Prop := (20 * text ≤ row ∧ row < 20 * text + 20) ∧ (m 8 row = c.2.1 ∧ m 9 row = c.2.2.1 ∧ (c.2.2.1 = 0 ∨ c.2.2.1 = 1)) ∧ (0 ≤ m 10 row ∧ m 11 row = m 10 row + c.2.2.2.1.length ∧ m 12 row = m 11 row + c.2.2.2.2.1.length ∧ m 12 row ≤ 420) ∧ SL (fun k => m 4 (420 * text + k)) (m 10 row) c.2.2.2.1 ∧ SL (fun k => m 4 (420 * text + k)) (m 11 row) c.2.2.2.2.1 ∧ cmpD c.2.2.2.2.1 c.2.2.2.2.2.1
def AIm (h : mD) (m : sg) (a text row : Int) : Prop := tOk m text ∧ ∃ c, AM 1076 h.2.2.1 h a c ∧ TRw m text row c
def RNow (h : mD) (m : sg) : Prop := h.1 105 1000 0 = m 1 0 ∧ 0 ≤ m 1 0 ∧ m 1 0 ≤ 36000
def RFc (h : mD) (m : sg) : Prop := (h.1 104 1000 0 = m 2 0 ∧ 0 ≤ m 2 0 ∧ m 2 0 ≤ 300) ∧ ∀ k, 0 ≤ k → k < m 2 0 → h.1 10100 1001 k = m 3 (4 * k) ∧ h.1 10101 1002 k = m 3 (4 * k + 1) ∧ h.1 10102 1003 k = m 3 (4 * k + 3) ∧ h.1 10103 1004 k = m 3 (4 * k + 2) ∧ (0 ≤ m 3 (4 * k + 2) ∧ m 3 (4 * k + 2) ≤ 9999)
def RTp (h : mD) (m : sg) : Prop := (h.1 107 1000 0 = m 14 0 ∧ 0 ≤ m 14 0 ∧ m 14 0 ≤ 400) ∧ h.1 108 1000 0 = m 21 0 ∧ ∀ k, 0 ≤ k → k < m 14 0 → h.1 10106 1005 k = m 13 k ∧ -128 ≤ m 13 k ∧ m 13 k ≤ 127
def RAc (h : mD) (m : sg) : Prop := (h.2.1 1006 = 10109 ∧ (h.1 20109 1006 0) = m 27 0 ∧ 0 ≤ m 27 0 ∧ m 27 0 ≤ 20) ∧ ACp 1008 1012 h 1008 [] ∧ ∀ k, 0 ≤ k → k < m 27 0 → h.1 302 ((h.1 10109 1006 k)) 0 = m 28 k ∧ ∃ cs, ACp 1076 h.2.2.1 h ((h.1 10109 1006 k)) cs ∧ TX m k cs ∧ akOk 400 cs
def REn (h : mD) (m : sg) : Prop := (h.1 118 1000 0 = m 51 0 ∧ 0 ≤ m 51 0 ∧ m 51 0 ≤ 600) ∧ ∀ k, 0 ≤ k → k < m 51 0 → h.1 10114 1017 k = m 52 (4 * k) ∧ h.1 10115 1018 k = m 52 (4 * k + 1) ∧ h.1 10116 1019 k = m 52 (4 * k + 2) ∧ h.1 10117 1020 k = m 52 (4 * k + 3)
def RPd (h : mD) (m : sg) : Prop := ∀ k, 0 ≤ k → k < 12 → h.1 10113 1016 k = m 42 k ∧ 0 ≤ m 42 k ∧ m 42 k ≤ 2000000000000 * (m 1 0 / 360)
def RAo (h : mD) (m : sg) : Prop := (h.1 123 1000 0 = m 70 0 ∧ 0 ≤ m 70 0 ∧ m 70 0 ≤ 200) ∧ (∀ k, 0 ≤ k → k < m 70 0 → (0 ≤ h.1 10121 1024 k ∧ h.1 10121 1024 k < 12) ∧ (0 ≤ h.1 10122 1025 k ∧ h.1 10122 1025 k ≤ 100) ∧ m 71 (101 * h.1 10121 1024 k + h.1 10122 1025 k) ≠ 0) ∧ ∀ f y, 0 ≤ f → f < 12 → 0 ≤ y → y ≤ 100 → m 71 (101 * f + y) ≠ 0 → ∃ k, 0 ≤ k ∧ k < m 70 0 ∧ h.1 10121 1024 k = f ∧ h.1 10122 1025 k = y
/-- an inner cell: its kind, its place -/
abbrev cel (h : mD) (a : Int) (k : Nat) : Prop := h.2.1 a = k ∧ 1075 < a ∧ a < h.2.2.1
def RFl (h : mD) (m : sg) : Prop := (h.2.1 1012 = 10111 ∧ (h.1 20111 1012 0) = m 32 0 ∧ 0 ≤ m 32 0 ∧ m 32 0 ≤ 12) ∧ ∀ f, 0 ≤ f → f < m 32 0 → cel h ((h.1 10111 1012 f)) 14 ∧ h.1 1400 ((h.1 10111 1012 f)) 0 = f ∧ cel h (h.1 1403 ((h.1 10111 1012 f)) 0) 11403 ∧ cel h (h.1 1404 ((h.1 10111 1012 f)) 0) 11404 ∧ cel h (h.1 1405 ((h.1 10111 1012 f)) 0) 11405 ∧ ∀ g, 0 ≤ g → g < m 32 0 → g ≠ f → h.1 1403 ((h.1 10111 1012 g)) 0 ≠ h.1 1403 ((h.1 10111 1012 f)) 0 ∧ h.1 1404 ((h.1 10111 1012 g)) 0 ≠ h.1 1404 ((h.1 10111 1012 f)) 0 ∧ h.1 1405 ((h.1 10111 1012 g)) 0 ≠ h.1 1405 ((h.1 10111 1012 f)) 0
/-- a fund's numbers -/
def RFv (h : mD) (m : sg) : Prop := ∀ f, 0 ≤ f → f < m 32 0 → (h.1 1401 ((h.1 10111 1012 f)) 0 = m 38 f ∧ h.1 1402 ((h.1 10111 1012 f)) 0 = m 39 f ∧ h.1 1406 ((h.1 10111 1012 f)) 0 = m 33 f ∧ h.1 1407 ((h.1 10111 1012 f)) 0 = m 34 f ∧ h.1 1408 ((h.1 10111 1012 f)) 0 = m 36 f ∧ h.1 1409 ((h.1 10111 1012 f)) 0 = m 66 f ∧ h.1 1410 ((h.1 10111 1012 f)) 0 = m 35 f) ∧ (1 ≤ m 38 f ∧ m 38 f ≤ 7) ∧ (1 ≤ m 39 f ∧ m 39 f ≤ 7) ∧ (0 ≤ m 33 f ∧ m 33 f ≤ 999) ∧ (0 ≤ m 34 f ∧ m 34 f ≤ 99999) ∧ (0 ≤ m 36 f ∧ m 36 f ≤ 255) ∧ (0 ≤ m 66 f ∧ m 66 f ≤ 7) ∧ (0 ≤ m 35 f ∧ m 35 f ≤ 1000000000000000)
def RFj (h : mD) (m : sg) : Prop := ∀ f, 0 ≤ f → f < m 32 0 → (m 37 f = -1 ∧ h.1 1411 ((h.1 10111 1012 f)) 0 = 0) ∨ (0 ≤ m 37 f ∧ m 37 f < m 32 0 ∧ h.1 1411 ((h.1 10111 1012 f)) 0 = (h.1 10111 1012 (m 37 f)))
def RFp (h : mD) (m : sg) : Prop := ∀ f, 0 ≤ f → f < m 32 0 → (∀ j, 0 ≤ j → j < 12 → h.1 11405 (h.1 1405 ((h.1 10111 1012 f)) 0) j = m 41 (12 * f + j) ∧ 0 ≤ m 41 (12 * f + j) ∧ m 41 (12 * f + j) ≤ 1000000) ∧ sm (fun j => m 41 (12 * f + j)) 12 = 1000000
def RFe (h : mD) (m : sg) : Prop := ∀ f, 0 ≤ f → f < m 32 0 → ((h.1 21403 (h.1 1403 (h.1 10111 1012 f) 0) 0) = m 43 f ∧ 0 ≤ m 43 f ∧ m 43 f ≤ 72) ∧ ∀ e, 0 ≤ e → e < m 43 f → cel h ((h.1 11403 (h.1 1403 (h.1 10111 1012 f) 0) e)) 17 ∧ (h.1 1701 ((h.1 11403 (h.1 1403 (h.1 10111 1012 f) 0) e)) 0 = m 46 (80 * f + e) ∧ h.1 1702 ((h.1 11403 (h.1 1403 (h.1 10111 1012 f) 0) e)) 0 = m 47 (80 * f + e) ∧ h.1 1703 ((h.1 11403 (h.1 1403 (h.1 10111 1012 f) 0) e)) 0 = m 48 (80 * f + e)) ∧ ((0 ≤ m 46 (80 * f + e) ∧ m 46 (80 * f + e) ≤ 2) ∧ (0 ≤ m 47 (80 * f + e) ∧ m 47 (80 * f + e) ≤ 50) ∧ (m 46 (80 * f + e) = 0 → m 47 (80 * f + e) < 50)) ∧ ∀ g i, 0 ≤ g → g < m 32 0 → 0 ≤ i → i < m 43 g → (h.1 11403 (h.1 1403 (h.1 10111 1012 g) 0) i) = (h.1 11403 (h.1 1403 (h.1 10111 1012 f) 0) e) → g = f ∧ i = e
def RFa (h : mD) (m : sg) : Prop := ∀ f e, 0 ≤ f → f < m 32 0 → 0 ≤ e → e < m 43 f → AIm h m (h.1 1700 ((h.1 11403 (h.1 1403 (h.1 10111 1012 f) 0) e)) 0) (m 44 (80 * f + e)) (m 45 (80 * f + e))
def RFt (h : mD) (m : sg) : Prop := ∀ f, 0 ≤ f → f < m 32 0 → PL h 11404 21404 (h.1 1404 ((h.1 10111 1012 f)) 0) (fun p => m 40 (100 * f + p) ≠ 0) ∧ h.1 21404 (h.1 1404 ((h.1 10111 1012 f)) 0) 0 ≤ m 38 f
def RNe (h : mD) (m : sg) : Prop := (h.2.1 1014 = 10112 ∧ (h.1 20112 1014 0) = m 49 0 ∧ 0 ≤ m 49 0 ∧ m 49 0 ≤ 12) ∧ ∀ k, 0 ≤ k → k < m 49 0 → cel h ((h.1 10112 1014 k)) 18 ∧ h.1 1801 ((h.1 10112 1014 k)) 0 = m 50 k ∧ (0 ≤ m 50 k ∧ m 50 k ≤ 255) ∧ AIm h m (h.1 1800 ((h.1 10112 1014 k)) 0) (32 + k) (20 * (32 + k))
/-- a scheme's object -/
def RSl (h : mD) (m : sg) : Prop := (h.2.1 1022 = 10120 ∧ (h.1 20120 1022 0) = m 53 0 ∧ 0 ≤ m 53 0 ∧ m 53 0 ≤ 40) ∧ ∀ s, 0 ≤ s → s < m 53 0 → ((0 ≤ m 54 s ∧ m 54 s ≤ 3) ∧ ((h.2.1 ((h.1 10120 1022 s)) : Nat) : Int) = 19 + m 54 s ∧ 1075 < (h.1 10120 1022 s) ∧ (h.1 10120 1022 s) < h.2.2.1) ∧ (h.1 1900 ((h.1 10120 1022 s)) 0 = (h.1 10111 1012 (m 55 s)) ∧ 0 ≤ m 55 s ∧ m 55 s < m 32 0) ∧ (h.1 1901 ((h.1 10120 1022 s)) 0 = m 56 s ∧ h.1 1902 ((h.1 10120 1022 s)) 0 = m 57 s ∧ h.1 1903 ((h.1 10120 1022 s)) 0 = m 58 s) ∧ h.1 1909 ((h.1 10120 1022 s)) 0 = 1000 ∧ (m 54 s = 0 → h.1 1910 ((h.1 10120 1022 s)) 0 = 1000 ∧ 0 ≤ m 56 s ∧ m 56 s < m 49 0) ∧ (m 54 s = 1 → h.1 2010 ((h.1 10120 1022 s)) 0 = (h.1 10111 1012 (m 56 s)) ∧ h.1 2011 ((h.1 10120 1022 s)) 0 = 1000 ∧ 0 ≤ m 56 s ∧ m 56 s < m 32 0) ∧ (m 54 s = 2 → h.1 2110 ((h.1 10120 1022 s)) 0 = 1000 ∧ 1 ≤ m 56 s ∧ m 56 s ≤ 999) ∧ (m 54 s = 3 → 0 ≤ m 56 s) ∧ ∀ g, 0 ≤ g → g < m 53 0 → g ≠ s → (h.1 10120 1022 g) ≠ (h.1 10120 1022 s) ∧ h.1 1904 ((h.1 10120 1022 g)) 0 ≠ h.1 1904 ((h.1 10120 1022 s)) 0 ∧ h.1 1905 ((h.1 10120 1022 g)) 0 ≠ h.1 1905 ((h.1 10120 1022 s)) 0
def RSv (h : mD) (m : sg) : Prop := ∀ s, 0 ≤ s → s < m 53 0 → (h.1 1907 ((h.1 10120 1022 s)) 0 = m 59 s ∧ h.1 1908 ((h.1 10120 1022 s)) 0 = m 60 s) ∧ (0 ≤ m 59 s ∧ m 59 s ≤ 2)
def RSo (h : mD) (m : sg) : Prop := ∀ s, 0 ≤ s → s < m 53 0 → PL h 11904 21904 (h.1 1904 ((h.1 10120 1022 s)) 0) (fun p => m 61 (100 * s + p) ≠ 0) ∧ h.1 21904 (h.1 1904 ((h.1 10120 1022 s)) 0) 0 ≤ 10
def RSs (h : mD) (m : sg) : Prop := ∀ s, 0 ≤ s → s < m 53 0 → PL h 11905 21905 (h.1 1905 ((h.1 10120 1022 s)) 0) (fun p => m 62 (100 * s + p) ≠ 0) ∧ (0 ≤ h.1 1906 ((h.1 10120 1022 s)) 0 ∧ h.1 1906 ((h.1 10120 1022 s)) 0 < 16384) ∧ (∀ i, 0 ≤ i → i < 14 → zand (zshr (h.1 1906 ((h.1 10120 1022 s)) 0) i) 1 = if i < h.1 21905 (h.1 1905 ((h.1 10120 1022 s)) 0) 0 ∧ m 62 (100 * s + h.1 2600 (h.1 11905 (h.1 1905 ((h.1 10120 1022 s)) 0) i) 0) = 1 then 1 else 0) ∧ ∀ p, 0 ≤ p → p < 100 → m 62 (100 * s + p) = 0 ∨ m 62 (100 * s + p) = 1 ∨ m 62 (100 * s + p) = 2
/-- of the Model alone: what isn't used yet is empty -/
def RMz (m : sg) : Prop := (∀ f, m 32 0 ≤ f → f < 12 → m 43 f = 0 ∧ m 66 f = 0 ∧ (∀ p, 0 ≤ p → p < 100 → m 40 (100 * f + p) = 0) ∧ ∀ j, 0 ≤ j → j < 12 → m 41 (12 * f + j) = 0) ∧ (∀ s, m 53 0 ≤ s → s < 40 → m 60 s = 0 ∧ ∀ p, 0 ≤ p → p < 100 → m 61 (100 * s + p) = 0 ∧ m 62 (100 * s + p) = 0) ∧ sm (fun f => if m 37 f = -1 then m 43 f else 0) (m 32 0) ≤ 6 * m 32 0
/-- who was a trustee once -/
def RET (et : Int → Int → Bool) (m : sg) : Prop := (∀ f, cnt (et f) 100 ≤ 7) ∧ (∀ f p, 0 ≤ f → f < m 32 0 → 0 ≤ p → p < 100 → m 40 (100 * f + p) ≠ 0 → et f p = true) ∧ (∀ f p, 0 ≤ f → f < m 32 0 → 0 ≤ p → p < 100 → m 37 f = -1 → et f p = true → m 40 (100 * f + p) ≠ 0) ∧ (∀ f p, m 32 0 ≤ f → et f p = false) ∧ ∀ s p, 0 ≤ s → s < m 53 0 → 0 ≤ p → p < 100 → m 62 (100 * s + p) ≠ 0 → et (m 55 s) p = true ∨ (m 54 s = 1 ∧ et (m 56 s) p = true)
def RL (h : mD) (m : sg) : Prop := (1076 ≤ h.2.2.1) ∧ (RNow h m) ∧ (RFc h m) ∧ (RTp h m) ∧ (RAc h m) ∧ (REn h m) ∧ (RPd h m) ∧ (RAo h m) ∧ (RFl h m) ∧ (RFv h m) ∧ (RFj h m) ∧ (RFp h m) ∧ (RFe h m) ∧ (RFa h m) ∧ (RFt h m) ∧ (RNe h m) ∧ (RSl h m) ∧ (RSv h m) ∧ (RSo h m) ∧ (RSs h m) ∧ (RMz m) ∧ (∃ et, RET et m)
theorem RL.nx {h : mD} {m : sg} (h_ : RL h m) : 1076 ≤ h.2.2.1 := h_.1
theorem RL.now {h : mD} {m : sg} (h_ : RL h m) : RNow h m := h_.2.1
theorem RL.fc {h : mD} {m : sg} (h_ : RL h m) : RFc h m := h_.2.2.1
theorem RL.tp {h : mD} {m : sg} (h_ : RL h m) : RTp h m := h_.2.2.2.1
theorem RL.ac {h : mD} {m : sg} (h_ : RL h m) : RAc h m := h_.2.2.2.2.1
theorem RL.en {h : mD} {m : sg} (h_ : RL h m) : REn h m := h_.2.2.2.2.2.1
theorem RL.pd {h : mD} {m : sg} (h_ : RL h m) : RPd h m := h_.2.2.2.2.2.2.1
theorem RL.ao {h : mD} {m : sg} (h_ : RL h m) : RAo h m := h_.2.2.2.2.2.2.2.1
theorem RL.fl {h : mD} {m : sg} (h_ : RL h m) : RFl h m := h_.2.2.2.2.2.2.2.2.1
theorem RL.fv {h : mD} {m : sg} (h_ : RL h m) : RFv h m := h_.2.2.2.2.2.2.2.2.2.1
theorem RL.fj {h : mD} {m : sg} (h_ : RL h m) : RFj h m := h_.2.2.2.2.2.2.2.2.2.2.1
theorem RL.fp {h : mD} {m : sg} (h_ : RL h m) : RFp h m := h_.2.2.2.2.2.2.2.2.2.2.2.1
theorem RL.fe {h : mD} {m : sg} (h_ : RL h m) : RFe h m := h_.2.2.2.2.2.2.2.2.2.2.2.2.1
theorem RL.fa {h : mD} {m : sg} (h_ : RL h m) : RFa h m := h_.2.2.2.2.2.2.2.2.2.2.2.2.2.1
theorem RL.ft {h : mD} {m : sg} (h_ : RL h m) : RFt h m := h_.2.2.2.2.2.2.2.2.2.2.2.2.2.2.1
theorem RL.ne {h : mD} {m : sg} (h_ : RL h m) : RNe h m := h_.2.2.2.2.2.2.2.2.2.2.2.2.2.2.2.1
theorem RL.sl {h : mD} {m : sg} (h_ : RL h m) : RSl h m := h_.2.2.2.2.2.2.2.2.2.2.2.2.2.2.2.2.1
theorem RL.sv {h : mD} {m : sg} (h_ : RL h m) : RSv h m := h_.2.2.2.2.2.2.2.2.2.2.2.2.2.2.2.2.2.1
theorem RL.so {h : mD} {m : sg} (h_ : RL h m) : RSo h m := h_.2.2.2.2.2.2.2.2.2.2.2.2.2.2.2.2.2.2.1
theorem RL.ss {h : mD} {m : sg} (h_ : RL h m) : RSs h m := h_.2.2.2.2.2.2.2.2.2.2.2.2.2.2.2.2.2.2.2.1
theorem RL.mz {h : mD} {m : sg} (h_ : RL h m) : RMz m := h_.2.2.2.2.2.2.2.2.2.2.2.2.2.2.2.2.2.2.2.2.1
theorem RL.et {h : mD} {m : sg} (h_ : RL h m) : ∃ et, RET et m := h_.2.2.2.2.2.2.2.2.2.2.2.2.2.2.2.2.2.2.2.2.2
/-- so many calls may come -/
def Rc (c : Int) (h : mD) (m : sg) : Prop := RL h m ∧ 0 ≤ c ∧ 70000 * c + 900 * m 14 0 ≤ h.2.2.2
