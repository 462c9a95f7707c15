/-! THE DESK READS an end: the whole -/
set_option maxHeartbeats 3200000
set_option maxRecDepth 100000
/-- what a fault leaves: all but the reader -/
def RF0 (r : Int) (m m' : mD) : Prop := m.2.2.1 ≤ m'.2.2.1 ∧ (∀ b, b < m.2.2.1 → m'.2.1 b = m.2.1 b) ∧ ∀ g b, b < m.2.2.1 → b ≠ r → m'.1 g b = m.1 g b
def WQ (r : Int) (m0 : mD) (k p B : Int) (w : Int) (m : mD) : Prop := RF0 r m0 m ∧ (m.2.1 w = 5 ∧ m.1 506 w 0 = k ∧ m.1 507 w 0 = p ∧ m0.2.2.1 ≤ w ∧ w < m.2.2.1) ∧ (1 ≤ k ∧ k ≤ 4) ∧ B ≤ m.2.2.2
theorem RX.f {r : Int} {m m' : mD} (h : RX r 0 m m') : RF0 r m m' := ⟨h.1, h.2.1, fun g b hb hr => by
  rcases h.2.2 g b hb with e | e | e
  · exact e
  · exact absurd e.1 hr
  · exact absurd (Eq.refl (0 : Int)) e.2.1⟩
theorem RF0.tr {r : Int} {m m' m'' : mD} (h : RF0 r m m') (h2 : RF0 r m' m'') : RF0 r m m'' := by
  have := h.1
  exact ⟨Int.le_trans h.1 h2.1, fun b hb => (h2.2.1 b (by omega)).trans (h.2.1 b hb), fun g b hb hr => (h2.2.2 g b (by omega) hr).trans (h.2.2 g b hb hr)⟩
theorem WT.q {r : Int} {m0 m : mD} {k p B w : Int} (h : WT r 0 m0 k p B w m) : WQ r m0 k p B w m := ⟨h.1.f, h.2⟩
theorem WQ.tr {r : Int} {m m0 m1 : mD} {k p B w : Int} (h : WQ r m k p B w m1) (hx : RF0 r m0 m) : WQ r m0 k p B w m1 := ⟨hx.tr h.1, ⟨h.2.1.1, h.2.1.2.1, h.2.1.2.2.1, by have := hx.1; have := h.2.1.2.2.2.1; omega, h.2.1.2.2.2.2⟩, h.2.2.1, h.2.2.2⟩
theorem WQ.le {r : Int} {m m1 : mD} {k p B B' w : Int} (h : WQ r m k p B w m1) (hB : B' ≤ B) : WQ r m k p B' w m1 := ⟨h.1, h.2.1, h.2.2.1, Int.le_trans hB h.2.2.2⟩
abbrev dPostA (t : Int → Int) (n r : Int) (m : mD) (B : Int) (x : (Int × Int) ⊕ (Cl × Int)) (Q : mQ mD) : Prop := match x with
  | .inl (k, p) => ∀ w m', WQ r m k p (B - 500) w m' → Q (Sum.inr w) m'
  | .inr (c, q') => ∀ a m', RX r 0 m m' → DS t n 10 q' 0 0 r m' → AM m.2.2.1 m'.2.2.1 m' a c → NMs t n m' (m'.1 1600 a 0) c.2.2.2.2.2.2 c.2.1 → B + 900 * (n - q') + 500 ≤ m'.2.2.2 → Q (rR a) m'
section
variable {t : Int → Int} {n : Int} {nm : Nat} {ai r L lo0 : Int} {d : Nat} {m m0 m1 : mD} {Q : mQ mD}
theorem NMs.cg {s q k : Int} (h : NMs t n m s q k) (hg : ∀ g, m1.1 g s = m.1 g s) (hk : m1.2.1 s = m.2.1 s) : NMs t n m1 s q k := ⟨by rw [hk]; exact h.1, by rw [hg]; exact h.2.1, fun i i0 i1 => by rw [hg]; exact h.2.2 i i0 i1⟩
theorem AM.p3 {lo hi a v : Int} {c : Cl} (h : AM lo hi m a c) : AM lo hi (dst m 1603 a 0 v) a (c.1, c.2.1, v, c.2.2.2.1, c.2.2.2.2.1, c.2.2.2.2.2.1, c.2.2.2.2.2.2) := by
  obtain ⟨h1, h2, h3, h4, h5, h6⟩ := h
  have o : ∀ g, g ≠ 1603 → (dst m 1603 a 0 v).1 g = m.1 g := fun g hg => ds_n hg
  have kk : (dst m 1603 a 0 v).2 = m.2 := rfl
  have tg : ∀ {n : Nat} {b : Int} {c : List Int}, TSb lo hi m n b c → TSb lo hi (dst m 1603 a 0 v) n b c := fun h => h.ck (Nat.le_refl _) (Int.le_refl _) (Int.le_refl _) (fun g b _ _ k8 k11 => ds_o (fun e => by rw [e, h1.2.2] at k11; omega) g) (fun _ _ _ => rfl)
  refine ⟨h1, by rw [o 1600 (by decide), o 22700 (by decide)]; exact h2, by rw [o 1601 (by decide)]; exact tg h3, ?_, dsz_0, ?_⟩
  · rw [o 1602 (by decide)]
    have tcg : ∀ (n : Nat) (b : Int) (c : List Int), TCb lo hi m n b c → TCb lo hi (dst m 1603 a 0 v) n b c := by
      intro n
      induction n with
      | zero => intro b c h; exact h.elim
      | succ n ih =>
        intro b c ⟨hb, h⟩
        refine ⟨hb, ?_⟩
        rw [o 1100 (by decide), o 1101 (by decide), o 1102 (by decide), o 1200 (by decide), o 1201 (by decide), o 21201 (by decide), o 11201 (by decide), o 1300 (by decide)]
        rcases h with ⟨q1, c1, c2, s, q2, q3, q4⟩ | ⟨q1, q2, hb2, c0, cs, q4, q5, q6, q7⟩ | ⟨q1, c1, q2, q3⟩
        · exact Or.inl ⟨q1, c1, c2, s, tg q2, tg q3, q4⟩
        · exact Or.inr (Or.inl ⟨q1, q2, hb2, c0, cs, q4, q5, fun i hi => ih _ _ (q6 i hi), q7⟩)
        · exact Or.inr (Or.inr ⟨q1, c1, ih _ _ q2, q3⟩)
    exact tcg _ _ _ h4
  · rw [o 1604 (by decide), o 21604 (by decide), o 11604 (by decide)]
    exact ⟨h6.1, h6.2.1, h6.2.2.1, fun i hi => (h6.2.2.2 i hi).ck (Nat.le_refl _) (Int.le_refl _) (Int.le_refl _) (fun g b _ _ k8 k11 => ds_o (fun e => by rw [e, h1.2.2] at k11; omega) g) (fun _ _ _ => rfl)⟩
/-- the last: part or not -/
theorem D_a4 {q B a s b dd : Int} {c : Cl} (hS : DS t n 10 q 0 0 r m) (hX : RX r 0 m0 m) (hlo : m0.2.2.1 ≤ a) (hA : AM m0.2.2.1 m.2.2.1 m a c) (hN : NMs t n m (m.1 1600 a 0) c.2.2.2.2.2.2 c.2.1) (hr0 : r < m0.2.2.1) (h1075 : 1075 < r) (hB : B + 900 * (n - q) + 600 ≤ m.2.2.2) (hB1 : 1000 ≤ B)
    (hQ : ∀ m', RX r 0 m0 m' → DS t n 10 (if isWb t n q wPart then nx t n q else q) 0 0 r m' → AM m0.2.2.1 m'.2.2.1 m' a (c.1, c.2.1, (if isWb t n q wPart then 1 else 0), c.2.2.2.1, c.2.2.2.2.1, c.2.2.2.2.2.1, c.2.2.2.2.2.2) → NMs t n m' (m'.1 1600 a 0) c.2.2.2.2.2.2 c.2.1 → B + 900 * (n - (if isWb t n q wPart then nx t n q else q)) + 500 ≤ m'.2.2.2 → Q (rR a) m') : RD (d + 4) 209 (150, [some (mR r), some (mR dd), some (mR b), some (mR s), some (mR a)], [], m) Q := by
  have kr := hS.1.1
  have k16 := hA.1.2.2
  have hq := hS.2.2.2.1
  have hnx := nx_b (t := t) hq.2
  have hs2 : ∀ v, DS t n 10 q 0 0 r (dst m 1603 a 0 v) := fun v => hS.st (by omega) (by omega)
  have hN2 : ∀ v, NMs t n (dst m 1603 a 0 v) ((dst m 1603 a 0 v).1 1600 a 0) c.2.2.2.2.2.2 c.2.1 := fun v => by
    rw [ds_n (by decide)]
    exact ⟨hN.1, by rw [ds_n (by decide)]; exact hN.2.1, fun i i0 i1 => by rw [ds_n (by decide)]; exact hN.2.2 i i0 i1⟩
  by_cases h1 : isWb t n q wPart = true
  · rw [if_pos h1, if_pos h1] at hQ
    have hlt := isWb_lt h1 (by decide) hq.2
    have nxt : RD (d + 4) 209 (161, [some (mR r), some (mR dd), some (mR b), some (mR s), some (mR a)], [], dst m 1603 a 0 1) Q := by
      have A1 := hA.p3 (v := 1)
      have S1 := hs2 1
      have N1 := hN2 1
      have X1 : RX r 0 m0 (dst m 1603 a 0 1) := hX.st hlo
      have e3 : (dst m 1603 a 0 1).1 1603 a 0 = 1 := dsz_0
      have bb : (dst m 1603 a 0 1).2 = m.2 := rfl
      generalize dst m 1603 a 0 1 = m2 at *
      have kr2 := S1.1.1
      have k162 := A1.1.2.2
      have fin : ∀ m', RC r m2 m' → DS t n 10 (nx t n q) 0 0 r m' → Q (rR a) m' := by
        intro m' c1 s1
        have e1 := c1.1
        have cg : ∀ g b, b ≠ r → m'.1 g b = m2.1 g b := fun g b hb => by
          rcases c1.2 g b with z | z
          · exact z
          · exact absurd z.1 hb
        have sb := A1.2.1.1
        refine hQ m' (X1.tr c1.x) s1 (A1.cg (Int.le_refl _) (by rw [e1, bb]; exact Int.le_refl _) (fun g b b0 _ => cg g b (by omega)) (fun b _ _ => by rw [e1])) ?_ (by rw [e1, bb]; omega)
        rw [cg 1600 a (by omega)]
        exact N1.cg (fun g => cg g _ (by omega)) (by rw [e1])
      clear hQ
      refine RDr [] [] 20 ?_
      repeat' first | (refine hub_i (by dsimp only [kdD]; omega) (E_cut S1 (fun m' c1 s1 => ?_))) | (refine ⟨fun _ => ?_, fun _ => ?_⟩ <;> try omega) | (refine ⟨by first | omega | rfl | assumption | (simp only [dst_1, dst_2, up3_ap, upd1_ap, Nat.reduceEqDiff, ↓reduceIte, eq_self] at * <;> omega) | fail, ?_⟩) | (exact fin _ c1 s1) | (simp only [dst_1, dst_2, up3_ap, upd1_ap, Nat.reduceEqDiff, ↓reduceIte, eq_self] at *) | omega | fail
    clear hQ
    refine RDr [] [2090161] 20 ?_
    repeat' first | (refine hub_i (by dsimp only [kdD]; omega) (D_isC (w := wPart) rfl hS (by decide) (fun e1 => ?_) (fun e1 => absurd h1 (by rw [e1]; decide)))) | (refine ⟨fun _ => ?_, fun _ => ?_⟩ <;> try omega) | (refine ⟨by first | omega | rfl | assumption | (simp only [dst_1, dst_2, up3_ap, upd1_ap, Nat.reduceEqDiff, ↓reduceIte, eq_self] at * <;> omega) | fail, ?_⟩) | (exact nxt) | (simp only [dst_1, dst_2, up3_ap, upd1_ap, Nat.reduceEqDiff, ↓reduceIte, eq_self] at *) | omega | fail
  · rw [if_neg h1, if_neg h1] at hQ
    have nxt : RD (d + 4) 209 (161, [some (mR r), some (mR dd), some (mR b), some (mR s), some (mR a)], [], dst m 1603 a 0 0) Q := by
      have fin := hQ (dst m 1603 a 0 0) (hX.st hlo) (hs2 0) (hA.p3 (v := 0)) (hN2 0) (by show _ ≤ m.2.2.2; omega)
      have e3 : (dst m 1603 a 0 0).1 1603 a 0 = 0 := dsz_0
      have k162 : (dst m 1603 a 0 0).2.1 a = 16 := k16
      generalize dst m 1603 a 0 0 = m2 at *
      clear hQ
      refine RDr [] [] 20 ?_
      repeat' first | (refine ⟨fun _ => ?_, fun _ => ?_⟩ <;> try omega) | (refine ⟨by first | omega | rfl | assumption | (simp only [dst_1, dst_2, up3_ap, upd1_ap, Nat.reduceEqDiff, ↓reduceIte, eq_self] at * <;> omega) | fail, ?_⟩) | (exact fin) | (simp only [dst_1, dst_2, up3_ap, upd1_ap, Nat.reduceEqDiff, ↓reduceIte, eq_self] at *) | omega | fail
    clear hQ
    refine RDr [] [2090161] 20 ?_
    repeat' first | (refine hub_i (by dsimp only [kdD]; omega) (D_isC (w := wPart) rfl hS (by decide) (fun e1 => absurd e1 h1) (fun e1 => ?_))) | (refine ⟨fun _ => ?_, fun _ => ?_⟩ <;> try omega) | (refine ⟨by first | omega | rfl | assumption | (simp only [dst_1, dst_2, up3_ap, upd1_ap, Nat.reduceEqDiff, ↓reduceIte, eq_self] at * <;> omega) | fail, ?_⟩) | (exact nxt) | (simp only [dst_1, dst_2, up3_ap, upd1_ap, Nat.reduceEqDiff, ↓reduceIte, eq_self] at *) | omega | fail
/-- the condition -/
theorem D_a3 {f : Nat} {q q0 B a s b dd : Int} {c1 : List Int} {x : (Int × Int) ⊕ (Cl × Int)} (hS : DS t n 10 q 0 0 r m) (hX : RX r 0 m0 m) (hr0 : r < m0.2.2.1) (h1075 : 1075 < r) (hlo : (m0.2.2.1 ≤ a ∧ a < m.2.2.1) ∧ (m0.2.2.1 ≤ s ∧ s < m.2.2.1) ∧ (m0.2.2.1 ≤ L ∧ L < m.2.2.1) ∧ L ≠ a) (hB1 : 1200 ≤ B) (hB : B + 900 * (n - q) + 600 ≤ m.2.2.2)
    (ha : m.2.1 a = 16 ∧ m.1 1600 a 0 = s ∧ m.1 1604 a 0 = L ∧ m.2.1 L = 11604 ∧ m.1 21604 L 0 = 0) (hT : TSb m0.2.2.1 m.2.2.1 m c1.length (m.1 1601 a 0) c1) (hN : NMs t n m s q0 (tke t n q0 - q0))
    (h : pC (prs t n 10 f 6 0 q [] []) (fun c2 l q4 => if isWb t n q4 wPart then cO (8, tke t n q0 - q0, 1, c1, c2, l, q0) (nx t n q4) else cO (8, tke t n q0 - q0, 0, c1, c2, l, q0) q4) = some x) (hQ : dPostA t n r m0 B x Q) : RD (d + 62) 209 (130, [some (mR r), some (mR dd), some (mR b), some (mR s), some (mR a)], [], m) Q := by
  have kr := hS.1.1
  have hq := hS.2.2.2.1
  have hrb := hS.rb
  obtain ⟨a1, a2, a3, a4, a5⟩ := ha
  -- the reader knows the aim
  have S1 : DS t n 10 q 0 a r (dst m 409 r 0 a) := by
    obtain ⟨⟨z1, z2, z3, z4, z5⟩, ⟨y1, y2, y3, y4, y5⟩, ⟨x1, x2, x3⟩, w1, w2, w3⟩ := hS
    exact ⟨⟨z1, by rw [ds_n (by decide)]; exact z2, by rw [ds_n (by decide)]; exact z3, by rw [ds_n (by decide)]; exact z4, z5⟩, ⟨by rw [ds_n (by decide)]; exact y1, by rw [ds_n (by decide)]; exact y2, by rw [ds_n (by decide)]; exact y3, by rw [ds_n (by decide)]; exact y4, by rw [ds_n (by decide)]; exact y5⟩, ⟨by rw [ds_n (by decide)]; exact x1, by rw [ds_n (by decide)]; exact x2, dsz_0⟩, w1, w2, w3⟩
  have oo : ∀ g, g ≠ 409 → (dst m 409 r 0 a).1 g = m.1 g := fun g hg => ds_n hg
  have oz : ∀ g b, b ≠ r → (dst m 409 r 0 a).1 g b = m.1 g b := fun g b hb => ds_o hb g
  have tl : TLo m.2.2.1 r a L (dst m 409 r 0 a) [] := Or.inr ⟨by omega, by omega, ⟨a1, by rw [oo _ (by decide)]; exact a3, hlo.1.2, by omega, hlo.2.2.1.2, by omega, by omega, Int.le_refl _⟩, a4, by rw [oo _ (by decide)]; exact a5, fun i hi => absurd hi (Nat.not_lt_zero _)⟩
  have b2 : (dst m 409 r 0 a).2 = m.2 := rfl
  have k1 : (dst m 409 r 0 a).1 1600 a 0 = s ∧ (dst m 409 r 0 a).1 1604 a 0 = L := ⟨by rw [oo _ (by decide)]; exact a2, by rw [oo _ (by decide)]; exact a3⟩
  have T1 : TSb m0.2.2.1 m.2.2.1 (dst m 409 r 0 a) c1.length ((dst m 409 r 0 a).1 1601 a 0) c1 := by
    rw [oo 1601 (by decide)]
    exact hT.cg (Nat.le_refl _) (Int.le_refl _) (Int.le_refl _) (fun g b b0 _ => oz g b (by omega)) (fun _ _ _ => rfl)
  have N1 : NMs t n (dst m 409 r 0 a) s q0 (tke t n q0 - q0) := hN.cg (fun g => oz g s (by omega)) rfl
  have eb : ∀ g b, b < m0.2.2.1 → b ≠ r → (dst m 409 r 0 a).1 g b = m.1 g b := fun g b _ hb => oz g b hb
  have fin : RD (d + 62) 209 (136, [some (mR r), some (mR dd), some (mR b), some (mR s), some (mR a)], [], dst m 409 r 0 a) Q := by
    have er : ∀ g, g ≠ 409 → (dst m 409 r 0 a).1 g r = m.1 g r := fun g hg => by rw [oo g hg]
    have e409 : (dst m 409 r 0 a).1 409 r = upd1 (m.1 409 r) 0 a := by rw [dst_1, up3_s]
    have z409 : m.1 409 r 0 = 0 := hS.2.2.1.2.2
    generalize dst m 409 r 0 a = m2 at *
    have kr2 := S1.1.1
    have k16 : m2.2.1 a = 16 := by rw [b2]; exact a1
    have x01 := hX.1
    have f2 : ∀ g b, b < m.2.2.1 → b ≠ r → b ≠ L → ∀ m3, RX r L m2 m3 → m3.1 g b = m.1 g b := fun g b hb h1 h2 m3 x3 => by rw [x3.o (by rw [b2]; exact hb) h1 h2, oz g b h1]
    rcases pC_some h with ⟨⟨kf, p⟩, hp, rfl⟩ | ⟨c2, l, q4, hp, hk⟩
    · have flt : ∀ w m3, WT r L m2 kf p (B - 400) w m3 → Q (Sum.inr w) m3 := by
        intro w m3 g1
        have x3 := g1.1
        have x31 := x3.1
        rw [b2] at x31
        refine hQ w m3 ⟨⟨by omega, fun b hb => by rw [x3.2.1 b (by rw [b2]; omega), b2]; exact hX.2.1 b hb, fun g b hb hr => ?_⟩, ⟨g1.2.1.1, g1.2.1.2.1, g1.2.1.2.2.1, by have := g1.2.1.2.2.2.1; rw [b2] at this; omega, g1.2.1.2.2.2.2⟩, g1.2.2.1, by have := g1.2.2.2; omega⟩
        rw [f2 g b (by omega) hr (by omega) m3 x3]
        exact hX.f.2.2 g b hb hr
      clear hQ
      refine RDr [] [] 20 ?_
      repeat' first | ((refine hub_i (by dsimp only [kdD]; omega) ((dgC_all (lo0 := m.2.2.1) (ai := a) (L := L) (by decide) (by omega) f).2.2.2.2.1 _ _ B [] _ _ _ _ _ hp S1 (by rw [b2]; omega) tl (by show ((0 : Nat) : Int) ≤ q; omega) (by omega) (by rw [b2]; omega) (by omega) (fun w m3 g1 => ?_)))) | (refine ⟨fun _ => ?_, fun _ => ?_⟩ <;> try omega) | (refine ⟨by first | omega | rfl | assumption | (simp only [dst_1, dst_2, up3_ap, upd1_ap, Nat.reduceEqDiff, ↓reduceIte, eq_self] at * <;> omega) | fail, ?_⟩) | (exact flt _ _ g1) | (simp only [dst_1, dst_2, up3_ap, upd1_ap, Nat.reduceEqDiff, ↓reduceIte, eq_self] at *) | omega | fail
    · have far := prs_far _ _ _ _ _ _ hq.2 _ _ _ hp
      have aft : ∀ y m3, RX r L m2 m3 → DS t n 10 q4 0 a r m3 → TCb m2.2.2.1 m3.2.2.1 m3 (c2.length + (lvl 0 + 2)) y c2 → TLo m.2.2.1 r a L m3 ([] ++ l) → B + 900 * (n - q4) + 800 ≤ m3.2.2.2 → m3.2.1 a = 16 ∧ m3.2.1 r = 4 ∧ RD (d + 62) 209 (150, [some (mR r), some (mR dd), some (mR b), some (mR s), some (mR a)], [], dst (dst m3 1602 a 0 y) 409 r 0 0) Q := by
        intro y m3 x3 s3 t3 u3 b3
        have x31 := x3.1
        rw [b2] at x31 t3
        have ka3 : m3.2.1 a = 16 := by rw [x3.2.1 a (by rw [b2]; omega), b2]; exact a1
        have sr := s3.rb
        refine ⟨ka3, s3.1.1, ?_⟩
        have p1 : ∀ g b, b ≠ r → b ≠ a → (dst (dst m3 1602 a 0 y) 409 r 0 0).1 g b = m3.1 g b := fun g b h1 h2 => by rw [ds_o h1, ds_o h2]
        have p2 : ∀ g, g ≠ 409 → g ≠ 1602 → ∀ b, (dst (dst m3 1602 a 0 y) 409 r 0 0).1 g b = m3.1 g b := fun g h1 h2 b => by rw [ds_n h1, ds_n h2]
        have p3 : (dst (dst m3 1602 a 0 y) 409 r 0 0).1 409 r = m.1 409 r := by
          rw [dst_1, up3_s, ds_n (by decide), x3.g (b := r) (by rw [b2]; omega) (by decide), e409]
          funext i
          rw [upd1_ap, upd1_ap]
          by_cases ei : i = 0
          · rw [if_pos ei, ei, z409]
          · rw [if_neg ei, if_neg ei]
        have X4 : RX r 0 m0 (dst (dst m3 1602 a 0 y) 409 r 0 0) := by
          refine ⟨by show m0.2.2.1 ≤ m3.2.2.1; omega, fun b hb => by show m3.2.1 b = _; rw [x3.2.1 b (by rw [b2]; omega), b2]; exact hX.2.1 b hb, fun g b hb => ?_⟩
          by_cases hbr : b = r
          · by_cases hg : g = 409
            · rw [hbr, hg, p3]
              exact Or.inl (hX.g (by omega) (by decide))
            · by_cases hin : m_has [402, 403, 404, 405, 407, 408] g = true
              · exact Or.inr (Or.inl ⟨hbr, hin⟩)
              · have hin : m_has [402, 403, 404, 405, 407, 408] g = false := by simpa using hin
                left
                rw [ds_n hg, ds_o (by omega)]
                rcases x3.2.2 g b (by rw [b2]; omega) with z | z | z
                · rw [z, hbr, er g hg]
                  rcases hX.2.2 g r (by omega) with w | w | w
                  · exact w
                  · rw [w.2] at hin; cases hin
                  · exact absurd rfl w.2.1
                · rw [z.2] at hin; cases hin
                · omega
          · rw [p1 g b hbr (by omega), f2 g b (by omega) hbr (by omega) m3 x3]
            exact hX.2.2 g b hb
        have S4 : DS t n 10 q4 0 0 r (dst (dst m3 1602 a 0 y) 409 r 0 0) := by
          have s3' := s3.st (g := 1602) (a := a) (i := 0) (v := y) (by omega) (by omega)
          obtain ⟨⟨z1, z2, z3, z4, z5⟩, ⟨y1, y2, y3, y4, y5⟩, ⟨x1, x2, x3⟩, w1, w2, w3⟩ := s3'
          exact ⟨⟨z1, by rw [ds_n (by decide)]; exact z2, by rw [ds_n (by decide)]; exact z3, by rw [ds_n (by decide)]; exact z4, z5⟩, ⟨by rw [ds_n (by decide)]; exact y1, by rw [ds_n (by decide)]; exact y2, by rw [ds_n (by decide)]; exact y3, by rw [ds_n (by decide)]; exact y4, by rw [ds_n (by decide)]; exact y5⟩, ⟨by rw [ds_n (by decide)]; exact x1, by rw [ds_n (by decide)]; exact x2, dsz_0⟩, w1, w2, w3⟩
        obtain ⟨v0, v1, ⟨v2, v3, v4, v5, v6, v7, v8, v9⟩, v10, v11, v12⟩ : a ≠ 0 ∧ L ≠ 0 ∧ (m3.2.1 a = 16 ∧ m3.1 1604 a 0 = L ∧ a < m.2.2.1 ∧ a ≠ r ∧ L < m.2.2.1 ∧ L ≠ r ∧ L ≠ 1005 ∧ m.2.2.1 ≤ m3.2.2.1) ∧ m3.2.1 L = 11604 ∧ m3.1 21604 L 0 = (l.length : Int) ∧ ∀ i : Nat, i < l.length → CMb m.2.2.1 m3.2.2.1 m3 (l.getD i []).length (m3.1 11604 L i) (l.getD i []) := by
          rcases u3 with e | e
          · have := e.1; omega
          · exact e
        have e1600 : m3.1 1600 a 0 = s := by rw [x3.o (by rw [b2]; omega) (by omega) (by omega)]; exact k1.1
        have e1601 : m3.1 1601 a = m2.1 1601 a := x3.o (by rw [b2]; omega) (by omega) (by omega) 1601
        have N4 : NMs t n (dst (dst m3 1602 a 0 y) 409 r 0 0) s q0 (tke t n q0 - q0) := by
          have ns : s ≠ a := by
            intro e
            have := N1.1
            rw [e, k16] at this
            cases this
          refine N1.cg (fun g => ?_) ?_
          · rw [p1 g s (by omega) ns, x3.o (by rw [b2]; omega) (by omega) (by
              intro e
              have := N1.1
              rw [e, b2, a4] at this
              cases this)]
          · show m3.2.1 s = _
            rw [x3.2.1 s (by rw [b2]; omega)]
        have ce : ∀ g b, 8 ≤ m3.2.1 b → m3.2.1 b ≤ 13 → (dst (dst m3 1602 a 0 y) 409 r 0 0).1 g b = m3.1 g b := fun g b h1 h2 => p1 g b (fun e => by rw [e, s3.1.1] at h1; omega) (fun e => by rw [e, ka3] at h2; omega)
        have A4 : AM m0.2.2.1 m3.2.2.1 (dst (dst m3 1602 a 0 y) 409 r 0 0) a (8, tke t n q0 - q0, (dst (dst m3 1602 a 0 y) 409 r 0 0).1 1603 a 0, c1, c2, l, q0) := by
          refine ⟨⟨by omega, by omega, ka3⟩, ?_, ?_, ?_, rfl, ?_⟩
          · rw [p2 1600 (by decide) (by decide), e1600]
            exact ⟨by omega, N4.1, N4.2.1⟩
          · rw [p2 1601 (by decide) (by decide), e1601]
            have T2 : TSb m0.2.2.1 m3.2.2.1 m3 c1.length (m2.1 1601 a 0) c1 := T1.ck (Nat.le_refl _) (Int.le_refl _) (by omega) (fun g b b0 b1 k8 k11 => x3.o (by rw [b2]; omega) (by omega) (by
              intro e
              rw [e, b2, a4] at k11
              omega) g) (fun b b0 b1 => x3.2.1 b (by rw [b2]; omega))
            exact T2.ck (Nat.le_refl _) (Int.le_refl _) (Int.le_refl _) (fun g b _ _ k8 k11 => ce g b k8 (by omega)) (fun _ _ _ => rfl)
          · have e2 : (dst (dst m3 1602 a 0 y) 409 r 0 0).1 1602 a 0 = y := by rw [ds_n (by decide), dsz_0]
            rw [e2]
            exact t3.cg (by show c2.length + (lvl 0 + 2) ≤ c2.length + 10; exact Nat.le_refl _) (by omega) (Int.le_refl _) (fun g b b0 _ => p1 g b (by omega) (by omega)) (fun _ _ _ => rfl)
          · rw [p2 1604 (by decide) (by decide), v3, p2 21604 (by decide) (by decide), p2 11604 (by decide) (by decide)]
            exact ⟨by omega, v10, v11, fun i hi => (v12 i hi).ck (Nat.le_refl _) (by omega) (Int.le_refl _) (fun g b _ _ k8 k11 => ce g b k8 (by omega)) (fun _ _ _ => rfl)⟩
        have bb : (dst (dst m3 1602 a 0 y) 409 r 0 0).2 = m3.2 := rfl
        have e16 : (dst (dst m3 1602 a 0 y) 409 r 0 0).1 1600 a 0 = s := by rw [p2 1600 (by decide) (by decide)]; exact e1600
        refine D_a4 (B := B) (c := (8, tke t n q0 - q0, (dst (dst m3 1602 a 0 y) 409 r 0 0).1 1603 a 0, c1, c2, l, q0)) (d := d + 58) S4 X4 (by omega) A4 (by rw [e16]; exact N4) hr0 h1075 (by show _ ≤ m3.2.2.2; omega) (by omega) ?_
        by_cases h5 : isWb t n q4 wPart = true
        · rw [if_pos h5] at hk
          cases hk
          rw [if_pos h5, if_pos h5]
          exact fun m' z1 z2 z3 z4 z5 => hQ a m' z1 z2 z3 z4 z5
        · rw [if_neg h5] at hk
          cases hk
          rw [if_neg h5, if_neg h5]
          exact fun m' z1 z2 z3 z4 z5 => hQ a m' z1 z2 z3 z4 z5
      clear hQ
      have kk2 : ∀ m3 y, m3.2.1 r = 4 → (dst m3 1602 a 0 y).2.1 r = 4 := fun _ _ h => h
      refine RDr [] [2090150] 20 ?_
      repeat' first | ((refine hub_i (by dsimp only [kdD]; omega) ((dgC_all (lo0 := m.2.2.1) (ai := a) (L := L) (by decide) (by omega) f).2.2.2.2.1 _ _ B [] _ _ _ _ _ hp S1 (by rw [b2]; omega) tl (by show ((0 : Nat) : Int) ≤ q; omega) (by omega) (by rw [b2]; omega) (by omega) (fun y m3 x3 s3 t3 u3 b3 => ?_)); obtain ⟨g1, g2, g3⟩ := aft y m3 x3 s3 t3 u3 b3; have g4 := kk2 m3 y g2)) | (refine ⟨fun _ => ?_, fun _ => ?_⟩ <;> try omega) | (refine ⟨by first | omega | rfl | assumption | (simp only [dst_1, dst_2, up3_ap, upd1_ap, Nat.reduceEqDiff, ↓reduceIte, eq_self] at * <;> omega) | fail, ?_⟩) | (exact g3) | (simp only [dst_1, dst_2, up3_ap, upd1_ap, Nat.reduceEqDiff, ↓reduceIte, eq_self] at *) | omega | fail
  clear hQ
  refine RDr [] [2090136] 10 ?_
  repeat' first | (refine ⟨fun _ => ?_, fun _ => ?_⟩ <;> try omega) | (refine ⟨by first | omega | rfl | assumption | (simp only [dst_1, dst_2, up3_ap, upd1_ap, Nat.reduceEqDiff, ↓reduceIte, eq_self] at * <;> omega) | fail, ?_⟩) | (exact fin) | (simp only [dst_1, dst_2, up3_ap, upd1_ap, Nat.reduceEqDiff, ↓reduceIte, eq_self] at *) | omega | fail
end
