/-! THE RELATION: its parts are kept where other regions are written -/
set_option maxHeartbeats 3200000
set_option maxRecDepth 100000
def FrJ (S : List Nat) (m m' : sg) : Prop := ∀ j, m_has S j = false → m' j = m j
theorem FrJ.rf {S : List Nat} {m : sg} : FrJ S m m := fun _ _ => rfl
theorem FrJ.up {S : List Nat} {m m' : sg} (h : FrJ S m m') {j : Nat} {i v : Int} (hj : m_has S j = true) : FrJ S m (upm m' j i v) := fun a ha => by
  rw [upm_n (fun e => by subst e; rw [hj] at ha; cases ha)]
  exact h a ha
theorem FrJ.tr {S : List Nat} {m m' m'' : sg} (h : FrJ S m m') (h2 : FrJ S m' m'') : FrJ S m m'' := fun j hj => (h2 j hj).trans (h j hj)
section
variable {S S' : List Nat} {h h' : mD} {m m' : sg}
theorem PL.fr {r rs : Nat} {a : Int} {P P' : Int → Prop} (hP : PL h r rs a P) (hF : Fr S h h') (hd : dsj [r, rs, 2600] S) (hPP : ∀ p, 0 ≤ p → p < 100 → (P' p ↔ P p)) : PL h' r rs a P' := by
  have e := fun g b (hg : m_has [r, rs, 2600] g = true) hb => hF.2.2 g b (dj hd hg) hb
  have n1 := hF.1
  have t1 : m_has [r, rs, 2600] r = true := by unfold m_has; rw [show Nat.beq r r = true from Nat.beq_refl r]; rfl
  have t2 : m_has [r, rs, 2600] rs = true := by
    unfold m_has
    cases Nat.beq r rs with
    | true => rfl
    | false => unfold m_has; rw [show Nat.beq rs rs = true from Nat.beq_refl rs]; rfl
  have t3 : m_has [r, rs, 2600] 2600 = true := by
    unfold m_has
    cases Nat.beq r 2600 with
    | true => rfl
    | false =>
      unfold m_has
      cases Nat.beq rs 2600 with
      | true => rfl
      | false => rfl
  obtain ⟨⟨a1, a2, a3, a4, a5⟩, b, c⟩ := hP
  unfold PL boxL hasV
  rw [hF.2.1 a a3, e rs a t2 a3, e r a t1 a3]
  refine ⟨⟨a1, a2, by omega, a4, fun i i0 i1 => ?_⟩, fun i i0 i1 => ?_, fun p => ?_⟩
  · have := a5 i i0 i1
    rw [hF.2.1 _ this.2]
    exact ⟨this.1, by omega⟩
  · rw [e 2600 _ t3 (a5 i i0 i1).2]
    refine ⟨(b i i0 i1).1, fun j j0 j1 hj => (b i i0 i1).2 j j0 j1 ?_⟩
    rw [e 2600 _ t3 (a5 j j0 j1).2] at hj
    exact hj
  · have hc := c p
    constructor
    · rintro ⟨i, i0, i1, i2⟩
      rw [e 2600 _ t3 (a5 i i0 i1).2] at i2
      have := hc.mp ⟨i, i0, i1, i2⟩
      exact ⟨this.1, this.2.1, (hPP p this.1 this.2.1).mpr this.2.2⟩
    · rintro ⟨p0, p1, p2⟩
      obtain ⟨i, i0, i1, i2⟩ := hc.mpr ⟨p0, p1, (hPP p p0 p1).mp p2⟩
      exact ⟨i, i0, i1, by rw [e 2600 _ t3 (a5 i i0 i1).2]; exact i2⟩
theorem SL_cg2 {u u' : Int → Int} : ∀ (i : Int) (c : List Int), SL u i c → (∀ k, i ≤ k → k < i + c.length → u' k = u k) → SL u' i c
  | _, [], _, _ => trivial
  | i, s :: r, h, hc => ⟨by rw [hc i (by omega) (by rw [List.length_cons]; omega)]; exact h.1, SL_cg2 (i + 1) r h.2 (fun k k0 k1 => hc k (by omega) (by rw [List.length_cons]; omega))⟩
theorem TRw.cg {text row : Int} {c : Cl} (hR : TRw m text row c) (hs : ∀ i, 420 * text ≤ i → i < 420 * text + 420 → m' 4 i = m 4 i) (hr : ∀ j, 8 ≤ j → j ≤ 12 → ∀ i, 20 * text ≤ i → i < 20 * text + 20 → m' j i = m j i) : TRw m' text row c := by
  obtain ⟨a1, a2, a3, a4, a5, a6⟩ := hR
  have e := fun j h1 h2 => hr j h1 h2 row a1.1 a1.2
  unfold TRw
  rw [e 8 (by omega) (by omega), e 9 (by omega) (by omega), e 10 (by omega) (by omega), e 11 (by omega) (by omega), e 12 (by omega) (by omega)]
  refine ⟨a1, a2, a3, ?_, ?_, a6⟩
  · refine SL_cg2 _ _ a4 (fun k k0 k1 => hs _ (by omega) (by omega))
  · refine SL_cg2 _ _ a5 (fun k k0 k1 => hs _ (by omega) (by omega))
theorem AIm.cg {a text row : Int} (hR : AIm h m a text row) (hF : Fr S h h') (hd : dsj trL S) (hs : ∀ i, 420 * text ≤ i → i < 420 * text + 420 → m' 4 i = m 4 i) (hr : ∀ j, 8 ≤ j → j ≤ 12 → ∀ i, 20 * text ≤ i → i < 20 * text + 20 → m' j i = m j i) (h32 : m 32 0 ≤ m' 32 0) (h49 : m 49 0 ≤ m' 49 0) : AIm h' m' a text row := by
  obtain ⟨t1, c, hA, hT⟩ := hR
  refine ⟨?_, c, hA.cr (Int.le_refl _) hF.1 (fun g b hg b0 b1 => hF.2.2 g b (dj hd hg) b1) (fun b b0 b1 => hF.2.1 b b1), hT.cg hs hr⟩
  unfold tOk at *
  omega
theorem AIm.fr {a text row : Int} (hR : AIm h m a text row) (hF : Fr S h h') (hM : FrJ S' m m') (hd : dsj trL S) (hj : dsj [4, 8, 9, 10, 11, 12, 32, 49] S') : AIm h' m' a text row := by
  have e := fun j hg => hM j (dj hj hg)
  refine hR.cg hF hd (fun i _ _ => by rw [e 4 (by decide)]) (fun j h1 h2 i _ _ => ?_) (by rw [e 32 (by decide)]; omega) (by rw [e 49 (by decide)]; omega)
  have : j = 8 ∨ j = 9 ∨ j = 10 ∨ j = 11 ∨ j = 12 := by omega
  rcases this with h | h | h | h | h <;> subst h <;> rw [e _ (by decide)]
theorem RNow.fr (hR : RNow h m) (hn : 1076 ≤ h.2.2.1) (hF : Fr S h h') (hM : FrJ S' m m') (hd : dsj [105] S) (hj : dsj [1] S') : RNow h' m' := by
  unfold RNow
  rw [hF.2.2 105 1000 (dj hd (by decide)) (by omega), hM 1 (dj hj (by decide))]
  exact hR
theorem RFc.fr (hR : RFc h m) (hn : 1076 ≤ h.2.2.1) (hF : Fr S h h') (hM : FrJ S' m m') (hd : dsj [104, 10100, 10101, 10102, 10103] S) (hj : dsj [2, 3] S') : RFc h' m' := by
  have e := fun g b hg hb => hF.2.2 g b (dj hd hg) hb
  have em := fun j hg => hM j (dj hj hg)
  unfold RFc
  rw [e 104 1000 (by decide) (by omega), e 10100 1001 (by decide) (by omega), e 10101 1002 (by decide) (by omega), e 10102 1003 (by decide) (by omega), e 10103 1004 (by decide) (by omega), em 2 (by decide), em 3 (by decide)]
  exact hR
theorem RTp.fr (hR : RTp h m) (hn : 1076 ≤ h.2.2.1) (hF : Fr S h h') (hM : FrJ S' m m') (hd : dsj [107, 108, 10106] S) (hj : dsj [13, 14, 21] S') : RTp h' m' := by
  have e := fun g b hg hb => hF.2.2 g b (dj hd hg) hb
  have em := fun j hg => hM j (dj hj hg)
  unfold RTp
  rw [e 107 1000 (by decide) (by omega), e 108 1000 (by decide) (by omega), e 10106 1005 (by decide) (by omega), em 13 (by decide), em 14 (by decide), em 21 (by decide)]
  exact hR
theorem REn.fr (hR : REn h m) (hn : 1076 ≤ h.2.2.1) (hF : Fr S h h') (hM : FrJ S' m m') (hd : dsj [118, 10114, 10115, 10116, 10117] S) (hj : dsj [51, 52] S') : REn h' m' := by
  have e := fun g b hg hb => hF.2.2 g b (dj hd hg) hb
  have em := fun j hg => hM j (dj hj hg)
  unfold REn
  rw [e 118 1000 (by decide) (by omega), e 10114 1017 (by decide) (by omega), e 10115 1018 (by decide) (by omega), e 10116 1019 (by decide) (by omega), e 10117 1020 (by decide) (by omega), em 51 (by decide), em 52 (by decide)]
  exact hR
theorem RPd.fr (hR : RPd h m) (hn : 1076 ≤ h.2.2.1) (hF : Fr S h h') (hM : FrJ S' m m') (hd : dsj [10113] S) (hj : dsj [1, 42] S') : RPd h' m' := by
  unfold RPd
  rw [hF.2.2 10113 1016 (dj hd (by decide)) (by omega), hM 42 (dj hj (by decide)), hM 1 (dj hj (by decide))]
  exact hR
theorem RAo.fr (hR : RAo h m) (hn : 1076 ≤ h.2.2.1) (hF : Fr S h h') (hM : FrJ S' m m') (hd : dsj [123, 10121, 10122] S) (hj : dsj [70, 71] S') : RAo h' m' := by
  have e := fun g b hg hb => hF.2.2 g b (dj hd hg) hb
  have em := fun j hg => hM j (dj hj hg)
  unfold RAo
  rw [e 123 1000 (by decide) (by omega), e 10121 1024 (by decide) (by omega), e 10122 1025 (by decide) (by omega), em 70 (by decide), em 71 (by decide)]
  exact hR
theorem ACp.x2 {a : Int} {cs : List Cl} {hi : Int} (hA : ACp 1008 hi h a cs) (hF : Fr S h h') (hd : dsj trL S) (hh : hi ≤ h.2.2.1) : ACp 1008 hi h' a cs := hA.cr (Int.le_refl _) (Int.le_refl _) (fun g b hg _ b1 => hF.2.2 g b (dj hd hg) (by omega)) (fun b _ b1 => hF.2.1 b (by omega))
theorem RAc.cg (hR : RAc h m) (hn : 1076 ≤ h.2.2.1) (hF : Fr S h h') (hd : dsj (10109 :: 20109 :: 302 :: trL) S) (h27 : m' 27 = m 27) (h28 : m' 28 = m 28) (hT : ∀ k cs, 0 ≤ k → k < m 27 0 → akOk 400 cs → TX m k cs → TX m' k cs) : RAc h' m' := by
  have e := fun g b hg hb => hF.2.2 g b (dj hd hg) hb
  have k := hF.2.1
  have n1 := hF.1
  have ht : ∀ g, m_has trL g = true → m_has (10109 :: 20109 :: 302 :: trL) g = true := fun g hg => by
    unfold m_has
    cases Nat.beq 10109 g with
    | true => rfl
    | false =>
      unfold m_has
      cases Nat.beq 20109 g with
      | true => rfl
      | false =>
        unfold m_has
        cases Nat.beq 302 g with
        | true => rfl
        | false => exact hg
  obtain ⟨a1, a2, a3⟩ := hR
  unfold RAc
  rw [k 1006 (by omega), e 20109 1006 (by decide) (by omega), e 10109 1006 (by decide) (by omega), h27, h28]
  refine ⟨a1, a2.cr (Int.le_refl _) (Int.le_refl _) (fun g b hg _ b1 => e g b (ht g hg) (by omega)) (fun b _ b1 => k b (by omega)), fun i i0 i1 => ?_⟩
  obtain ⟨b1, cs, b2, b3, b4⟩ := a3 i i0 i1
  have lt := b2.1.1
  rw [e 302 _ (by decide) (by omega)]
  exact ⟨b1, cs, b2.cr (Int.le_refl _) n1 (fun g b hg _ b1 => e g b (ht g hg) b1) (fun b _ b1 => k b b1), hT i cs i0 i1 b4 b3, b4⟩
theorem TX.cg {k : Int} {cs : List Cl} (hT : TX m k cs) (he : ∀ j, 4 ≤ j → j ≤ 12 → m' j = m j) : TX m' k cs := by
  unfold TX at *
  rw [he 5 (by omega) (by omega), he 6 (by omega) (by omega), he 4 (by omega) (by omega)]
  exact ⟨hT.1, hT.2.1, rowsR_cg cs _ _ (fun j h1 h2 i _ _ => by rw [he j (by omega) (by omega)]) hT.2.2.1, hT.2.2.2⟩
theorem RAc.fr (hR : RAc h m) (hn : 1076 ≤ h.2.2.1) (hF : Fr S h h') (hM : FrJ S' m m') (hd : dsj (10109 :: 20109 :: 302 :: trL) S) (hj : dsj [4, 5, 6, 7, 8, 9, 10, 11, 12, 27, 28] S') : RAc h' m' := by
  have em := fun j hg => hM j (dj hj hg)
  refine hR.cg hn hF hd (em 27 (by decide)) (em 28 (by decide)) (fun k cs _ _ _ hT => hT.cg (fun j h1 h2 => ?_))
  have : j = 4 ∨ j = 5 ∨ j = 6 ∨ j = 7 ∨ j = 8 ∨ j = 9 ∨ j = 10 ∨ j = 11 ∨ j = 12 := by omega
  rcases this with h | h | h | h | h | h | h | h | h <;> subst h <;> exact em _ (by decide)
theorem RFl.fr (hR : RFl h m) (hn : 1076 ≤ h.2.2.1) (hF : Fr S h h') (hM : FrJ S' m m') (hd : dsj [10111, 20111, 1400, 1403, 1404, 1405] S) (hj : dsj [32] S') : RFl h' m' := by
  have e := fun g b hg hb => hF.2.2 g b (dj hd hg) hb
  have k := hF.2.1
  have n1 := hF.1
  obtain ⟨a1, a5⟩ := hR
  unfold RFl
  rw [k 1012 (by omega), e 20111 1012 (by decide) (by omega), e 10111 1012 (by decide) (by omega), hM 32 (dj hj (by decide))]
  refine ⟨a1, fun f f0 f1 => ?_⟩
  obtain ⟨⟨b1, b2, b3⟩, c1, ⟨d1, d2, d3⟩, ⟨e1, e2, e3⟩, ⟨g1, g2, g3⟩, i1⟩ := a5 f f0 f1
  unfold cel
  rw [k _ b3, e 1400 _ (by decide) b3, e 1403 _ (by decide) b3, e 1404 _ (by decide) b3, e 1405 _ (by decide) b3, k _ d3, k _ e3, k _ g3]
  refine ⟨⟨b1, b2, by omega⟩, c1, ⟨d1, d2, by omega⟩, ⟨e1, e2, by omega⟩, ⟨g1, g2, by omega⟩, fun g g0 g1' hne => ?_⟩
  have b3' := (a5 g g0 g1').1.2.2
  rw [e 1403 _ (by decide) b3', e 1404 _ (by decide) b3', e 1405 _ (by decide) b3']
  exact i1 g g0 g1' hne
theorem RFv.fr (hR : RFv h m) (hL : RFl h m) (hn : 1076 ≤ h.2.2.1) (hF : Fr S h h') (hM : FrJ S' m m') (hd : dsj [10111, 1401, 1402, 1406, 1407, 1408, 1409, 1410] S) (hj : dsj [32, 33, 34, 35, 36, 38, 39, 66] S') : RFv h' m' := by
  have e := fun g b hg hb => hF.2.2 g b (dj hd hg) hb
  have em := fun j hg => hM j (dj hj hg)
  unfold RFv
  rw [e 10111 1012 (by decide) (by omega), em 32 (by decide), em 33 (by decide), em 34 (by decide), em 35 (by decide), em 36 (by decide), em 38 (by decide), em 39 (by decide), em 66 (by decide)]
  intro f f0 f1
  have b3 := (hL.2 f f0 f1).1.2.2
  rw [e 1401 _ (by decide) b3, e 1402 _ (by decide) b3, e 1406 _ (by decide) b3, e 1407 _ (by decide) b3, e 1408 _ (by decide) b3, e 1409 _ (by decide) b3, e 1410 _ (by decide) b3]
  exact hR f f0 f1
theorem RFj.fr (hR : RFj h m) (hL : RFl h m) (hn : 1076 ≤ h.2.2.1) (hF : Fr S h h') (hM : FrJ S' m m') (hd : dsj [10111, 1411] S) (hj : dsj [32, 37] S') : RFj h' m' := by
  have e := fun g b hg hb => hF.2.2 g b (dj hd hg) hb
  have em := fun j hg => hM j (dj hj hg)
  unfold RFj
  rw [e 10111 1012 (by decide) (by omega), em 32 (by decide), em 37 (by decide)]
  intro f f0 f1
  have b3 := (hL.2 f f0 f1).1.2.2
  rw [e 1411 _ (by decide) b3]
  exact hR f f0 f1
theorem RFp.fr (hR : RFp h m) (hL : RFl h m) (hn : 1076 ≤ h.2.2.1) (hF : Fr S h h') (hM : FrJ S' m m') (hd : dsj [10111, 1405, 11405] S) (hj : dsj [32, 41] S') : RFp h' m' := by
  have e := fun g b hg hb => hF.2.2 g b (dj hd hg) hb
  have em := fun j hg => hM j (dj hj hg)
  unfold RFp
  rw [e 10111 1012 (by decide) (by omega), em 32 (by decide), em 41 (by decide)]
  intro f f0 f1
  have b3 := (hL.2 f f0 f1).1.2.2
  rw [e 1405 _ (by decide) b3, e 11405 _ (by decide) (hL.2 f f0 f1).2.2.2.2.1.2.2]
  exact hR f f0 f1
theorem RFe.fr (hR : RFe h m) (hL : RFl h m) (hn : 1076 ≤ h.2.2.1) (hF : Fr S h h') (hM : FrJ S' m m') (hd : dsj [10111, 1403, 11403, 21403, 1701, 1702, 1703] S) (hj : dsj [32, 43, 46, 47, 48] S') : RFe h' m' := by
  have e := fun g b hg hb => hF.2.2 g b (dj hd hg) hb
  have em := fun j hg => hM j (dj hj hg)
  have n1 := hF.1
  unfold RFe
  rw [e 10111 1012 (by decide) (by omega), em 32 (by decide), em 43 (by decide), em 46 (by decide), em 47 (by decide), em 48 (by decide)]
  intro f f0 f1
  have b3 := (hL.2 f f0 f1).1.2.2
  have l3 := (hL.2 f f0 f1).2.2.1.2.2
  obtain ⟨a1, a2⟩ := hR f f0 f1
  rw [e 1403 _ (by decide) b3, e 21403 _ (by decide) l3, e 11403 _ (by decide) l3]
  refine ⟨a1, fun i i0 i1 => ?_⟩
  obtain ⟨⟨c1, c2, c3⟩, c4, c5, c6⟩ := a2 i i0 i1
  unfold cel
  rw [hF.2.1 _ c3, e 1701 _ (by decide) c3, e 1702 _ (by decide) c3, e 1703 _ (by decide) c3]
  refine ⟨⟨c1, c2, by omega⟩, c4, c5, fun g j g0 g1 j0 j1 hE => ?_⟩
  have b3' := (hL.2 g g0 g1).1.2.2
  have l3' := (hL.2 g g0 g1).2.2.1.2.2
  rw [e 1403 _ (by decide) b3', e 11403 _ (by decide) l3'] at hE
  exact c6 g j g0 g1 j0 j1 hE
theorem RFa.cg (hR : RFa h m) (hL : RFl h m) (hE : RFe h m) (hn : 1076 ≤ h.2.2.1) (hF : Fr S h h') (hd : dsj [10111, 1403, 11403, 1700] S) (h32 : m' 32 0 = m 32 0) (hj : ∀ f, 0 ≤ f → f < m 32 0 → m' 43 f = m 43 f) (hj2 : ∀ f e, 0 ≤ f → f < m 32 0 → 0 ≤ e → e < m 43 f → m' 44 (80 * f + e) = m 44 (80 * f + e) ∧ m' 45 (80 * f + e) = m 45 (80 * f + e)) (hA : ∀ a text row, AIm h m a text row → AIm h' m' a text row) : RFa h' m' := by
  have e := fun g b hg hb => hF.2.2 g b (dj hd hg) hb
  intro f i f0 f1 i0 i1
  rw [h32] at f1
  rw [hj f f0 f1] at i1
  have b3 := (hL.2 f f0 f1).1.2.2
  have l3 := (hL.2 f f0 f1).2.2.1.2.2
  have c3 := ((hE f f0 f1).2 i i0 i1).1.2.2
  rw [e 10111 1012 (by decide) (by omega), e 1403 _ (by decide) b3, e 11403 _ (by decide) l3, e 1700 _ (by decide) c3, (hj2 f i f0 f1 i0 i1).1, (hj2 f i f0 f1 i0 i1).2]
  exact hA _ _ _ (hR f i f0 f1 i0 i1)
theorem RFa.fr (hR : RFa h m) (hL : RFl h m) (hE : RFe h m) (hn : 1076 ≤ h.2.2.1) (hF : Fr S h h') (hM : FrJ S' m m') (hd : dsj [10111, 1403, 11403, 1700] S) (hd2 : dsj trL S) (hj : dsj [32, 43, 44, 45] S') (hj2 : dsj [4, 8, 9, 10, 11, 12, 32, 49] S') : RFa h' m' :=
  hR.cg hL hE hn hF hd (by rw [hM 32 (dj hj (by decide))]) (fun f _ _ => by rw [hM 43 (dj hj (by decide))]) (fun f e _ _ _ _ => ⟨by rw [hM 44 (dj hj (by decide))], by rw [hM 45 (dj hj (by decide))]⟩) (fun a t r hA => hA.fr hF hM hd2 hj2)
theorem RFt.fr (hR : RFt h m) (hL : RFl h m) (hn : 1076 ≤ h.2.2.1) (hF : Fr S h h') (hM : FrJ S' m m') (hd : dsj [10111, 1404, 11404, 21404, 2600] S) (hd2 : dsj [11404, 21404, 2600] S) (hj : dsj [32, 38, 40] S') : RFt h' m' := by
  have e := fun g b hg hb => hF.2.2 g b (dj hd hg) hb
  have em := fun j hg => hM j (dj hj hg)
  unfold RFt
  rw [e 10111 1012 (by decide) (by omega), em 32 (by decide), em 40 (by decide), em 38 (by decide)]
  intro f f0 f1
  have b3 := (hL.2 f f0 f1).1.2.2
  rw [e 1404 _ (by decide) b3, e 21404 _ (by decide) (hL.2 f f0 f1).2.2.2.1.2.2]
  exact ⟨(hR f f0 f1).1.fr hF hd2 (fun _ _ _ => Iff.rfl), (hR f f0 f1).2⟩
theorem RNe.cg (hR : RNe h m) (hn : 1076 ≤ h.2.2.1) (hF : Fr S h h') (hd : dsj [10112, 20112, 1800, 1801] S) (h49 : m' 49 0 = m 49 0) (h50 : ∀ k, 0 ≤ k → k < m 49 0 → m' 50 k = m 50 k) (hA : ∀ a text row, AIm h m a text row → AIm h' m' a text row) : RNe h' m' := by
  have e := fun g b hg hb => hF.2.2 g b (dj hd hg) hb
  have n1 := hF.1
  obtain ⟨a1, a2⟩ := hR
  unfold RNe
  rw [hF.2.1 1014 (by omega), e 20112 1014 (by decide) (by omega), e 10112 1014 (by decide) (by omega), h49]
  refine ⟨a1, fun k k0 k1 => ?_⟩
  obtain ⟨⟨c1, c2, c3⟩, c4, c5, c6⟩ := a2 k k0 k1
  unfold cel
  rw [hF.2.1 _ c3, e 1801 _ (by decide) c3, e 1800 _ (by decide) c3, h50 k k0 k1]
  exact ⟨⟨c1, c2, by omega⟩, c4, c5, hA _ _ _ c6⟩
theorem RNe.fr (hR : RNe h m) (hn : 1076 ≤ h.2.2.1) (hF : Fr S h h') (hM : FrJ S' m m') (hd : dsj [10112, 20112, 1800, 1801] S) (hd2 : dsj trL S) (hj : dsj [49, 50] S') (hj2 : dsj [4, 8, 9, 10, 11, 12, 32, 49] S') : RNe h' m' :=
  hR.cg hn hF hd (by rw [hM 49 (dj hj (by decide))]) (fun k _ _ => by rw [hM 50 (dj hj (by decide))]) (fun a t r hA => hA.fr hF hM hd2 hj2)
theorem RSl.cg (hR : RSl h m) (hn : 1076 ≤ h.2.2.1) (hF : Fr S h h') (hd : dsj [10120, 20120, 1900, 1901, 1902, 1903, 1904, 1905, 1909, 1910, 2010, 2011, 2110] S) (hf : ∀ f, 0 ≤ f → f < m 32 0 → (h'.1 10111 1012 f) = (h.1 10111 1012 f)) (h53 : m' 53 0 = m 53 0) (hj : ∀ j, 54 ≤ j → j ≤ 58 → m' j = m j) (h32 : m 32 0 ≤ m' 32 0) (h49 : m 49 0 ≤ m' 49 0) : RSl h' m' := by
  have e := fun g b hg hb => hF.2.2 g b (dj hd hg) hb
  have n1 := hF.1
  obtain ⟨a1, a2⟩ := hR
  unfold RSl
  rw [hF.2.1 1022 (by omega), e 20120 1022 (by decide) (by omega), e 10120 1022 (by decide) (by omega), h53, hj 54 (by omega) (by omega), hj 55 (by omega) (by omega), hj 56 (by omega) (by omega), hj 57 (by omega) (by omega), hj 58 (by omega) (by omega)]
  refine ⟨a1, fun s s0 s1 => ?_⟩
  obtain ⟨⟨b1, b2, b3, b4⟩, ⟨c1, c2, c3⟩, d1, d2, d3, d4, d5, d6, d7⟩ := a2 s s0 s1
  rw [hF.2.1 _ b4, e 1900 _ (by decide) b4, e 1901 _ (by decide) b4, e 1902 _ (by decide) b4, e 1903 _ (by decide) b4, e 1904 _ (by decide) b4, e 1905 _ (by decide) b4, e 1909 _ (by decide) b4, e 1910 _ (by decide) b4, e 2010 _ (by decide) b4, e 2011 _ (by decide) b4, e 2110 _ (by decide) b4]
  refine ⟨⟨b1, b2, b3, by omega⟩, ⟨by rw [hf _ c2 c3]; exact c1, c2, by omega⟩, d1, d2, fun h0 => ?_, fun h0 => ?_, d5, d6, fun g g0 g1 hne => ?_⟩
  · have := d3 h0; exact ⟨this.1, by omega, by omega⟩
  · have := d4 h0; exact ⟨by rw [hf _ this.2.2.1 this.2.2.2]; exact this.1, this.2.1, by omega, by omega⟩
  · have b4' := (a2 g g0 g1).1.2.2.2
    rw [e 1904 _ (by decide) b4', e 1905 _ (by decide) b4']
    exact d7 g g0 g1 hne
theorem RSl.fr (hR : RSl h m) (hn : 1076 ≤ h.2.2.1) (hF : Fr S h h') (hM : FrJ S' m m') (hd : dsj [10120, 20120, 1900, 1901, 1902, 1903, 1904, 1905, 1909, 1910, 2010, 2011, 2110] S) (hd2 : dsj [10111] S) (hj : dsj [32, 49, 53, 54, 55, 56, 57, 58] S') : RSl h' m' := by
  have em := fun j hg => hM j (dj hj hg)
  refine hR.cg hn hF hd (fun f _ _ => by rw [hF.2.2 10111 1012 (dj hd2 (by decide)) (by omega)]) (by rw [em 53 (by decide)]) (fun j h1 h2 => ?_) (by rw [em 32 (by decide)]; omega) (by rw [em 49 (by decide)]; omega)
  have : j = 54 ∨ j = 55 ∨ j = 56 ∨ j = 57 ∨ j = 58 := by omega
  rcases this with h | h | h | h | h <;> subst h <;> exact em _ (by decide)
theorem RSv.fr (hR : RSv h m) (hL : RSl h m) (hn : 1076 ≤ h.2.2.1) (hF : Fr S h h') (hM : FrJ S' m m') (hd : dsj [10120, 1907, 1908] S) (hj : dsj [53, 59, 60] S') : RSv h' m' := by
  have e := fun g b hg hb => hF.2.2 g b (dj hd hg) hb
  have em := fun j hg => hM j (dj hj hg)
  unfold RSv
  rw [e 10120 1022 (by decide) (by omega), em 53 (by decide), em 59 (by decide), em 60 (by decide)]
  intro s s0 s1
  have b4 := (hL.2 s s0 s1).1.2.2.2
  rw [e 1907 _ (by decide) b4, e 1908 _ (by decide) b4]
  exact hR s s0 s1
theorem RSo.fr (hR : RSo h m) (hL : RSl h m) (hn : 1076 ≤ h.2.2.1) (hF : Fr S h h') (hM : FrJ S' m m') (hd : dsj [10120, 1904, 11904, 21904, 2600] S) (hd2 : dsj [11904, 21904, 2600] S) (hj : dsj [53, 61] S') : RSo h' m' := by
  have e := fun g b hg hb => hF.2.2 g b (dj hd hg) hb
  have em := fun j hg => hM j (dj hj hg)
  unfold RSo
  rw [e 10120 1022 (by decide) (by omega), em 53 (by decide), em 61 (by decide)]
  intro s s0 s1
  have b4 := (hL.2 s s0 s1).1.2.2.2
  rw [e 1904 _ (by decide) b4, e 21904 _ (by decide) (hR s s0 s1).1.1.2.2.1]
  exact ⟨(hR s s0 s1).1.fr hF hd2 (fun _ _ _ => Iff.rfl), (hR s s0 s1).2⟩
theorem RSs.fr (hR : RSs h m) (hL : RSl h m) (hn : 1076 ≤ h.2.2.1) (hF : Fr S h h') (hM : FrJ S' m m') (hd : dsj [10120, 1905, 1906, 11905, 21905, 2600] S) (hd2 : dsj [11905, 21905, 2600] S) (hj : dsj [53, 62] S') : RSs h' m' := by
  have e := fun g b hg hb => hF.2.2 g b (dj hd hg) hb
  have em := fun j hg => hM j (dj hj hg)
  unfold RSs
  rw [e 10120 1022 (by decide) (by omega), em 53 (by decide), em 62 (by decide)]
  intro s s0 s1
  have b4 := (hL.2 s s0 s1).1.2.2.2
  obtain ⟨p1, p2, p3, p4⟩ := hR s s0 s1
  have bx := p1.1
  rw [e 1905 _ (by decide) b4, e 1906 _ (by decide) b4, e 21905 _ (by decide) bx.2.2.1, e 11905 _ (by decide) bx.2.2.1]
  refine ⟨p1.fr hF hd2 (fun _ _ _ => Iff.rfl), p2, fun i i0 i1 => ?_, p4⟩
  rw [p3 i i0 i1]
  by_cases hi : i < h.1 21905 (h.1 1905 ((h.1 10120 1022 s)) 0) 0
  · rw [e 2600 _ (by decide) (bx.2.2.2.2 i i0 hi).2]
  · rw [if_neg (fun hh => hi hh.1), if_neg (fun hh => hi hh.1)]
theorem RMz.fr (hR : RMz m) (hM : FrJ S' m m') (hj : dsj [32, 37, 40, 41, 43, 53, 60, 61, 62, 66] S') : RMz m' := by
  have em := fun j hg => hM j (dj hj hg)
  unfold RMz
  rw [em 32 (by decide), em 37 (by decide), em 40 (by decide), em 41 (by decide), em 43 (by decide), em 53 (by decide), em 60 (by decide), em 61 (by decide), em 62 (by decide), em 66 (by decide)]
  exact hR
theorem RET.fr {et : Int → Int → Bool} (hR : RET et m) (hM : FrJ S' m m') (hj : dsj [32, 37, 40, 53, 54, 55, 56, 62] S') : RET et m' := by
  have em := fun j hg => hM j (dj hj hg)
  unfold RET
  rw [em 32 (by decide), em 37 (by decide), em 40 (by decide), em 53 (by decide), em 54 (by decide), em 55 (by decide), em 56 (by decide), em 62 (by decide)]
  exact hR
/-- nothing of the relation is touched -/
theorem RL.fr (hR : RL h m) (hF : Fr [10119] h h') (hM : FrJ [0, 15, 16, 17, 18, 19, 20, 22, 23, 24, 25, 26, 29, 30, 31, 63, 64, 65, 67, 68, 69] m m') : RL h' m' := by
  have hn := hR.nx
  obtain ⟨et, het⟩ := hR.et
  exact ⟨by have := hF.1; omega, hR.now.fr hn hF hM (by decide) (by decide), hR.fc.fr hn hF hM (by decide) (by decide), hR.tp.fr hn hF hM (by decide) (by decide), hR.ac.fr hn hF hM (by decide) (by decide), hR.en.fr hn hF hM (by decide) (by decide), hR.pd.fr hn hF hM (by decide) (by decide), hR.ao.fr hn hF hM (by decide) (by decide), hR.fl.fr hn hF hM (by decide) (by decide), hR.fv.fr hR.fl hn hF hM (by decide) (by decide), hR.fj.fr hR.fl hn hF hM (by decide) (by decide), hR.fp.fr hR.fl hn hF hM (by decide) (by decide), hR.fe.fr hR.fl hn hF hM (by decide) (by decide), hR.fa.fr hR.fl hR.fe hn hF hM (by decide) (by decide) (by decide) (by decide), hR.ft.fr hR.fl hn hF hM (by decide) (by decide) (by decide), hR.ne.fr hn hF hM (by decide) (by decide) (by decide) (by decide), hR.sl.fr hn hF hM (by decide) (by decide) (by decide), hR.sv.fr hR.sl hn hF hM (by decide) (by decide), hR.so.fr hR.sl hn hF hM (by decide) (by decide) (by decide), hR.ss.fr hR.sl hn hF hM (by decide) (by decide) (by decide), hR.mz.fr hM (by decide), et, het.fr hM (by decide)⟩
end
