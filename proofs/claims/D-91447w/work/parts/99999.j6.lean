/-! BOTH: lists of persons; trustees -/
set_option maxHeartbeats 3200000
set_option maxRecDepth 100000
section
variable {d : Nat} {h h' : mD} {m m' : sg} {Q : mQ mD} {c : Int}
theorem PL.add {r rs : Nat} {a x p k : Int} {P P' : Int → Prop} (hP : PL h r rs a P) (hx : x < h.2.2.1 ∧ h.2.1 x = 26 ∧ h.1 2600 x 0 = p) (hp : 0 ≤ p ∧ p < 100) (hnp : ¬ P p) (hr : r ≠ rs ∧ r ≠ 2600 ∧ rs ≠ 2600) (hs : h.1 rs a 0 < 100) (hP' : ∀ q, 0 ≤ q → q < 100 → (P' q ↔ P q ∨ q = p)) : PL (dpy (dst (dst h r a (h.1 rs a 0) x) rs a 0 (h.1 rs a 0 + 1)) k) r rs a P' := by
  obtain ⟨⟨a1, a2, a3, a4, a5⟩, b, cc⟩ := hP
  have e1 : ∀ i, (dpy (dst (dst h r a (h.1 rs a 0) x) rs a 0 (h.1 rs a 0 + 1)) k).1 r a i = if i = h.1 rs a 0 then x else h.1 r a i := fun i => by
    show (dst (dst h r a (h.1 rs a 0) x) rs a 0 (h.1 rs a 0 + 1)).1 r a i = _
    rw [ds_n hr.1, ds_u, upd1_ap]
  have e2 : (dpy (dst (dst h r a (h.1 rs a 0) x) rs a 0 (h.1 rs a 0 + 1)) k).1 rs a 0 = h.1 rs a 0 + 1 := dsz_0
  have e3 : ∀ z, (dpy (dst (dst h r a (h.1 rs a 0) x) rs a 0 (h.1 rs a 0 + 1)) k).1 2600 z = h.1 2600 z := fun z => by
    show (dst (dst h r a (h.1 rs a 0) x) rs a 0 (h.1 rs a 0 + 1)).1 2600 z = _
    rw [ds_n (fun e => hr.2.2 e.symm), ds_n (fun e => hr.2.1 e.symm)]
  have e4 : (dpy (dst (dst h r a (h.1 rs a 0) x) rs a 0 (h.1 rs a 0 + 1)) k).2.1 = h.2.1 := rfl
  have e5 : (dpy (dst (dst h r a (h.1 rs a 0) x) rs a 0 (h.1 rs a 0 + 1)) k).2.2.1 = h.2.2.1 := rfl
  generalize dpy (dst (dst h r a (h.1 rs a 0) x) rs a 0 (h.1 rs a 0 + 1)) k = h2 at *
  have old : ∀ i, 0 ≤ i → i < h.1 rs a 0 → h.1 2600 (h.1 r a i) 0 ≠ p := fun i i0 i1 e => hnp ((cc p).mp ⟨i, i0, i1, e⟩).2.2
  refine ⟨⟨by rw [e4]; exact a1, a2, by rw [e5]; exact a3, by rw [e2]; omega, fun i i0 i1 => ?_⟩, fun i i0 i1 => ?_, fun q => ?_⟩
  · rw [e1, e4, e5]
    by_cases hi : i = h.1 rs a 0
    · rw [if_pos hi]; exact ⟨hx.2.1, hx.1⟩
    · rw [if_neg hi]; exact a5 i i0 (by omega)
  · rw [e2] at i1
    rw [e1, e3]
    by_cases hi : i = h.1 rs a 0
    · rw [if_pos hi, hx.2.2]
      refine ⟨hp, fun j j0 j1 hj => ?_⟩
      rw [e2] at j1
      rw [e1, e3] at hj
      by_cases hj2 : j = h.1 rs a 0
      · omega
      · rw [if_neg hj2] at hj
        exact absurd hj.symm (old j j0 (by omega))
    · rw [if_neg hi]
      refine ⟨(b i i0 (by omega)).1, fun j j0 j1 hj => ?_⟩
      rw [e2] at j1
      rw [e1, e3] at hj
      by_cases hj2 : j = h.1 rs a 0
      · rw [if_pos hj2, hx.2.2] at hj
        exact absurd hj (old i i0 (by omega))
      · rw [if_neg hj2] at hj
        exact (b i i0 (by omega)).2 j j0 (by omega) hj
  · constructor
    · rintro ⟨i, i0, i1, i2⟩
      rw [e2] at i1
      rw [e1, e3] at i2
      by_cases hi : i = h.1 rs a 0
      · rw [if_pos hi, hx.2.2] at i2
        subst i2
        exact ⟨hp.1, hp.2, (hP' p hp.1 hp.2).mpr (Or.inr rfl)⟩
      · rw [if_neg hi] at i2
        have := (cc q).mp ⟨i, i0, by omega, i2⟩
        exact ⟨this.1, this.2.1, (hP' q this.1 this.2.1).mpr (Or.inl this.2.2)⟩
    · rintro ⟨q0, q1, q2⟩
      rcases (hP' q q0 q1).mp q2 with h1 | h1
      · obtain ⟨i, i0, i1, i2⟩ := (cc q).mpr ⟨q0, q1, h1⟩
        exact ⟨i, i0, by rw [e2]; omega, by rw [e1, e3, if_neg (by omega)]; exact i2⟩
      · exact ⟨h.1 rs a 0, by omega, by rw [e2]; omega, by rw [e1, e3, if_pos rfl, hx.2.2]; exact h1.symm⟩
theorem PL.del {r rs : Nat} {a z : Int} {P P' : Int → Prop} (hP : PL h r rs a P) (hz : 0 ≤ z ∧ z < h.1 rs a 0) (hr : r ≠ rs ∧ r ≠ 2600 ∧ rs ≠ 2600) (hP' : ∀ q, 0 ≤ q → q < 100 → (P' q ↔ P q ∧ q ≠ h.1 2600 (h.1 r a z) 0)) : PL (dpy (dst (drow h r a (fun k => if k < z then h.1 r a k else h.1 r a (k + 1))) rs a 0 (h.1 rs a 0 - 1)) 1) r rs a P' := by
  obtain ⟨⟨a1, a2, a3, a4, a5⟩, b, cc⟩ := hP
  have e1 : ∀ i, (dpy (dst (drow h r a (fun k => if k < z then h.1 r a k else h.1 r a (k + 1))) rs a 0 (h.1 rs a 0 - 1)) 1).1 r a i = h.1 r a (if i < z then i else i + 1) := fun i => by
    show (dst (drow h r a (fun k => if k < z then h.1 r a k else h.1 r a (k + 1))) rs a 0 (h.1 rs a 0 - 1)).1 r a i = _
    rw [ds_n hr.1]
    show (if r = r then (fun a' => if a' = a then (fun k => if k < z then h.1 r a k else h.1 r a (k + 1)) else h.1 r a') else h.1 r) a i = _
    rw [if_pos rfl]
    show (if a = a then (fun k => if k < z then h.1 r a k else h.1 r a (k + 1)) else h.1 r a) i = _
    rw [if_pos rfl]
    by_cases hi : i < z
    · rw [if_pos hi, if_pos hi]
    · rw [if_neg hi, if_neg hi]
  have e2 : (dpy (dst (drow h r a (fun k => if k < z then h.1 r a k else h.1 r a (k + 1))) rs a 0 (h.1 rs a 0 - 1)) 1).1 rs a 0 = h.1 rs a 0 - 1 := dsz_0
  have e3 : ∀ w, (dpy (dst (drow h r a (fun k => if k < z then h.1 r a k else h.1 r a (k + 1))) rs a 0 (h.1 rs a 0 - 1)) 1).1 2600 w = h.1 2600 w := fun w => by
    show (dst (drow h r a (fun k => if k < z then h.1 r a k else h.1 r a (k + 1))) rs a 0 (h.1 rs a 0 - 1)).1 2600 w = _
    rw [ds_n (fun e => hr.2.2 e.symm)]
    show (if 2600 = r then _ else h.1 2600) w = _
    rw [if_neg (fun e => hr.2.1 e.symm)]
  have e4 : (dpy (dst (drow h r a (fun k => if k < z then h.1 r a k else h.1 r a (k + 1))) rs a 0 (h.1 rs a 0 - 1)) 1).2.1 = h.2.1 := rfl
  have e5 : (dpy (dst (drow h r a (fun k => if k < z then h.1 r a k else h.1 r a (k + 1))) rs a 0 (h.1 rs a 0 - 1)) 1).2.2.1 = h.2.2.1 := rfl
  generalize dpy (dst (drow h r a (fun k => if k < z then h.1 r a k else h.1 r a (k + 1))) rs a 0 (h.1 rs a 0 - 1)) 1 = h2 at *
  have sh : ∀ i, 0 ≤ i → i < h.1 rs a 0 - 1 → 0 ≤ (if i < z then i else i + 1) ∧ (if i < z then i else i + 1) < h.1 rs a 0 ∧ (if i < z then i else i + 1) ≠ z := fun i i0 i1 => by
    by_cases hi : i < z
    · rw [if_pos hi]; omega
    · rw [if_neg hi]; omega
  refine ⟨⟨by rw [e4]; exact a1, a2, by rw [e5]; exact a3, by rw [e2]; omega, fun i i0 i1 => ?_⟩, fun i i0 i1 => ?_, fun q => ?_⟩
  · rw [e2] at i1
    rw [e1, e4, e5]
    exact a5 _ (sh i i0 i1).1 (sh i i0 i1).2.1
  · rw [e2] at i1
    rw [e1, e3]
    refine ⟨(b _ (sh i i0 i1).1 (sh i i0 i1).2.1).1, fun j j0 j1 hj => ?_⟩
    rw [e2] at j1
    rw [e1, e3] at hj
    have := (b _ (sh i i0 i1).1 (sh i i0 i1).2.1).2 _ (sh j j0 j1).1 (sh j j0 j1).2.1 hj
    by_cases hi : i < z
    · rw [if_pos hi] at this
      by_cases hj2 : j < z
      · rw [if_pos hj2] at this; exact this
      · rw [if_neg hj2] at this; omega
    · rw [if_neg hi] at this
      by_cases hj2 : j < z
      · rw [if_pos hj2] at this; omega
      · rw [if_neg hj2] at this; omega
  · constructor
    · rintro ⟨i, i0, i1, i2⟩
      rw [e2] at i1
      rw [e1, e3] at i2
      have s := sh i i0 i1
      have := (cc q).mp ⟨_, s.1, s.2.1, i2⟩
      refine ⟨this.1, this.2.1, (hP' q this.1 this.2.1).mpr ⟨this.2.2, fun e => ?_⟩⟩
      rw [← i2] at e
      exact s.2.2 ((b _ s.1 s.2.1).2 z hz.1 hz.2 e)
    · rintro ⟨q0, q1, q2⟩
      obtain ⟨h1, h2'⟩ := (hP' q q0 q1).mp q2
      obtain ⟨i, i0, i1, i2⟩ := (cc q).mpr ⟨q0, q1, h1⟩
      have : i ≠ z := fun e => h2' (by rw [← i2, e])
      by_cases hi : i < z
      · exact ⟨i, i0, by rw [e2]; omega, by rw [e1, e3, if_pos hi]; exact i2⟩
      · exact ⟨i - 1, by omega, by rw [e2]; omega, by rw [e1, e3, if_neg (by omega), show i - 1 + 1 = i by omega]; exact i2⟩
theorem PL.cg {r rs : Nat} {a : Int} {P P' : Int → Prop} (hP : PL h r rs a P) (hn : h.2.2.1 ≤ h'.2.2.1) (hk : ∀ b, b < h.2.2.1 → h'.2.1 b = h.2.1 b) (h1 : h'.1 r a = h.1 r a) (h2 : h'.1 rs a = h.1 rs a) (h3 : ∀ b, b < h.2.2.1 → h'.1 2600 b = h.1 2600 b) (hPP : ∀ p, 0 ≤ p → p < 100 → (P' p ↔ P p)) : PL h' r rs a P' := by
  obtain ⟨⟨a1, a2, a3, a4, a5⟩, b, c⟩ := hP
  unfold PL boxL hasV
  rw [hk a a3, h1, h2]
  refine ⟨⟨a1, a2, by omega, a4, fun i i0 i1 => ?_⟩, fun i i0 i1 => ?_, fun p => ?_⟩
  · have := a5 i i0 i1
    rw [hk _ this.2]
    exact ⟨this.1, by omega⟩
  · rw [h3 _ (a5 i i0 i1).2]
    refine ⟨(b i i0 i1).1, fun j j0 j1 hj => (b i i0 i1).2 j j0 j1 ?_⟩
    rw [h3 _ (a5 j j0 j1).2] at hj
    exact hj
  · have hc := c p
    constructor
    · rintro ⟨i, i0, i1, i2⟩
      rw [h3 _ (a5 i i0 i1).2] at i2
      have := hc.mp ⟨i, i0, i1, i2⟩
      exact ⟨this.1, this.2.1, (hPP p this.1 this.2.1).mpr this.2.2⟩
    · rintro ⟨p0, p1, p2⟩
      obtain ⟨i, i0, i1, i2⟩ := hc.mpr ⟨p0, p1, (hPP p p0 p1).mp p2⟩
      exact ⟨i, i0, i1, by rw [h3 _ (a5 i i0 i1).2]; exact i2⟩
/-- one fund's list of trustees changes -/
theorem RFt.at {S : List Nat} (hL : RL h m) (hF : Fr S h h') (hd : dsj [10111, 1404, 2600] S) {f : Int} (hf : 0 ≤ f ∧ f < m 32 0) (h1 : ∀ g b, g = 11404 ∨ g = 21404 → b < h.2.2.1 → b ≠ h.1 1404 ((h.1 10111 1012 f)) 0 → h'.1 g b = h.1 g b) (h32 : m' 32 0 = m 32 0) (h38 : m' 38 = m 38) (h40 : ∀ g p, 0 ≤ g → g < m 32 0 → g ≠ f → 0 ≤ p → p < 100 → m' 40 (100 * g + p) = m 40 (100 * g + p))
    (h3 : PL h' 11404 21404 (h.1 1404 ((h.1 10111 1012 f)) 0) (fun p => m' 40 (100 * f + p) ≠ 0) ∧ h'.1 21404 (h.1 1404 ((h.1 10111 1012 f)) 0) 0 ≤ m 38 f) : RFt h' m' := by
  have hn := hL.nx
  have e := fun g b hg hb => hF.2.2 g b (dj hd hg) hb
  intro g g0 g1
  rw [h32] at g1
  have b3 := (hL.fl.2 g g0 g1).1.2.2
  rw [e 10111 1012 (by decide) (by omega), e 1404 _ (by decide) b3, h38]
  by_cases eg : g = f
  · subst eg; exact h3
  · have ne : h.1 1404 ((h.1 10111 1012 g)) 0 ≠ h.1 1404 ((h.1 10111 1012 f)) 0 := ((hL.fl.2 f hf.1 hf.2).2.2.2.2.2 g g0 g1 eg).2.1
    have t3 := (hL.fl.2 g g0 g1).2.2.2.1.2.2
    obtain ⟨u1, u2⟩ := hL.ft g g0 g1
    rw [h1 21404 _ (Or.inr rfl) t3 ne]
    exact ⟨u1.cg hF.1 hF.2.1 (h1 11404 _ (Or.inl rfl) t3 ne) (h1 21404 _ (Or.inr rfl) t3 ne) (fun b hb => e 2600 b (by decide) hb) (fun p p0 p1 => by rw [h40 g p g0 g1 eg p0 p1]), u2⟩
/-- a trustee comes -/
theorem RL.trAdd (hL : RL h m) {f p x k : Int} (fr : 0 ≤ f ∧ f < m 32 0) (hj : m 37 f = -1) (hp : 0 ≤ p ∧ p < 100) (hno : m 40 (100 * f + p) = 0) (hsz : h.1 21404 (h.1 1404 ((h.1 10111 1012 f)) 0) 0 ≠ m 38 f) (hx : x < h.2.2.1 ∧ h.2.1 x = 26 ∧ h.1 2600 x 0 = p) : RL (dpy (dst (dst h 11404 (h.1 1404 ((h.1 10111 1012 f)) 0) (h.1 21404 (h.1 1404 ((h.1 10111 1012 f)) 0) 0) x) 21404 (h.1 1404 ((h.1 10111 1012 f)) 0) 0 (h.1 21404 (h.1 1404 ((h.1 10111 1012 f)) 0) 0 + 1)) k) (upm (upm m 0 0 0) 40 (100 * f + p) 1) := by
  have hn := hL.nx
  obtain ⟨t1, t2⟩ := hL.ft f fr.1 fr.2
  have v38 := (hL.fv f fr.1 fr.2).2.1
  have tsz := hL.tsz fr
  have hM : FrJ [0, 40] m (upm (upm m 0 0 0) 40 (100 * f + p) 1) := (FrJ.rf.up (by decide)).up (by decide)
  have e40 : ∀ i, (upm (upm m 0 0 0) 40 (100 * f + p) 1) 40 i = if i = 100 * f + p then 1 else m 40 i := fun i => by rw [upm_s, upd1_ap, upm_n (by decide)]
  have hPn := t1.add (k := k) (P' := fun q => (upm (upm m 0 0 0) 40 (100 * f + p) 1) 40 (100 * f + q) ≠ 0) hx hp (fun hh => hh hno) (by decide) (by omega) (fun q q0 q1 => by
    rw [e40]
    by_cases e : q = p
    · rw [if_pos (by omega)]; simp [e]
    · rw [if_neg (by omega)]; simp [e])
  generalize hT : h.1 1404 ((h.1 10111 1012 f)) 0 = T at *
  generalize hz : h.1 21404 T 0 = z at *
  have hF : Fr [11404, 21404] h (dpy (dst (dst h 11404 T z x) 21404 T 0 (z + 1)) k) := ((Fr.rf.ds (by decide)).ds (by decide)).dp
  have sz : (dpy (dst (dst h 11404 T z x) 21404 T 0 (z + 1)) k).1 21404 T 0 = z + 1 := by show (dst (dst h 11404 T z x) 21404 T 0 (z + 1)).1 21404 T 0 = _; rw [dsz_0]
  have b2 : ∀ g' b', b' ≠ T → (dpy (dst (dst h 11404 T z x) 21404 T 0 (z + 1)) k).1 g' b' = h.1 g' b' := fun g' b' c1 => by
    show (dst (dst h 11404 T z x) 21404 T 0 (z + 1)).1 g' b' = _
    rw [ds_o c1, ds_o c1]
  generalize dpy (dst (dst h 11404 T z x) 21404 T 0 (z + 1)) k = h2 at *
  subst hT
  have hft : RFt h2 (upm (upm m 0 0 0) 40 (100 * f + p) 1) := RFt.at hL hF (by decide) fr (fun g b _ _ hb => b2 g b hb) (by rw [hM 32 (by decide)]) (hM 38 (by decide)) (fun g q _ _ hne q0 q1 => by rw [e40, if_neg (by omega)]) ⟨hPn, by rw [sz]; omega⟩
  have hmz : RMz (upm (upm m 0 0 0) 40 (100 * f + p) 1) := by
    have := hL.mz
    unfold RMz at this ⊢
    rw [hM 32 (by decide), hM 37 (by decide), hM 41 (by decide), hM 43 (by decide), hM 53 (by decide), hM 60 (by decide), hM 61 (by decide), hM 62 (by decide), hM 66 (by decide)]
    refine ⟨fun g g0 g1 => ⟨(this.1 g g0 g1).1, (this.1 g g0 g1).2.1, fun q q0 q1 => ?_, (this.1 g g0 g1).2.2.2⟩, this.2⟩
    rw [e40, if_neg (by omega)]
    exact (this.1 g g0 g1).2.2.1 q q0 q1
  have het : ∃ et, RET et (upm (upm m 0 0 0) 40 (100 * f + p) 1) := by
    obtain ⟨et, r1, r2, r3, r4, r5⟩ := hL.et
    have ef : cnt (et f) 100 = cnt (fun p => decide (m 40 (100 * f + p) ≠ 0)) 100 := cnt_cg 100 (fun q q0 q1 => by
      cases e : et f q with
      | true => exact (decide_eq_true (r3 f q fr.1 fr.2 q0 q1 hj e)).symm
      | false => exact (decide_eq_false (fun hh => by rw [r2 f q fr.1 fr.2 q0 q1 hh] at e; cases e)).symm)
    have efp : et f p = false := by
      cases e : et f p with
      | false => rfl
      | true => exact absurd hno (r3 f p fr.1 fr.2 hp.1 hp.2 hj e)
    obtain ⟨et', he'⟩ : ∃ et' : Int → Int → Bool, ∀ g q, et' g q = (et g q || (decide (g = f) && decide (q = p))) := ⟨_, fun _ _ => rfl⟩
    refine ⟨et', ?_⟩
    unfold RET
    rw [hM 32 (by decide), hM 37 (by decide), hM 53 (by decide), hM 54 (by decide), hM 55 (by decide), hM 56 (by decide), hM 62 (by decide)]
    refine ⟨fun g => ?_, fun g q g0 g1 q0 q1 hh => ?_, fun g q g0 g1 q0 q1 hj' hh => ?_, fun g q g0 => ?_, fun s q s0 s1 q0 q1 hh => ?_⟩
    · by_cases e : g = f
      · subst e
        have one := cnt_one (p := et' g) (q := et g) (x := p) efp (fun i hi => by rw [he']; simp [hi]) hp.1 100 hp.2
        have t : et' g p = true := by rw [he']; simp
        rw [t, if_pos rfl, show ((100 : Nat) : Int) = 100 from rfl] at one
        rw [one]
        omega
      · have : et' g = et g := by
          funext q
          rw [he']
          simp [e]
        rw [this]
        exact r1 g
    · rw [he']
      rw [e40] at hh
      by_cases e : 100 * g + q = 100 * f + p
      · have : g = f ∧ q = p := by omega
        simp [this]
      · rw [if_neg e] at hh
        rw [r2 g q g0 g1 q0 q1 hh]
        rfl
    · rw [he'] at hh
      rw [e40]
      by_cases e : 100 * g + q = 100 * f + p
      · rw [if_pos e]; decide
      · rw [if_neg e]
        refine r3 g q g0 g1 q0 q1 hj' ?_
        have : ¬ (g = f ∧ q = p) := by omega
        cases e1 : et g q with
        | true => rfl
        | false =>
          rw [e1] at hh
          simp at hh
          exact absurd hh this
    · rw [he', r4 g q g0]
      have : g ≠ f := by omega
      simp [this]
    · rcases r5 s q s0 s1 q0 q1 hh with r | r
      · left; rw [he', r]; rfl
      · right; exact ⟨r.1, by rw [he', r.2]; rfl⟩
  exact ⟨(by have := hF.1; omega), hL.now.fr hn hF hM (by decide) (by decide), hL.fc.fr hn hF hM (by decide) (by decide), hL.tp.fr hn hF hM (by decide) (by decide), hL.ac.fr hn hF hM (by decide) (by decide), hL.en.fr hn hF hM (by decide) (by decide), hL.pd.fr hn hF hM (by decide) (by decide), hL.ao.fr hn hF hM (by decide) (by decide), hL.fl.fr hn hF hM (by decide) (by decide), hL.fv.fr hL.fl hn hF hM (by decide) (by decide), hL.fj.fr hL.fl hn hF hM (by decide) (by decide), hL.fp.fr hL.fl hn hF hM (by decide) (by decide), hL.fe.fr hL.fl hn hF hM (by decide) (by decide), hL.fa.fr hL.fl hL.fe hn hF hM (by decide) (by decide) (by decide) (by decide), hft, hL.ne.fr hn hF hM (by decide) (by decide) (by decide) (by decide), hL.sl.fr hn hF hM (by decide) (by decide) (by decide), hL.sv.fr hL.sl hn hF hM (by decide) (by decide), hL.so.fr hL.sl hn hF hM (by decide) (by decide) (by decide), hL.ss.fr hL.sl hn hF hM (by decide) (by decide) (by decide), hmz, het⟩
end
