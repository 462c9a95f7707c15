/-! THE DESK READS acts: what is made -/
set_option maxHeartbeats 3200000
set_option maxRecDepth 100000
/-- what an act holds; its bars -/
def hvl (w : Int) : List Cl → Int → Int
  | [], v => v
  | c :: r, v => hvl w r (if c.1 = w then c.2.1 else v)
def brl : List Cl → List Cl
  | [] => []
  | c :: r => if c.1 = 6 then c :: brl r else brl r
theorem hvl_app (w : Int) (b : List Cl) : ∀ (a : List Cl) (v : Int), hvl w (a ++ b) v = hvl w b (hvl w a v)
  | [], _ => rfl
  | c :: r, v => hvl_app w b r _
theorem brl_app (a b : List Cl) : brl (a ++ b) = brl a ++ brl b := by
  induction a with
  | nil => rfl
  | cons c r ih =>
    show (if c.1 = 6 then c :: brl (r ++ b) else brl (r ++ b)) = (if c.1 = 6 then c :: brl r else brl r) ++ brl b
    by_cases h : c.1 = 6
    · rw [if_pos h, if_pos h, ih]; rfl
    · rw [if_neg h, if_neg h, ih]
theorem brl_len : ∀ cs : List Cl, (brl cs).length ≤ cs.length
  | [] => Nat.le_refl _
  | c :: r => by
    show (if c.1 = 6 then c :: brl r else brl r).length ≤ _
    have := brl_len r
    split
    · rw [List.length_cons, List.length_cons]; omega
    · rw [List.length_cons]; omega
/-- an act under making, or made -/
def ACp (lo hi : Int) (m : mD) (a : Int) (cs : List Cl) : Prop := ((lo ≤ a ∧ a < m.1 300 a 0 ∧ m.1 300 a 0 < m.1 301 a 0 ∧ m.1 301 a 0 < hi) ∧ m.2.1 a = 3 ∧ m.2.1 (m.1 300 a 0) = 10300 ∧ m.2.1 (m.1 301 a 0) = 10301) ∧ m.1 303 a 0 = (cs.length : Int) ∧ (∀ w, 0 ≤ w → w < 6 → m.1 10301 (m.1 301 a 0) w = hvl w cs (tdef w)) ∧ m.1 20300 (m.1 300 a 0) 0 = ((brl cs).length : Int) ∧ ∀ i : Nat, i < (brl cs).length → (m.1 301 a 0 < m.1 10300 (m.1 300 a 0) i ∧ m.1 10300 (m.1 300 a 0) i < hi ∧ m.2.1 (m.1 10300 (m.1 300 a 0) i) = 7) ∧ m.1 700 (m.1 10300 (m.1 300 a 0) i) 0 = ((brl cs).getD i (0, 0, 0, [], [], [], 0)).2.1 ∧ TCb (m.1 301 a 0 + 1) hi m (((brl cs).getD i (0, 0, 0, [], [], [], 0)).2.2.2.2.1.length + 10) (m.1 701 (m.1 10300 (m.1 300 a 0) i) 0) ((brl cs).getD i (0, 0, 0, [], [], [], 0)).2.2.2.2.1
section
variable {t : Int → Int} {n : Int} {nm : Nat} {ai r L lo : Int} {d : Nat} {m m0 m1 : mD} {Q : mQ mD}
theorem ACp.cg {lo hi lo' hi' : Int} {m m' : mD} {a : Int} {cs : List Cl} (h : ACp lo hi m a cs) (hl : lo' ≤ lo) (hh : hi ≤ hi') (hg : ∀ g b, lo ≤ b → b < hi → m'.1 g b = m.1 g b) (hk : ∀ b, lo ≤ b → b < hi → m'.2.1 b = m.2.1 b) : ACp lo' hi' m' a cs := by
  obtain ⟨⟨⟨a1, a2, a3, a4⟩, a5, a6, a7⟩, b1, b2, b3, b4⟩ := h
  unfold ACp
  rw [hg 300 a a1 (by omega), hg 301 a a1 (by omega), hg 303 a a1 (by omega), hk a a1 (by omega), hk _ (by omega) (show m.1 300 a 0 < hi by omega), hk _ (by omega) a4, hg 10301 _ (by omega) a4, hg 20300 _ (by omega) (show m.1 300 a 0 < hi by omega), hg 10300 _ (by omega) (show m.1 300 a 0 < hi by omega)]
  refine ⟨⟨⟨by omega, a2, a3, by omega⟩, a5, a6, a7⟩, b1, b2, b3, fun i hi => ?_⟩
  obtain ⟨⟨c1, c2, c3⟩, c4, c5⟩ := b4 i hi
  rw [hk _ (by omega) c2, hg 700 _ (by omega) c2, hg 701 _ (by omega) c2]
  exact ⟨⟨c1, by omega, c3⟩, c4, c5.cg (Nat.le_refl _) (Int.le_refl _) hh (fun g b b0 b1 => hg g b (by omega) b1) (fun b b0 b1 => hk b (by omega) b1)⟩
theorem ACp.x {a : Int} {cs : List Cl} (h : ACp lo m.2.2.1 m a cs) (hx : RX r 0 m m1) (hr : r < lo) (h0 : 0 < lo) : ACp lo m1.2.2.1 m1 a cs := h.cg (Int.le_refl _) hx.1 (fun g b b0 b1 => hx.o b1 (by omega) (by omega) g) (fun b _ b1 => hx.2.1 b b1)
def actN (a l h : Int) (m m' : mD) : Prop := (m.2.2.1 ≤ l ∧ l < h ∧ m'.2.2.1 = h + 1) ∧ (m'.2.1 l = 10300 ∧ m'.2.1 h = 10301) ∧ (∀ x, x < m.2.2.1 → m'.2.1 x = m.2.1 x) ∧ (m'.1 20300 l 0 = 0 ∧ m'.1 300 a 0 = l ∧ m'.1 301 a 0 = h ∧ m'.1 303 a 0 = m.1 303 a 0) ∧ (m'.1 10301 h 0 = 3 ∧ m'.1 10301 h 1 = 1 ∧ m'.1 10301 h 2 = 30 ∧ m'.1 10301 h 3 = 90 ∧ m'.1 10301 h 4 = 0 ∧ m'.1 10301 h 5 = 20) ∧ m'.2.2.2 = m.2.2.2 - 23 ∧ ∀ g x, x < m.2.2.1 → x ≠ a → m'.1 g x = m.1 g x
theorem D_ActI {a : Int} (ha : m.2.1 a = 3) (hab : a < m.2.2.1) (hB : 23 ≤ m.2.2.2) (hQ : ∀ l h m', actN a l h m m' → Q rV m') : RD (d + 1) 75 (0, [some (mR a)], [], m) Q := by
  -- the array
  have arr : ∀ l m1, (m.2.2.1 ≤ l ∧ m1.2.2.1 = l + 1) → m1.2.1 l = 10300 → (∀ x, x < m.2.2.1 → m1.2.1 x = m.2.1 x) → m1.1 20300 l 0 = 0 → m1.1 300 a 0 = l → m1.1 303 a 0 = m.1 303 a 0 → m1.2.2.2 = m.2.2.2 - 13 → (∀ g x, x < m.2.2.1 → x ≠ a → m1.1 g x = m.1 g x) → RD (d + 1) 75 (16, [some (mR a)], [], m1) Q := by
    intro l m1 e1 e2 e3 e4 e5 e6 e7 e8
    have ka : m1.2.1 a = 3 := by rw [e3 a hab]; exact ha
    have fin : ∀ h, m1.2.2.1 ≤ h → Q rV (dst (dst (dst (dst (dst (dst (dst (dal m1 h 10301 (((6 : Nat) : Int) + 4)) 10301 h 0 3) 10301 h 1 1) 10301 h 2 30) 10301 h 3 90) 10301 h 4 0) 10301 h 5 20) 301 a 0 h) := by
      intro h hh
      have dx := dal_x (r := 0) (L := 0) (k := 10301) (c := ((6 : Nat) : Int) + 4) hh
      have o : ∀ g x, x ≠ h → x ≠ a → (dst (dst (dst (dst (dst (dst (dst (dal m1 h 10301 (((6 : Nat) : Int) + 4)) 10301 h 0 3) 10301 h 1 1) 10301 h 2 30) 10301 h 3 90) 10301 h 4 0) 10301 h 5 20) 301 a 0 h).1 g x = m1.1 g x := fun g x h1 h2 => by
        rw [ds_o h2, ds_o h1, ds_o h1, ds_o h1, ds_o h1, ds_o h1, ds_o h1]
        show (if x = h then (fun _ => 0) else m1.1 g x) = _
        rw [if_neg h1]
      have oa : ∀ g, g ≠ 301 → (dst (dst (dst (dst (dst (dst (dst (dal m1 h 10301 (((6 : Nat) : Int) + 4)) 10301 h 0 3) 10301 h 1 1) 10301 h 2 30) 10301 h 3 90) 10301 h 4 0) 10301 h 5 20) 301 a 0 h).1 g a = m1.1 g a := fun g hg => by
        rw [ds_n hg, ds_o (by omega), ds_o (by omega), ds_o (by omega), ds_o (by omega), ds_o (by omega), ds_o (by omega)]
        show (if a = h then (fun _ => 0) else m1.1 g a) = _
        rw [if_neg (by omega)]
      have oh : ∀ i, (dst (dst (dst (dst (dst (dst (dst (dal m1 h 10301 (((6 : Nat) : Int) + 4)) 10301 h 0 3) 10301 h 1 1) 10301 h 2 30) 10301 h 3 90) 10301 h 4 0) 10301 h 5 20) 301 a 0 h).1 10301 h i = if i = 5 then 20 else if i = 4 then 0 else if i = 3 then 90 else if i = 2 then 30 else if i = 1 then 1 else if i = 0 then 3 else 0 := fun i => by
        rw [ds_n (by decide)]
        simp only [dst_1, up3_s, upd1_ap, dx.2.1]
      refine hQ l h _ ⟨⟨e1.1, by omega, rfl⟩, ⟨?_, dx.2.2.1⟩, fun x hx => ?_, ⟨?_, ?_, dsz_0, ?_⟩, ⟨by rw [oh]; rfl, by rw [oh]; rfl, by rw [oh]; rfl, by rw [oh]; rfl, by rw [oh]; rfl, by rw [oh]; rfl⟩, ?_, fun g x hx hxa => ?_⟩
      · show (dal m1 h 10301 (((6 : Nat) : Int) + 4)).2.1 l = _
        rw [dx.1.2.1 l (by omega)]; exact e2
      · show (dal m1 h 10301 (((6 : Nat) : Int) + 4)).2.1 x = _
        rw [dx.1.2.1 x (by omega)]; exact e3 x hx
      · rw [o _ _ (by omega) (by omega)]; exact e4
      · rw [oa _ (by decide)]; exact e5
      · rw [oa _ (by decide)]; exact e6
      · show m1.2.2.2 - (((6 : Nat) : Int) + 4) = _
        omega
      · rw [o _ _ (by omega) hxa]; exact e8 g x hx hxa
    have kk : ∀ h, m1.2.2.1 ≤ h → (dal m1 h 10301 (((6 : Nat) : Int) + 4)).2.1 h = 10301 ∧ (dal m1 h 10301 (((6 : Nat) : Int) + 4)).2.1 a = 3 := fun h hh => by
      have dx := dal_x (r := 0) (L := 0) (k := 10301) (c := ((6 : Nat) : Int) + 4) hh
      exact ⟨dx.2.2.1, by rw [dx.1.2.1 a (by omega)]; exact ka⟩
    clear hQ
    refine RDr [] [] 60 ?_
    repeat' first | ((refine ⟨rfl, by show ((6 : Nat) : Int) + 4 ≤ _; omega, fun h hh => ?_⟩; have k1 := (kk h hh).1; have k2 := (kk h hh).2)) | ((refine ⟨k1, by omega, ?_⟩)) | ((refine ⟨⟨Nat.le_of_eq k2.symm, Nat.le_of_eq k2⟩, ?_⟩)) | (refine ⟨fun _ => ?_, fun _ => ?_⟩ <;> try omega) | (refine ⟨by first | omega | rfl | assumption | (simp only [dst_1, dst_2, up3_ap, upd1_ap, Nat.reduceEqDiff, ↓reduceIte, eq_self] at * <;> omega) | fail, ?_⟩) | (exact fin h hh) | (simp only [dst_1, dst_2, up3_ap, upd1_ap, Nat.reduceEqDiff, ↓reduceIte, eq_self] at *) | omega | fail
  have lst : ∀ l, m.2.2.1 ≤ l → (dal m l 99 7).2.1 l = 99 ∧ (dal m l 99 7).2.2.2 = m.2.2.2 - 7 ∧ (dst (dkd (dal m l 99 7) l 10300 (2 + 4)) 20300 l 0 0).2.1 a = 3 ∧ RD (d + 1) 75 (16, [some (mR a)], [], dst (dst (dkd (dal m l 99 7) l 10300 (2 + 4)) 20300 l 0 0) 300 a 0 l) Q := by
    intro l hl
    refine ⟨?_, rfl, ?_, ?_⟩
    · show (if l = l then 99 else _) = _
      rw [if_pos rfl]
    · show (if a = l then 10300 else (if a = l then 99 else m.2.1 a)) = 3
      rw [if_neg (by omega), if_neg (by omega)]; exact ha
    · refine arr l _ ⟨hl, rfl⟩ ?_ (fun x hx => ?_) ?_ dsz_0 ?_ ?_ (fun g x hx hxa => ?_)
      · show (if l = l then 10300 else _) = _
        rw [if_pos rfl]
      · show (if x = l then 10300 else (if x = l then 99 else m.2.1 x)) = _
        rw [if_neg (by omega), if_neg (by omega)]
      · rw [ds_n (by decide), dsz_0]
      · rw [ds_n (by decide), ds_n (by decide)]
        show (if a = l then (fun _ => 0) else m.1 303 a) 0 = _
        rw [if_neg (by omega)]
      · show m.2.2.2 - 7 - (2 + 4) = _
        omega
      · rw [ds_o hxa, ds_o (by omega)]
        show (if x = l then (fun _ => 0) else m.1 g x) = _
        rw [if_neg (by omega)]
  have kz : m.2.1 a ≠ 0 := by omega
  clear hQ arr
  refine RDr [] [750016] 40 ?_
  repeat' first | ((refine ⟨by omega, fun l hl => ?_⟩; obtain ⟨z1, z2, z3, z4⟩ := lst l hl)) | (refine ⟨fun _ => ?_, fun _ => ?_⟩ <;> try omega) | (refine ⟨by first | omega | rfl | assumption | (simp only [dst_1, dst_2, up3_ap, upd1_ap, Nat.reduceEqDiff, ↓reduceIte, eq_self] at * <;> omega) | fail, ?_⟩) | (exact z4) | (simp only [dst_1, dst_2, up3_ap, upd1_ap, Nat.reduceEqDiff, ↓reduceIte, eq_self] at *) | omega | fail
theorem D_Bar {a k c : Int} (ha : m.2.1 a = 7) (hQ : Q rV (dst (dst m 700 a 0 k) 701 a 0 c)) : RD d 272 (0, [some (mR a), some (mI k), some (mR c)], [], m) Q := by
  have kz : m.2.1 a ≠ 0 := by omega
  refine RDr [] [] 30 ?_
  repeat' first | (refine ⟨fun _ => ?_, fun _ => ?_⟩ <;> try omega) | (refine ⟨by first | omega | rfl | assumption | (simp only [dst_1, dst_2, up3_ap, upd1_ap, Nat.reduceEqDiff, ↓reduceIte, eq_self] at * <;> omega) | fail, ?_⟩) | (exact hQ) | (simp only [dst_1, dst_2, up3_ap, upd1_ap, Nat.reduceEqDiff, ↓reduceIte, eq_self] at *) | omega | fail
theorem D_low {w : Int} (hQ : Q (rI (rLo w)) m) : RD d 206 (0, [some (mI w)], [], m) Q := by
  unfold rLo at hQ
  by_cases h : w = 1 ∨ w = 4
  · rw [if_pos h] at hQ
    refine RDr [] [] 30 ?_
    repeat' first | (refine ⟨fun _ => ?_, fun _ => ?_⟩ <;> try omega) | (refine ⟨by first | omega | rfl | assumption | (simp only [dst_1, dst_2, up3_ap, upd1_ap, Nat.reduceEqDiff, ↓reduceIte, eq_self] at * <;> omega) | fail, ?_⟩) | (exact hQ) | (simp only [dst_1, dst_2, up3_ap, upd1_ap, Nat.reduceEqDiff, ↓reduceIte, eq_self] at *) | omega | fail
  · rw [if_neg h] at hQ
    refine RDr [] [] 30 ?_
    repeat' first | (refine ⟨fun _ => ?_, fun _ => ?_⟩ <;> try omega) | (refine ⟨by first | omega | rfl | assumption | (simp only [dst_1, dst_2, up3_ap, upd1_ap, Nat.reduceEqDiff, ↓reduceIte, eq_self] at * <;> omega) | fail, ?_⟩) | (exact hQ) | (simp only [dst_1, dst_2, up3_ap, upd1_ap, Nat.reduceEqDiff, ↓reduceIte, eq_self] at *) | omega | fail
theorem D_high {w : Int} (hw : 0 ≤ w ∧ w < 6) (hQ : Q (rI (rHi w)) m) : RD d 207 (0, [some (mI w)], [], m) Q := by
  unfold rHi at hQ
  have : w = 0 ∨ w = 1 ∨ w = 2 ∨ w = 3 ∨ w = 4 ∨ w = 5 := by omega
  rcases this with rfl | rfl | rfl | rfl | rfl | rfl
  all_goals
    refine RDr [] [] 40 ?_
    repeat' first | (refine ⟨fun _ => ?_, fun _ => ?_⟩ <;> try omega) | (refine ⟨by first | omega | rfl | assumption | (simp only [dst_1, dst_2, up3_ap, upd1_ap, Nat.reduceEqDiff, ↓reduceIte, eq_self] at * <;> omega) | fail, ?_⟩) | (exact hQ) | (simp only [dst_1, dst_2, up3_ap, upd1_ap, Nat.reduceEqDiff, ↓reduceIte, eq_self] at *) | omega | fail
end
