/-! THE DESK READS an end -/
set_option maxHeartbeats 3200000
set_option maxRecDepth 100000
/-- an end as read: all cells from lo on, below hi -/
def AM (lo hi : Int) (m : mD) (a : Int) (c : Cl) : Prop := (lo ≤ a ∧ a < hi ∧ m.2.1 a = 16) ∧ ((lo ≤ m.1 1600 a 0 ∧ m.1 1600 a 0 < hi) ∧ m.2.1 (m.1 1600 a 0) = 27 ∧ m.1 22700 (m.1 1600 a 0) 0 = c.2.1) ∧ TSb lo hi m c.2.2.2.1.length (m.1 1601 a 0) c.2.2.2.1 ∧ TCb lo hi m (c.2.2.2.2.1.length + 10) (m.1 1602 a 0) c.2.2.2.2.1 ∧ m.1 1603 a 0 = c.2.2.1 ∧ ((lo ≤ m.1 1604 a 0 ∧ m.1 1604 a 0 < hi) ∧ m.2.1 (m.1 1604 a 0) = 11604 ∧ m.1 21604 (m.1 1604 a 0) 0 = (c.2.2.2.2.2.1.length : Int) ∧ ∀ i : Nat, i < c.2.2.2.2.2.1.length → CMb lo hi m (c.2.2.2.2.2.1.getD i []).length (m.1 11604 (m.1 1604 a 0) i) (c.2.2.2.2.2.1.getD i []))
theorem AM.cg {lo hi lo' hi' : Int} {m m' : mD} {a : Int} {c : Cl} (h : AM lo hi m a c) (hl : lo' ≤ lo) (hh : hi ≤ hi') (hg : ∀ g b, lo ≤ b → b < hi → m'.1 g b = m.1 g b) (hk : ∀ b, lo ≤ b → b < hi → m'.2.1 b = m.2.1 b) : AM lo' hi' m' a c := by
  obtain ⟨⟨a1, a2, a3⟩, ⟨b1, b2, b3⟩, h3, h4, h5, c1, c2, c3, c4⟩ := h
  unfold AM
  rw [hk a a1 a2, hg 1600 a a1 a2, hg 1601 a a1 a2, hg 1602 a a1 a2, hg 1603 a a1 a2, hg 1604 a a1 a2, hk _ b1.1 b1.2, hg 22700 _ b1.1 b1.2, hk _ c1.1 c1.2, hg 21604 _ c1.1 c1.2, hg 11604 _ c1.1 c1.2]
  exact ⟨⟨by omega, by omega, a3⟩, ⟨by omega, b2, b3⟩, h3.cg (Nat.le_refl _) hl hh hg hk, h4.cg (Nat.le_refl _) hl hh hg hk, h5, by omega, c2, c3, fun i hi => (c4 i hi).ck (Nat.le_refl _) hl hh (fun g b b0 b1 _ _ => hg g b b0 b1) hk⟩
/-- the names of a deed's ends -/
def AN (t : Int → Int) (n : Int) (m : mD) (dd : Int) (nn : List (Int × Int)) : Prop := (m.2.1 dd = 15 ∧ dd < m.2.2.1 ∧ 1075 < dd) ∧ (m.2.1 (m.1 1500 dd 0) = 11500 ∧ m.1 1500 dd 0 < m.2.2.1 ∧ 1075 < m.1 1500 dd 0) ∧ m.1 21500 (m.1 1500 dd 0) 0 = (nn.length : Int) ∧ ∀ i : Nat, i < nn.length → (m.2.1 (m.1 11500 (m.1 1500 dd 0) i) = 16 ∧ 1075 < m.1 11500 (m.1 1500 dd 0) i ∧ m.1 11500 (m.1 1500 dd 0) i < m.2.2.1) ∧ (1075 < m.1 1600 (m.1 11500 (m.1 1500 dd 0) i) 0 ∧ m.1 1600 (m.1 11500 (m.1 1500 dd 0) i) 0 < m.2.2.1) ∧ NMs t n m (m.1 1600 (m.1 11500 (m.1 1500 dd 0) i) 0) (nn.getD i (0, 0)).1 (nn.getD i (0, 0)).2
section
variable {t : Int → Int} {n : Int} {nm : Nat} {ai r L lo0 : Int} {d : Nat} {m m0 m1 : mD} {Q : mQ mD}
theorem AN.x {dd : Int} {nn : List (Int × Int)} (h : AN t n m dd nn) (hx : RX r 0 m m1) : AN t n m1 dd nn := by
  obtain ⟨⟨a1, a2, a3⟩, ⟨b1, b2, b3⟩, c1, c2⟩ := h
  have g := fun (g : Nat) (b : Int) (hb : b < m.2.2.1) (hg : m_has [402, 403, 404, 405, 407, 408, 11604, 21604] g = false) => hx.g hb hg
  have k := hx.2.1
  have := hx.1
  unfold AN
  rw [k dd a2, g 1500 dd a2 (by decide), k _ b2, g 21500 _ b2 (by decide)]
  refine ⟨⟨a1, by omega, a3⟩, ⟨b1, by omega, b3⟩, c1, fun i hi => ?_⟩
  obtain ⟨⟨d1, d2, d3⟩, ⟨e1, e2⟩, f1, f2, f3⟩ := c2 i hi
  rw [g 11500 _ b2 (by decide), k _ d3, g 1600 _ d3 (by decide)]
  refine ⟨⟨d1, d2, by omega⟩, ⟨e1, by omega⟩, by rw [k _ e2]; exact f1, by rw [g 22700 _ e2 (by decide)]; exact f2, fun i i0 i1 => by rw [g 12700 _ e2 (by decide)]; exact f3 i i0 i1⟩
theorem byd_inj {k j : Int} (hT : DT t n r m) (hk : 0 ≤ k ∧ k < n) (hj : 0 ≤ j ∧ j < n) : byd t n k = byd t n j ↔ t k = t j := by
  have a := hT.2.2.2.1 k hk.1 hk.2
  have b := hT.2.2.2.1 j hj.1 hj.2
  unfold byd byt
  rw [if_pos hk.2, if_pos hj.2]
  split <;> split <;> omega
theorem D_has {q dd s : Int} {nn : List (Int × Int)} {x2 : Option mV} (hT : DT t n r m) (hA : AN t n m dd nn) (hs : NMs t n m s q (tke t n q - q)) (hsb : 1075 < s) (hq : 0 ≤ q ∧ q ≤ n) (hl : nn.length ≤ 6) (hok : ∀ i : Nat, i < nn.length → 0 ≤ (nn.getD i (0, 0)).1 ∧ (nn.getD i (0, 0)).1 + (nn.getD i (0, 0)).2 ≤ n)
    (h1 : nn.any (nmE t n q) = true → Q (rI 1) m) (h0 : nn.any (nmE t n q) = false → Q (rI 0) m) : RD (d + 1) 298 (0, [some (mR dd), some (mR s), x2], [], m) Q := by
  obtain ⟨⟨a1, a2, a3⟩, ⟨b1, b2, b3⟩, c1, c2⟩ := hA
  obtain ⟨s1, s2, s3⟩ := hs
  have htk := tke_b (t := t) hq.2
  have sl : ∀ s, 1075 < s → sLen m s = m.1 22700 s 0 := fun s hs => by unfold sLen; rw [if_neg (by omega)]
  have sc : ∀ s i, 1075 < s → sCh m s i = m.1 12700 s i := fun s i hs => by unfold sCh; rw [if_neg (by omega)]
  have key : ∀ k : Int, 0 ≤ k → k ≤ (nn.length : Int) → (nn.take k.toNat).any (nmE t n q) = false → RD (d + 1) 298 (2, [some (mR dd), some (mR s), some (mI k)], [], m) Q := by
    refine up_ind ?_ ?_
    · intro hk
      rw [Int.toNat_natCast, List.take_length] at hk
      have h0 := h0 hk
      refine RDr [] [2980002] 30 ?_
      repeat' first | (refine ⟨fun _ => ?_, fun _ => ?_⟩ <;> try omega) | (refine ⟨by first | omega | rfl | assumption | (simp only [dst_1, dst_2, up3_ap, upd1_ap, Nat.reduceEqDiff, ↓reduceIte, eq_self] at * <;> omega) | fail, ?_⟩) | (exact h0) | (simp only [dst_1, dst_2, up3_ap, upd1_ap, Nat.reduceEqDiff, ↓reduceIte, eq_self] at *) | omega | fail
    · intro k k0 k1 ih hk
      obtain ⟨⟨d1, d2, d3⟩, ⟨e1, e2⟩, f1, f2, f3⟩ := c2 k.toNat (by omega)
      have ok := hok k.toNat (by omega)
      rw [show (k + 1).toNat = k.toNat + 1 by omega, any_s (by omega), hk, Bool.false_or] at ih
      rw [show ((k.toNat : Nat) : Int) = k by omega] at d1 d2 d3 e1 e2 f1 f2 f3
      generalize hx : nn.getD k.toNat (0, 0) = x at *
      obtain ⟨a, z⟩ := x
      have eq : (sLen m (m.1 1600 (m.1 11500 (m.1 1500 dd 0) k) 0) = sLen m s ∧ ∀ i, 0 ≤ i → i < sLen m (m.1 1600 (m.1 11500 (m.1 1500 dd 0) k) 0) → sCh m (m.1 1600 (m.1 11500 (m.1 1500 dd 0) k) 0) i = sCh m s i) ↔ nmE t n q (a, z) = true := by
        rw [sl _ e1, sl _ hsb, f2, s2]
        unfold nmE
        rw [Bool.and_eq_true, decide_eq_true_iff, List.all_eq_true]
        refine and_congr_right (fun hz => ⟨fun h i hi => ?_, fun h i i0 i1 => ?_⟩)
        · have hi := List.mem_range.mp hi
          have hi : i < z.toNat := hi
          have := h i (by omega) (by show (i : Int) < z; omega)
          rw [sc _ _ e1, sc _ _ hsb, f3 i (by omega) (by show (i : Int) < z; omega), s3 i (by omega) (by omega)] at this
          exact decide_eq_true ((byd_inj hT (by omega) (by have := ok; dsimp only at this; omega)).mp this.symm)
        · have i1 : i < z := i1
          have := of_decide_eq_true (h i.toNat (List.mem_range.mpr (by show i.toNat < z.toNat; omega)))
          rw [show ((i.toNat : Nat) : Int) = i by omega] at this
          rw [sc _ _ e1, sc _ _ hsb, f3 i i0 i1, s3 i i0 (by omega)]
          exact ((byd_inj hT (by omega) (by have := ok; dsimp only at this; omega)).mpr this).symm
      by_cases hc : nmE t n q (a, z) = true
      · have h1 := h1 (by
          have : (nn.take (k.toNat + 1)).any (nmE t n q) = true := by rw [any_s (by omega), hk, hx, Bool.false_or]; exact hc
          rw [List.any_eq_true] at this ⊢
          obtain ⟨y, hy, hy2⟩ := this
          exact ⟨y, List.mem_of_mem_take hy, hy2⟩)
        have eq := eq.mpr hc
        clear ih
        refine RDr [] [2980002] 40 ?_
        repeat' first | ((refine ⟨⟨f1, s1, by omega, by omega⟩, fun _ => ?_, fun e => absurd eq e⟩)) | ((refine ⟨Or.inr (by omega), ?_⟩)) | (refine ⟨fun _ => ?_, fun _ => ?_⟩ <;> try omega) | (refine ⟨by first | omega | rfl | assumption | (simp only [dst_1, dst_2, up3_ap, upd1_ap, Nat.reduceEqDiff, ↓reduceIte, eq_self] at * <;> omega) | fail, ?_⟩) | (exact h1) | (simp only [dst_1, dst_2, up3_ap, upd1_ap, Nat.reduceEqDiff, ↓reduceIte, eq_self] at *) | omega | fail
      · have ih := ih (by simpa using hc)
        have eq : ¬ _ := fun h => hc (eq.mp h)
        refine RDr [] [2980002] 40 ?_
        repeat' first | ((refine ⟨⟨f1, s1, by omega, by omega⟩, fun e => absurd e eq, fun _ => ?_⟩)) | ((refine ⟨Or.inr (by omega), ?_⟩)) | (refine ⟨fun _ => ?_, fun _ => ?_⟩ <;> try omega) | (refine ⟨by first | omega | rfl | assumption | (simp only [dst_1, dst_2, up3_ap, upd1_ap, Nat.reduceEqDiff, ↓reduceIte, eq_self] at * <;> omega) | fail, ?_⟩) | (exact ih) | (simp only [dst_1, dst_2, up3_ap, upd1_ap, Nat.reduceEqDiff, ↓reduceIte, eq_self] at *) | omega | fail
  have go := key 0 (Int.le_refl _) (by omega) rfl
  refine RDr [] [2980002] 20 ?_
  repeat' first | (refine ⟨fun _ => ?_, fun _ => ?_⟩ <;> try omega) | (refine ⟨by first | omega | rfl | assumption | (simp only [dst_1, dst_2, up3_ap, upd1_ap, Nat.reduceEqDiff, ↓reduceIte, eq_self] at * <;> omega) | fail, ?_⟩) | (exact go) | (simp only [dst_1, dst_2, up3_ap, upd1_ap, Nat.reduceEqDiff, ↓reduceIte, eq_self] at *) | omega | fail
/-- a new list of tests at a -/
def aimN (a s l : Int) (m m' : mD) : Prop := m.2.2.1 ≤ l ∧ m'.2.2.1 = l + 1 ∧ m'.2.1 l = 11604 ∧ (∀ x, x < m.2.2.1 → m'.2.1 x = m.2.1 x) ∧ m'.1 21604 l 0 = 0 ∧ m'.1 1604 a 0 = l ∧ m'.1 1600 a 0 = s ∧ m'.2.2.2 = m.2.2.2 - 13 ∧ ∀ g x, x < m.2.2.1 → x ≠ a → m'.1 g x = m.1 g x
theorem D_Aim {a s : Int} (ha : m.2.1 a = 16) (hab : a < m.2.2.1) (hB : 13 ≤ m.2.2.2) (hQ : ∀ l m', aimN a s l m m' → Q rV m') : RD (d + 1) 311 (0, [some (mR a), some (mR s)], [], m) Q := by
  have fin : ∀ l, m.2.2.1 ≤ l → Q rV (dst (dst (dst (dkd (dal m l 99 7) l 11604 (2 + 4)) 21604 l 0 0) 1604 a 0 l) 1600 a 0 s) := by
    intro l hl
    refine hQ l _ ⟨hl, rfl, ?_, fun x hx => ?_, ?_, ?_, dsz_0, ?_, fun g x hx hxa => ?_⟩
    · show (if l = l then 11604 else _) = _
      rw [if_pos rfl]
    · show (if x = l then 11604 else (if x = l then 99 else m.2.1 x)) = _
      rw [if_neg (by omega), if_neg (by omega)]
    · rw [ds_n (by decide), ds_n (by decide), dsz_0]
    · rw [ds_n (by decide), dsz_0]
    · show m.2.2.2 - 7 - (2 + 4) = _
      omega
    · rw [ds_o hxa, ds_o hxa, ds_o (by omega)]
      show (if x = l then (fun _ => 0) else m.1 g x) = _
      rw [if_neg (by omega)]
  have kk : ∀ l, m.2.2.1 ≤ l → (dal m l 99 7).2.1 l = 99 ∧ (dal m l 99 7).2.2.2 = m.2.2.2 - 7 := by
    intro l hl
    refine ⟨?_, rfl⟩
    show (if l = l then 99 else _) = _
    rw [if_pos rfl]
  have ka : ∀ l, m.2.2.1 ≤ l → (dst (dkd (dal m l 99 7) l 11604 (2 + 4)) 21604 l 0 0).2.1 a = 16 := by
    intro l hl
    show (if a = l then 11604 else (if a = l then 99 else m.2.1 a)) = 16
    rw [if_neg (by omega), if_neg (by omega)]; exact ha
  have ka2 : ∀ l, m.2.2.1 ≤ l → (dst (dst (dkd (dal m l 99 7) l 11604 (2 + 4)) 21604 l 0 0) 1604 a 0 l).2.1 a = 16 := ka
  have kz : m.2.1 a ≠ 0 := by omega
  clear hQ
  refine RDr [] [] 40 ?_
  repeat' first | ((refine ⟨by omega, fun l hl => ?_⟩; have k1 := kk l hl; have k2 := ka l hl; have k3 := ka2 l hl)) | (refine ⟨fun _ => ?_, fun _ => ?_⟩ <;> try omega) | (refine ⟨by first | omega | rfl | assumption | (simp only [dst_1, dst_2, up3_ap, upd1_ap, Nat.reduceEqDiff, ↓reduceIte, eq_self] at * <;> omega) | fail, ?_⟩) | (exact fin l hl) | (simp only [dst_1, dst_2, up3_ap, upd1_ap, Nat.reduceEqDiff, ↓reduceIte, eq_self] at *) | omega | fail
/-- a list that was not there before -/
theorem RX.tl (h : RX r 0 m0 m) (h2 : RX r L m m1) (hL : m0.2.2.1 ≤ L) : RX r 0 m0 m1 := by
  have := h.1
  refine ⟨Int.le_trans h.1 h2.1, fun b hb => (h2.2.1 b (by omega)).trans (h.2.1 b hb), fun g b hb => ?_⟩
  rcases h2.2.2 g b (by omega) with e | e | e
  · rw [e]; exact h.2.2 g b hb
  · exact Or.inr (Or.inl e)
  · omega
end
