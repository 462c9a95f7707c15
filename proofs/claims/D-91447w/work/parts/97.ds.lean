/-! THE DESK READS sums -/
set_option maxHeartbeats 3200000
set_option maxRecDepth 100000
abbrev dPostS (t : Int → Int) (n : Int) (nm : Nat) (o ai r : Int) (m : mD) (lo B : Int) (x : (Int × Int) ⊕ (List Int × List (List Int) × Int)) (Q : mQ mD) : Prop := match x with
  | .inl (k, p) => ∀ w m', WT r 0 m k p (B - 200) w m' → Q (Sum.inr w) m'
  | .inr (c, _, q') => ∀ y m', RX r 0 m m' → DS t n nm q' o ai r m' → TSb lo m'.2.2.1 m' c.length y c → B + 900 * (n - q') + 600 ≤ m'.2.2.2 → Q (rR y) m'
def dg0 (t : Int → Int) (n : Int) (nm : Nat) (ai r : Int) (f : Nat) : Prop := ∀ (o q B : Int) (m : mD) (d : Nat) (Q : mQ mD) (x : (Int × Int) ⊕ (List Int × List (List Int) × Int)) (x1 : Option mV), prs t n nm f 0 o q [] [] = some x → DS t n nm q o ai r m → 1000 ≤ B → B + 900 * (n - q) ≤ m.2.2.2 → 12 * (4 - o) + 6 ≤ (d : Int) → dPostS t n nm o ai r m m.2.2.1 B x Q → RD d 204 (0, [some (mR r), x1], [], m) Q
def dg1 (t : Int → Int) (n : Int) (nm : Nat) (ai r : Int) (f : Nat) : Prop := ∀ (o q B : Int) (m : mD) (d : Nat) (Q : mQ mD) (x : (Int × Int) ⊕ (List Int × List (List Int) × Int)) (x1 : Option mV), prs t n nm f 1 o q [] [] = some x → DS t n nm q o ai r m → 1000 ≤ B → B + 900 * (n - q) ≤ m.2.2.2 → 12 * (4 - o) + 7 ≤ (d : Int) → dPostS t n nm o ai r m m.2.2.1 B x Q → RD d 203 (0, [some (mR r), x1], [], m) Q
def dg7 (t : Int → Int) (n : Int) (nm : Nat) (ai r : Int) (f : Nat) : Prop := ∀ (o q B lo : Int) (c : List Int) (l : List (List Int)) (s : Int) (m : mD) (d : Nat) (Q : mQ mD) (x : (Int × Int) ⊕ (List Int × List (List Int) × Int)), prs t n nm f 7 o q c l = some x → DS t n nm q o ai r m → (r < lo ∧ lo ≤ m.2.2.1) → TSb lo m.2.2.1 m c.length s c → 1000 ≤ B → B + 900 * (n - q) + 600 ≤ m.2.2.2 → 12 * (4 - o) + 7 ≤ (d : Int) → dPostS t n nm o ai r m lo B x Q → RD d 203 (5, [some (mR r), some (mR s)], [], m) Q
def dg2 (t : Int → Int) (n : Int) (nm : Nat) (ai r : Int) (f : Nat) : Prop := ∀ (o q B : Int) (m : mD) (d : Nat) (Q : mQ mD) (x : (Int × Int) ⊕ (List Int × List (List Int) × Int)) (x1 x2 : Option mV), prs t n nm f 2 o q [] [] = some x → DS t n nm q o ai r m → 1000 ≤ B → B + 900 * (n - q) ≤ m.2.2.2 → 12 * (4 - o) + 8 ≤ (d : Int) → dPostS t n nm o ai r m m.2.2.1 B x Q → RD d 202 (0, [some (mR r), x1, x2], [], m) Q
def dg8 (t : Int → Int) (n : Int) (nm : Nat) (ai r : Int) (f : Nat) : Prop := ∀ (o q B lo : Int) (c : List Int) (l : List (List Int)) (s : Int) (m : mD) (d : Nat) (Q : mQ mD) (x : (Int × Int) ⊕ (List Int × List (List Int) × Int)) (x2 : Option mV), prs t n nm f 8 o q c l = some x → DS t n nm q o ai r m → (r < lo ∧ lo ≤ m.2.2.1) → TSb lo m.2.2.1 m c.length s c → 1000 ≤ B → B + 900 * (n - q) + 600 ≤ m.2.2.2 → 12 * (4 - o) + 8 ≤ (d : Int) → dPostS t n nm o ai r m lo B x Q → RD d 202 (5, [some (mR r), some (mR s), x2], [], m) Q
section
variable {t : Int → Int} {n : Int} {nm : Nat} {ai r L : Int} {d : Nat} {m m0 m1 : mD} {Q : mQ mD}
theorem WT.tr {k p B w : Int} (h : WT r L m k p B w m1) (hx : RX r L m0 m) : WT r L m0 k p B w m1 := ⟨hx.tr h.1, ⟨h.2.1.1, h.2.1.2.1, h.2.1.2.2.1, by have := hx.1; have := h.2.1.2.2.2.1; omega, h.2.1.2.2.2.2⟩, h.2.2.1, h.2.2.2⟩
theorem WT.le {k p B B' w : Int} (h : WT r L m k p B w m1) (hB : B' ≤ B) : WT r L m k p B' w m1 := ⟨h.1, h.2.1, h.2.2.1, Int.le_trans hB h.2.2.2⟩
theorem DS.rb {q o : Int} (h : DS t n nm q o ai r m) : 1075 < r ∧ r < m.2.2.1 := h.2.2.2.2.2
/-- a new cell: the reader stays -/
theorem DS.al {q o : Int} (h : DS t n nm q o ai r m) {a : Int} {k : Nat} {c : Int} (ha : m.2.2.1 ≤ a) : DS t n nm q o ai r (dal m a k c) := by
  have x := dal_x (r := r) (L := 0) (k := k) (c := c) ha
  have hr := h.rb
  refine h.y x.1 (by omega) (fun g _ => ?_)
  show (if r = a then (fun _ => 0) else m.1 g r) = _
  rw [if_neg (by omega)]
theorem DS.st {q o : Int} (h : DS t n nm q o ai r m) {a i v : Int} {g : Nat} (ha : a ≠ r) (ha2 : a ≠ 1005) : DS t n nm q o ai r (dst m g a i v) := by
  obtain ⟨⟨a1, a2, a3, a4, a5⟩, ⟨b1, b2, b3, b4, b5⟩, ⟨c1, c2, c3⟩, hq, ho2, hr1⟩ := h
  have e := fun g' => ds_o (m := m) (g := g) (i := i) (v := v) (Ne.symm ha) g'
  have e5 := ds_o (m := m) (g := g) (i := i) (v := v) (Ne.symm ha2) 10106
  exact ⟨⟨a1, by rw [e]; exact a2, by rw [e]; exact a3, by rw [e5]; exact a4, a5⟩, ⟨by rw [e]; exact b1, by rw [e]; exact b2, by rw [e]; exact b3, by rw [e]; exact b4, by rw [e]; exact b5⟩, ⟨by rw [e]; exact c1, by rw [e]; exact c2, by rw [e]; exact c3⟩, hq, ho2, hr1⟩
/-- a sum of two -/
theorem TS_wk {lo w s y sg cs : Int} {c c2 : List Int} (h1 : TSb lo w m c.length s c) (h2 : TSb (w + 1) m.2.2.1 m c2.length y c2) (hlo : lo ≤ w ∧ w < m.2.2.1) (hk : m.2.1 w = 10) (hs : sg = 43 ∧ cs = -1 ∨ sg = 45 ∧ cs = -2 ∨ sg = 42 ∧ cs = -3) : TSb lo m.2.2.1 (dst (dst (dst m 1000 w 0 sg) 1001 w 0 s) 1002 w 0 y) (c ++ (c2 ++ [cs])).length w (c ++ (c2 ++ [cs])) := by
  have len : (c ++ (c2 ++ [cs])).length = (c.length + c2.length) + 1 := by rw [List.length_append, List.length_append]; show c.length + (c2.length + 1) = _; omega
  rw [len]
  have same : ∀ g b, b ≠ w → (dst (dst (dst m 1000 w 0 sg) 1001 w 0 s) 1002 w 0 y).1 g b = m.1 g b := fun g b hb => by rw [ds_o hb, ds_o hb, ds_o hb]
  refine ⟨by omega, Or.inr (Or.inr ⟨hk, c, c2, cs, ?_, ?_, ?_, rfl⟩)⟩
  · rw [ds_n (by decide), dsz_0]
    exact h1.cg (by omega) (Int.le_refl _) (by omega) (fun g b b0 b1 => same g b (by omega)) (fun b _ _ => rfl)
  · rw [dsz_0]
    exact h2.cg (by omega) (by omega) (Int.le_refl _) (fun g b b0 b1 => same g b (by omega)) (fun b _ _ => rfl)
  · rw [ds_n (by decide), ds_n (by decide), dsz_0]
    exact hs
theorem RX.st3 {a i1 i2 i3 v1 v2 v3 : Int} {g1 g2 g3 : Nat} (h : RX r L m m1) (ha : m.2.2.1 ≤ a) : RX r L m (dst (dst (dst m1 g1 a i1 v1) g2 a i2 v2) g3 a i3 v3) := ((h.st ha).st ha).st ha
theorem dg0_s {f : Nat} (hnm : nm ≤ 13) (S : dg2 t n nm ai r f) : dg0 t n nm ai r (f + 1) := by
  intro o q B m d Q x x1 h hS hB1 hB hd hQ
  have hop := hS.2.2.2.2.1
  have hq := hS.2.2.2.1
  have hr := hS.rb
  obtain ⟨d', rfl⟩ : ∃ d', d = d' + 5 := ⟨d - 5, by omega⟩
  have kr := hS.1.1
  have k7 := hS.2.1.2.2.2.1
  have k6 := hS.2.2.1.2.1
  have hnx := nx_b (t := t) hq.2
  rw [prs_0] at h
  by_cases h1 : isWb t n q [40] = true
  · rw [if_pos h1] at h
    have hlt := isWb_lt h1 (by decide) hq.2
    by_cases ho : 4 ≤ o
    · rw [if_pos ho] at h
      cases h
      refine RDr [] [] 40 ?_
      repeat' first | (refine hub_i (by dsimp only [kdD]; omega) (D_isC (w := [40]) rfl hS (by decide) (fun e1 => ?_) (fun e1 => absurd h1 (by rw [e1]; decide)))) | (refine hub_i (by dsimp only [kdD]; omega) (E_open hS (by omega) (fun e => by omega) (fun _ w m1 g1 => ?_))) | (refine ⟨fun _ => ?_, fun _ => ?_⟩ <;> try omega) | (refine ⟨by first | omega | rfl | assumption | (simp only [dst_1, dst_2, up3_ap, upd1_ap, Nat.reduceEqDiff, ↓reduceIte, eq_self] at * <;> omega) | fail, ?_⟩) | (exact hQ _ _ (g1.wt RX.rfl (by decide) (by omega))) | (simp only [dst_1, dst_2, up3_ap, upd1_ap, Nat.reduceEqDiff, ↓reduceIte, eq_self] at *) | omega | fail
    · rw [if_neg ho] at h
      rcases pB_some h with ⟨⟨k, p⟩, hr2, rfl⟩ | ⟨c1, l1, q1, hr2, hk⟩
      · refine RDr [] [] 40 ?_
        repeat' first | (refine hub_i (by dsimp only [kdD]; omega) (D_isC (w := [40]) rfl hS (by decide) (fun e1 => ?_) (fun e1 => absurd h1 (by rw [e1]; decide)))) | (refine hub_i (by dsimp only [kdD]; omega) (E_open hS (by omega) (fun _ m1 x1 e1 s1 => ?_) (fun e => by omega))) | ((refine hub_i (by dsimp only [kdD]; have := s1.1.1; omega) (S _ _ B _ _ _ _ _ _ hr2 s1 hB1 (by rw [e1]; omega) (by omega) (fun w m2 g1 => ?_)))) | (refine ⟨fun _ => ?_, fun _ => ?_⟩ <;> try omega) | (refine ⟨by first | omega | rfl | assumption | (simp only [dst_1, dst_2, up3_ap, upd1_ap, Nat.reduceEqDiff, ↓reduceIte, eq_self] at * <;> omega) | fail, ?_⟩) | (exact hQ _ _ (g1.tr x1)) | (simp only [dst_1, dst_2, up3_ap, upd1_ap, Nat.reduceEqDiff, ↓reduceIte, eq_self] at *) | omega | fail
      · have far := prs_far _ _ _ _ _ _ hnx.2.1 _ _ _ hr2
        by_cases h3 : isWb t n q1 [41] = true
        · rw [if_pos h3] at hk
          cases hk
          have fin : ∀ y m1 m2 m3, RX r 0 m m1 → m1.2 = m.2 → RX r 0 m1 m2 → TSb m1.2.2.1 m2.2.2.1 m2 c1.length y c1 → B + 900 * (n - q1) + 600 ≤ m2.2.2.2 → RX r 0 m2 m3 → m3.2 = m2.2 → DS t n nm (nx t n q1) o ai r m3 → Q (rR y) m3 := by
            intro y m1 m2 m3 a1 a2 a3 a4 a5 a6 a7 a8
            have hnx1 := nx_b (t := t) far.2.1
            refine hQ y m3 (a1.tr (a3.tr a6)) a8 (TSb.x (by rw [a2] at a4; exact a4) a6 (Int.le_refl _) (Nat.le_refl _) (by omega) (by omega) (by rw [a7]; exact Int.le_refl _)) (by rw [a7]; omega)
          refine RDr [] [] 40 ?_
          repeat' first | (refine hub_i (by dsimp only [kdD]; omega) (D_isC (w := [40]) rfl hS (by decide) (fun e1 => ?_) (fun e1 => absurd h1 (by rw [e1]; decide)))) | (refine hub_i (by dsimp only [kdD]; omega) (E_open hS (by omega) (fun _ m1 x1 e1 s1 => ?_) (fun e => by omega))) | ((refine hub_i (by dsimp only [kdD]; have := s1.1.1; omega) (S _ _ B _ _ _ _ _ _ hr2 s1 hB1 (by rw [e1]; omega) (by omega) (fun y m2 x2 s2 t2 b2 => ?_)))) | ((refine hub_i (by dsimp only [kdD]; have := s2.1.1; omega) (E_close (w := [41]) rfl s2 hop.1 (by decide) (by omega) (fun _ m3 x3 e3 s3 => ?_) (fun e1 => absurd h3 (by rw [e1]; decide))))) | (refine ⟨fun _ => ?_, fun _ => ?_⟩ <;> try omega) | (refine ⟨by first | omega | rfl | assumption | (simp only [dst_1, dst_2, up3_ap, upd1_ap, Nat.reduceEqDiff, ↓reduceIte, eq_self] at * <;> omega) | fail, ?_⟩) | (exact fin _ _ _ _ x1 e1 x2 t2 b2 x3 e3 s3) | (simp only [dst_1, dst_2, up3_ap, upd1_ap, Nat.reduceEqDiff, ↓reduceIte, eq_self] at *) | omega | fail
        · rw [if_neg h3] at hk
          cases hk
          refine RDr [] [] 40 ?_
          repeat' first | (refine hub_i (by dsimp only [kdD]; omega) (D_isC (w := [40]) rfl hS (by decide) (fun e1 => ?_) (fun e1 => absurd h1 (by rw [e1]; decide)))) | (refine hub_i (by dsimp only [kdD]; omega) (E_open hS (by omega) (fun _ m1 x1 e1 s1 => ?_) (fun e => by omega))) | ((refine hub_i (by dsimp only [kdD]; have := s1.1.1; omega) (S _ _ B _ _ _ _ _ _ hr2 s1 hB1 (by rw [e1]; omega) (by omega) (fun y m2 x2 s2 t2 b2 => ?_)))) | ((refine hub_i (by dsimp only [kdD]; have := s2.1.1; omega) (E_close (w := [41]) rfl s2 hop.1 (by decide) (by omega) (fun e1 => absurd e1 h3) (fun _ w m3 g1 => ?_)))) | (refine ⟨fun _ => ?_, fun _ => ?_⟩ <;> try omega) | (refine ⟨by first | omega | rfl | assumption | (simp only [dst_1, dst_2, up3_ap, upd1_ap, Nat.reduceEqDiff, ↓reduceIte, eq_self] at * <;> omega) | fail, ?_⟩) | (exact hQ _ _ (g1.wt (x1.tr x2) (by decide) (by omega))) | (simp only [dst_1, dst_2, up3_ap, upd1_ap, Nat.reduceEqDiff, ↓reduceIte, eq_self] at *) | omega | fail
  · rw [if_neg h1] at h
    by_cases hs : sml t n q = true
    · have hlt := (sml_lt hs).1
      have hs3 : srt t n q = 3 := by unfold srt; rw [if_neg (by omega), if_pos hs]
      rw [if_pos hs3] at h
      rw [if_pos hs] at k7
      by_cases hw : wix t n q (wNm.take nm) = -1
      · rw [if_pos hw] at h
        cases h
        refine RDr [] [] 50 ?_
        repeat' first | (refine hub_i (by dsimp only [kdD]; omega) (D_isC (w := [40]) rfl hS (by decide) (fun e1 => absurd e1 h1) (fun e1 => ?_))) | ((rw [k6])) | ((refine hub_i (by dsimp only [kdD]; omega) (E_wordOf (many := nm) (by decide) hnm WS_all (by decide) (by decide) (by decide) hS (by omega) (fun m1 x1 s1 b1 => ?_)); rw [hw])) | ((refine hub_i (by dsimp only [kdD]; have := s1.1.1; omega) (D_need s1 (by omega) (fun e => absurd rfl e) (fun _ m2 w g1 => ?_)))) | (refine ⟨fun _ => ?_, fun _ => ?_⟩ <;> try omega) | (refine ⟨by first | omega | rfl | assumption | (simp only [dst_1, dst_2, up3_ap, upd1_ap, Nat.reduceEqDiff, ↓reduceIte, eq_self] at * <;> omega) | fail, ?_⟩) | (exact hQ _ _ (g1.wt x1 (by decide) (by omega))) | (simp only [dst_1, dst_2, up3_ap, upd1_ap, Nat.reduceEqDiff, ↓reduceIte, eq_self] at *) | omega | fail
      · rw [if_neg hw] at h
        cases h
        generalize hv : wix t n q (wNm.take nm) = v at *
        have hvb : 0 ≤ v ∧ v < 13 := by
          have := wix_b (t := t) (n := n) (q := q) (wNm.take nm)
          have l : ((wNm.take nm).length : Int) ≤ 13 := by
            have e : (wNm.take nm).length ≤ wNm.length := by rw [List.length_take]; omega
            have e2 : wNm.length = 13 := rfl
            omega
          omega
        have fin : ∀ m1 m2 a, RX r 0 m m1 → DS t n nm q o ai r m1 → m.2.2.2 - 240 ≤ m1.2.2.2 → RC r m1 m2 → DS t n nm (nx t n q) o ai r m2 → m2.2.2.1 ≤ a → Q (rR a) (dst (dal m2 a 9 (((1 : Nat) : Int) + 4)) 900 a 0 v) ∧ (dal m2 a 9 (((1 : Nat) : Int) + 4)).2.1 a = 9 := by
          intro m1 m2 a x1 s1 b1 c2 s2 ha
          have e2 := c2.1
          have hr2 := s2.rb
          have dx := dal_x (r := r) (L := 0) (k := 9) (c := ((1 : Nat) : Int) + 4) ha
          have mx : m.2.2.1 ≤ a := by have := x1.1; rw [← e2] at this; omega
          refine ⟨hQ a _ (((x1.tr c2.x).tr dx.1).st mx) ((s2.al ha).st (by omega) (by omega)) ⟨⟨mx, by show a < a + 1; omega⟩, Or.inr (Or.inl ⟨dx.2.2.1, by rw [dsz_0]; exact hvb, by rw [dsz_0]⟩)⟩ ?_, dx.2.2.1⟩
          show _ ≤ m2.2.2.2 - (((1 : Nat) : Int) + 4)
          rw [e2]
          omega
        refine RDr [] [] 60 ?_
        repeat' first | (refine hub_i (by dsimp only [kdD]; omega) (D_isC (w := [40]) rfl hS (by decide) (fun e1 => absurd e1 h1) (fun e1 => ?_))) | ((rw [k6])) | ((refine hub_i (by dsimp only [kdD]; omega) (E_wordOf (many := nm) (by decide) hnm WS_all (by decide) (by decide) (by decide) hS (by omega) (fun m1 x1 s1 b1 => ?_)); rw [hv])) | ((refine hub_i (by dsimp only [kdD]; have := s1.1.1; omega) (D_need s1 (by omega) (fun _ => ?_) (fun e => absurd e (by decide))))) | ((refine hub_i (by dsimp only [kdD]; have := s1.1.1; omega) (E_cut s1 (fun m2 c2 s2 => ?_)))) | ((refine ⟨by rw [c2.1]; show ((1 : Nat) : Int) + 4 ≤ _; omega, fun a ha => ?_⟩; obtain ⟨fa, ka⟩ := fin _ _ a x1 s1 b1 c2 s2 ha)) | (refine hub_i (by dsimp only [kdD]; omega) (D_Fact ka ?_)) | (refine ⟨fun _ => ?_, fun _ => ?_⟩ <;> try omega) | (refine ⟨by first | omega | rfl | assumption | (simp only [dst_1, dst_2, up3_ap, upd1_ap, Nat.reduceEqDiff, ↓reduceIte, eq_self] at * <;> omega) | fail, ?_⟩) | (exact fa) | (simp only [dst_1, dst_2, up3_ap, upd1_ap, Nat.reduceEqDiff, ↓reduceIte, eq_self] at *) | omega | fail
    · rw [if_neg hs] at k7
      have hs3 : ¬ srt t n q = 3 := by
        unfold srt
        by_cases hc : n ≤ q
        · rw [if_pos hc]; omega
        · rw [if_neg hc, if_neg hs]
          split
          · split <;> omega
          · omega
      rw [if_neg hs3] at h
      by_cases hs2 : srt t n q = 2
      · rw [if_pos hs2] at h
        cases h
        have hlt := srt2_lt (Or.inl hs2)
        have hv : 0 ≤ vlu t n q ∧ vlu t n q ≤ 9999 := by
          have hd : dgt t n q = true := by
            unfold srt at hs2
            rw [if_neg (by omega), if_neg hs] at hs2
            by_cases hg : dgt t n q = true
            · exact hg
            · rw [if_neg hg] at hs2; omega
          have sp := past_spec (dgt t n) (n := n) (k := q) (by omega)
          have te := tke_dg hd
          have b := dgv_b (t := t) (n := n) (q := q) (min 4 (tke t n q - q)).toNat (by omega) (fun i hi => sp.1 _ (by omega) (by rw [← te]; omega))
          unfold vlu
          have : (min 4 (tke t n q - q)).toNat = 0 ∨ (min 4 (tke t n q - q)).toNat = 1 ∨ (min 4 (tke t n q - q)).toNat = 2 ∨ (min 4 (tke t n q - q)).toNat = 3 ∨ (min 4 (tke t n q - q)).toNat = 4 := by omega
          rcases this with h | h | h | h | h <;> (rw [h] at b ⊢; have b2 := b.2; have b1 := b.1; first | exact ⟨b1, by have := Int.lt_of_lt_of_le b2 (show (10 : Int) ^ 0 ≤ 10000 by decide); omega⟩ | exact ⟨b1, by have := Int.lt_of_lt_of_le b2 (show (10 : Int) ^ 1 ≤ 10000 by decide); omega⟩ | exact ⟨b1, by have := Int.lt_of_lt_of_le b2 (show (10 : Int) ^ 2 ≤ 10000 by decide); omega⟩ | exact ⟨b1, by have := Int.lt_of_lt_of_le b2 (show (10 : Int) ^ 3 ≤ 10000 by decide); omega⟩ | exact ⟨b1, by have := Int.lt_of_lt_of_le b2 (show (10 : Int) ^ 4 ≤ 10000 by decide); omega⟩)
        have fin : ∀ a m2, m.2.2.1 ≤ a → RC r (dal m a 8 (((1 : Nat) : Int) + 4)) m2 → DS t n nm (nx t n q) o ai r m2 → Q (rR a) (dst m2 800 a 0 (vlu t n q)) ∧ m2.2.1 a = 8 := by
          intro a m2 ha c2 s2
          have dx := dal_x (r := r) (L := 0) (k := 8) (c := ((1 : Nat) : Int) + 4) ha
          have e2 := c2.1
          have ka : m2.2.1 a = 8 := by rw [e2]; exact dx.2.2.1
          refine ⟨hQ a _ ((dx.1.tr c2.x).st ha) (s2.st (by omega) (by omega)) ⟨⟨ha, by show a < m2.2.2.1; rw [e2]; show a < a + 1; omega⟩, Or.inl ⟨ka, by rw [dsz_0]; exact hv, by rw [dsz_0]⟩⟩ ?_, ka⟩
          show _ ≤ m2.2.2.2
          rw [e2]
          show _ ≤ m.2.2.2 - (((1 : Nat) : Int) + 4)
          omega
        refine RDr [] [] 60 ?_
        repeat' first | (refine hub_i (by dsimp only [kdD]; omega) (D_isC (w := [40]) rfl hS (by decide) (fun e1 => absurd e1 h1) (fun e1 => ?_))) | ((refine ⟨by show ((1 : Nat) : Int) + 4 ≤ _; omega, fun a ha => ?_⟩; have sa := hS.al (k := 8) (c := ((1 : Nat) : Int) + 4) ha)) | ((refine hub_i (by dsimp only [kdD]; have := sa.1.1; omega) (E_num sa (by show 12 ≤ m.2.2.2 - (((1 : Nat) : Int) + 4); omega) (fun _ _ _ m2 c2 s2 => ?_) (fun _ e => by omega) (fun e => by omega)); obtain ⟨fa, ka⟩ := fin a m2 ha c2 s2)) | (refine hub_i (by dsimp only [kdD]; omega) (D_Plain ka ?_)) | (refine ⟨fun _ => ?_, fun _ => ?_⟩ <;> try omega) | (refine ⟨by first | omega | rfl | assumption | (simp only [dst_1, dst_2, up3_ap, upd1_ap, Nat.reduceEqDiff, ↓reduceIte, eq_self] at * <;> omega) | fail, ?_⟩) | (exact fa) | (simp only [dst_1, dst_2, up3_ap, upd1_ap, Nat.reduceEqDiff, ↓reduceIte, eq_self] at *) | omega | fail
      · rw [if_neg hs2] at h
        cases h
        refine RDr [] [] 60 ?_
        repeat' first | (refine hub_i (by dsimp only [kdD]; omega) (D_isC (w := [40]) rfl hS (by decide) (fun e1 => absurd e1 h1) (fun e1 => ?_))) | ((refine ⟨by show ((1 : Nat) : Int) + 4 ≤ _; omega, fun a ha => ?_⟩; have sa := hS.al (k := 8) (c := ((1 : Nat) : Int) + 4) ha; have dx := dal_x (r := r) (L := 0) (k := 8) (c := ((1 : Nat) : Int) + 4) ha)) | ((refine hub_i (by dsimp only [kdD]; have := sa.1.1; omega) (E_num sa (by show 12 ≤ m.2.2.2 - (((1 : Nat) : Int) + 4); omega) (fun e => by omega) (fun e => by omega) (fun _ w m2 g1 => ?_)))) | (refine ⟨fun _ => ?_, fun _ => ?_⟩ <;> try omega) | (refine ⟨by first | omega | rfl | assumption | (simp only [dst_1, dst_2, up3_ap, upd1_ap, Nat.reduceEqDiff, ↓reduceIte, eq_self] at * <;> omega) | fail, ?_⟩) | (exact hQ _ _ (g1.wt dx.1 (by decide) (by rw [dx.2.2.2.2]; omega))) | (simp only [dst_1, dst_2, up3_ap, upd1_ap, Nat.reduceEqDiff, ↓reduceIte, eq_self] at *) | omega | fail
end
