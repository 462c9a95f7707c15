/-! THE DESK READS conditions: the rest -/
set_option maxHeartbeats 3200000
set_option maxRecDepth 100000
section
variable {t : Int → Int} {n : Int} {nm : Nat} {ai r L lo0 : Int} {d : Nat} {m m0 m1 : mD} {Q : mQ mD}
theorem TLo.lo {ts : List (List Int)} (h : TLo lo0 r ai L m ts) (h0 : 0 < lo0) : L < lo0 := by
  rcases h with e | e
  · rw [e.2]; exact h0
  · exact e.2.2.1.2.2.2.2.1
theorem dg4_s {f : Nat} (hL0 : 0 < lo0) (S : dg3 t n nm ai r L lo0 f) (S6 : dg6 t n nm ai r L lo0 f) (G : dg4 t n nm ai r L lo0 f) : dg4 t n nm ai r L lo0 (f + 1) := by
  intro o q B c ts m d Q x x2 h hS hlo hTL hts hB1 hB hd hQ
  have hop := hS.2.2.2.2.1
  have hq := hS.2.2.2.1
  have hr := hS.rb
  have kr := hS.1.1
  have hnx := nx_b (t := t) hq.2
  obtain ⟨d', rfl⟩ : ∃ d', d = d' + 6 := ⟨d - 6, by omega⟩
  rw [prs_4] at h
  by_cases h0 : isWb t n q wNot = true
  · rw [if_pos h0] at h
    have hlt := isWb_lt h0 (by decide) hq.2
    have nxt : ∀ m1 v, RC r m m1 → DS t n nm (nx t n q) o ai r m1 → v = (if (if c = [] then [(1 : Int)] else []) = [] then (0 : Int) else 1) → RD (d' + 6) 198 (2, [some (mR r), some (mI v), x2], [], m1) Q := by
      intro m1 v c1 s1 hv
      have e1 := c1.1
      have rx := RC.x (L := L) c1
      rw [hv]
      refine G _ _ B _ ts _ _ _ _ _ h s1 (by rw [e1]; exact hlo) (hTL.x (RC.x c1) hlo.1) (by omega) hB1 ?_ (by omega) ?_
      · rw [e1]
        split at hB <;> split <;> omega
      · rw [e1]
        rcases x with ⟨k, p⟩ | ⟨c', l', q'⟩
        · exact fun w m2 g1 => hQ w m2 (g1.tr rx)
        · exact fun y m2 x2 s2 t2 u2 b2 => hQ y m2 (rx.tr x2) s2 t2 u2 b2
    by_cases hc : c = []
    · rw [if_pos hc]
      rw [if_pos hc] at nxt
      refine RDr [] [1980002] 30 ?_
      repeat' first | (refine hub_i (by dsimp only [kdD]; omega) (D_isC (w := wNot) rfl hS (by decide) (fun e1 => ?_) (fun e1 => absurd h0 (by rw [e1]; decide)))) | (refine hub_i (by dsimp only [kdD]; omega) (E_cut hS (fun m1 c1 s1 => ?_))) | (refine ⟨fun _ => ?_, fun _ => ?_⟩ <;> try omega) | (refine ⟨by first | omega | rfl | assumption | (simp only [dst_1, dst_2, up3_ap, upd1_ap, Nat.reduceEqDiff, ↓reduceIte, eq_self] at * <;> omega) | fail, ?_⟩) | (exact nxt _ _ c1 s1 rfl) | (simp only [dst_1, dst_2, up3_ap, upd1_ap, Nat.reduceEqDiff, ↓reduceIte, eq_self] at *) | omega | fail
    · rw [if_neg hc]
      rw [if_neg hc] at nxt
      refine RDr [] [1980002] 30 ?_
      repeat' first | (refine hub_i (by dsimp only [kdD]; omega) (D_isC (w := wNot) rfl hS (by decide) (fun e1 => ?_) (fun e1 => absurd h0 (by rw [e1]; decide)))) | (refine hub_i (by dsimp only [kdD]; omega) (E_cut hS (fun m1 c1 s1 => ?_))) | (refine ⟨fun _ => ?_, fun _ => ?_⟩ <;> try omega) | (refine ⟨by first | omega | rfl | assumption | (simp only [dst_1, dst_2, up3_ap, upd1_ap, Nat.reduceEqDiff, ↓reduceIte, eq_self] at * <;> omega) | fail, ?_⟩) | (exact nxt _ _ c1 s1 rfl) | (simp only [dst_1, dst_2, up3_ap, upd1_ap, Nat.reduceEqDiff, ↓reduceIte, eq_self] at *) | omega | fail
  · rw [if_neg h0] at h
    -- what is read is turned, or not
    have tl := hTL.lo hL0
    have fin : ∀ (c1 : List Int) (l1 : List (List Int)) (q1 : Int), x = .inr (trn c c1, l1, q1) → ∀ y m2, RX r L m m2 → DS t n nm q1 o ai r m2 → TCb m.2.2.1 m2.2.2.1 m2 (c1.length + lvl o) y c1 → TLo lo0 r ai L m2 (ts ++ l1) → B + (if c = [] then 0 else 10) + 900 * (n - q1) + 900 ≤ m2.2.2.2 → RD (d' + 6) 198 (60, [some (mR r), some (mI (if c = [] then 0 else 1)), some (mR y)], [], m2) Q := by
      intro c1 l1 q1 hx y m2 x2 s2 t2 u2 b2
      subst hx
      have kr2 := s2.1.1
      have hq2 := s2.2.2.2.1
      by_cases hc : c = []
      · rw [if_pos hc]
        rw [if_pos hc] at b2
        have go := hQ y m2 x2 s2 (by show TCb _ _ _ ((trn c c1).length + lvl o) y (trn c c1); unfold trn; rw [if_pos hc]; exact t2) u2 (by omega)
        refine RDr [] [] 20 ?_
        repeat' first | (refine ⟨fun _ => ?_, fun _ => ?_⟩ <;> try omega) | (refine ⟨by first | omega | rfl | assumption | (simp only [dst_1, dst_2, up3_ap, upd1_ap, Nat.reduceEqDiff, ↓reduceIte, eq_self] at * <;> omega) | fail, ?_⟩) | (exact go) | (simp only [dst_1, dst_2, up3_ap, upd1_ap, Nat.reduceEqDiff, ↓reduceIte, eq_self] at *) | omega | fail
      · rw [if_neg hc]
        rw [if_neg hc] at b2
        have go : ∀ a, m2.2.2.1 ≤ a → Q (rR a) (dst (dal m2 a 13 (((1 : Nat) : Int) + 4)) 1300 a 0 y) ∧ (dal m2 a 13 (((1 : Nat) : Int) + 4)).2.1 a = 13 := by
          intro a ha
          have dx := dal_x (r := r) (L := L) (k := 13) (c := ((1 : Nat) : Int) + 4) ha
          have dx0 := dal_x (r := r) (L := 0) (k := 13) (c := ((1 : Nat) : Int) + 4) ha
          have hr2 := s2.rb
          have x21 := x2.1
          have x0 : RX r 0 m2 (dst (dal m2 a 13 (((1 : Nat) : Int) + 4)) 1300 a 0 y) := dx0.1.st ha
          refine ⟨hQ a _ ((x2.tr dx.1).st (by omega)) ((s2.al ha).st (by omega) (by omega)) ?_ (u2.x x0 hlo.1) ?_, dx.2.2.1⟩
          · show TCb _ _ _ ((trn c c1).length + lvl o) a (trn c c1)
            unfold trn
            rw [if_neg hc]
            have len : (c1 ++ [-9]).length + lvl o = (c1.length + lvl o) + 1 := by rw [List.length_append]; show c1.length + 1 + lvl o = _; omega
            rw [len]
            refine ⟨⟨by omega, by show a < a + 1; omega⟩, Or.inr (Or.inr ⟨dx.2.2.1, c1, ?_, rfl⟩)⟩
            rw [dsz_0]
            exact t2.x x0 (Int.le_refl _) (Nat.le_refl _) (by omega) (by omega) (by show m2.2.2.1 ≤ a + 1; omega)
          · show _ ≤ m2.2.2.2 - (((1 : Nat) : Int) + 4)
            omega
        refine RDr [] [] 20 ?_
        repeat' first | ((refine ⟨by show ((1 : Nat) : Int) + 4 ≤ _; omega, fun a ha => ?_⟩; obtain ⟨fa, ka⟩ := go a ha)) | (refine hub_i (by dsimp only [kdD]; omega) (D_Not ka ?_)) | (refine ⟨fun _ => ?_, fun _ => ?_⟩ <;> try omega) | (refine ⟨by first | omega | rfl | assumption | (simp only [dst_1, dst_2, up3_ap, upd1_ap, Nat.reduceEqDiff, ↓reduceIte, eq_self] at * <;> omega) | fail, ?_⟩) | (exact fa) | (simp only [dst_1, dst_2, up3_ap, upd1_ap, Nat.reduceEqDiff, ↓reduceIte, eq_self] at *) | omega | fail
    generalize htu : (if c = [] then (0 : Int) else 1) = tu at fin
    by_cases h1 : isWb t n q [91] = true
    · rw [if_pos h1] at h
      have hlt := isWb_lt h1 (by decide) hq.2
      by_cases ho : 4 ≤ o
      · rw [if_pos ho] at h
        cases h
        clear fin
        refine RDr [] [1980002, 1980060] 30 ?_
        repeat' first | (refine hub_i (by dsimp only [kdD]; omega) (D_isC (w := wNot) rfl hS (by decide) (fun e1 => absurd e1 h0) (fun e1 => ?_))) | (refine hub_i (by dsimp only [kdD]; omega) (D_isC (w := [91]) rfl hS (by decide) (fun e1 => ?_) (fun e1 => absurd h1 (by rw [e1]; decide)))) | (refine hub_i (by dsimp only [kdD]; omega) (E_open hS (by split at hB <;> omega) (fun e => by omega) (fun _ w m1 g1 => ?_))) | (refine ⟨fun _ => ?_, fun _ => ?_⟩ <;> try omega) | (refine ⟨by first | omega | rfl | assumption | (simp only [dst_1, dst_2, up3_ap, upd1_ap, Nat.reduceEqDiff, ↓reduceIte, eq_self] at * <;> omega) | fail, ?_⟩) | (exact hQ _ _ (g1.wt RX.rfl (by decide) (by split at hB <;> omega))) | (simp only [dst_1, dst_2, up3_ap, upd1_ap, Nat.reduceEqDiff, ↓reduceIte, eq_self] at *) | omega | fail
      · rw [if_neg ho] at h
        have lv : lvl (o + 1) + 2 = lvl o := by unfold lvl; omega
        rcases pB_some h with ⟨⟨k, p⟩, hr2, rfl⟩ | ⟨c1, l1, q1, hr2, hk⟩
        · clear fin
          refine RDr [] [1980002, 1980060] 30 ?_
          repeat' first | (refine hub_i (by dsimp only [kdD]; omega) (D_isC (w := wNot) rfl hS (by decide) (fun e1 => absurd e1 h0) (fun e1 => ?_))) | (refine hub_i (by dsimp only [kdD]; omega) (D_isC (w := [91]) rfl hS (by decide) (fun e1 => ?_) (fun e1 => absurd h1 (by rw [e1]; decide)))) | (refine hub_i (by dsimp only [kdD]; omega) (E_open hS (by split at hB <;> omega) (fun _ m1 x1 e1 s1 => ?_) (fun e => by omega))) | ((refine hub_i (by dsimp only [kdD]; have := s1.1.1; omega) (S6 _ _ (B + 300) ts _ _ _ _ _ hr2 s1 (by rw [e1]; exact hlo) (hTL.x x1 hlo.1) (by omega) (by omega) (by rw [e1]; split at hB <;> omega) (by omega) (fun w m2 g1 => ?_)))) | (refine ⟨fun _ => ?_, fun _ => ?_⟩ <;> try omega) | (refine ⟨by first | omega | rfl | assumption | (simp only [dst_1, dst_2, up3_ap, upd1_ap, Nat.reduceEqDiff, ↓reduceIte, eq_self] at * <;> omega) | fail, ?_⟩) | (exact hQ _ _ ((g1.tr x1.l).le (by omega))) | (simp only [dst_1, dst_2, up3_ap, upd1_ap, Nat.reduceEqDiff, ↓reduceIte, eq_self] at *) | omega | fail
        · have far := prs_far _ _ _ _ _ _ hnx.2.1 _ _ _ hr2
          by_cases h3 : isWb t n q1 [93] = true
          · rw [if_pos h3] at hk
            have hk := hk.symm
            cases hk
            have hnx1 := nx_b (t := t) far.2.1
            have hl1 := isWb_lt h3 (by decide) far.2.1
            have f2 : ∀ y m1 m2 m3, RX r 0 m m1 → m1.2 = m.2 → RX r L m1 m2 → TCb m1.2.2.1 m2.2.2.1 m2 (c1.length + (lvl (o + 1) + 2)) y c1 → TLo lo0 r ai L m2 (ts ++ l1) → B + 300 + 900 * (n - q1) + 800 ≤ m2.2.2.2 → RX r 0 m2 m3 → m3.2 = m2.2 → DS t n nm (nx t n q1) o ai r m3 → RD (d' + 6) 198 (60, [some (mR r), some (mI tu), some (mR y)], [], m3) Q := by
              intro y m1 m2 m3 a1 a2 a3 a4 a5 a6 a7 a8 a9
              rw [a2] at a4
              rw [lv] at a4
              have a31 := a3.1
              refine fin c1 l1 (nx t n q1) rfl y m3 (a1.l.tr (a3.tr a7.l)) a9 (a4.x a7 (Int.le_refl _) (Nat.le_refl _) (by omega) (by omega) (by rw [a8]; exact Int.le_refl _)) (a5.x a7 hlo.1) ?_
              rw [a8]
              split <;> omega
            clear fin
            refine RDr [] [1980002, 1980060] 30 ?_
            repeat' first | (refine hub_i (by dsimp only [kdD]; omega) (D_isC (w := wNot) rfl hS (by decide) (fun e1 => absurd e1 h0) (fun e1 => ?_))) | (refine hub_i (by dsimp only [kdD]; omega) (D_isC (w := [91]) rfl hS (by decide) (fun e1 => ?_) (fun e1 => absurd h1 (by rw [e1]; decide)))) | (refine hub_i (by dsimp only [kdD]; omega) (E_open hS (by split at hB <;> omega) (fun _ m1 x1 e1 s1 => ?_) (fun e => by omega))) | ((refine hub_i (by dsimp only [kdD]; have := s1.1.1; omega) (S6 _ _ (B + 300) ts _ _ _ _ _ hr2 s1 (by rw [e1]; exact hlo) (hTL.x x1 hlo.1) (by omega) (by omega) (by rw [e1]; split at hB <;> omega) (by omega) (fun y m2 x2 s2 t2 u2 b2 => ?_)))) | ((refine hub_i (by dsimp only [kdD]; have := s2.1.1; omega) (E_close (w := [93]) rfl s2 hop.1 (by decide) (by omega) (fun _ m3 x3 e3 s3 => ?_) (fun e1 => absurd h3 (by rw [e1]; decide))))) | (refine ⟨fun _ => ?_, fun _ => ?_⟩ <;> try omega) | (refine ⟨by first | omega | rfl | assumption | (simp only [dst_1, dst_2, up3_ap, upd1_ap, Nat.reduceEqDiff, ↓reduceIte, eq_self] at * <;> omega) | fail, ?_⟩) | (exact f2 _ _ _ _ x1 e1 x2 t2 u2 b2 x3 e3 s3) | (simp only [dst_1, dst_2, up3_ap, upd1_ap, Nat.reduceEqDiff, ↓reduceIte, eq_self] at *) | omega | fail
          · rw [if_neg h3] at hk
            cases hk
            clear fin
            refine RDr [] [1980002, 1980060] 30 ?_
            repeat' first | (refine hub_i (by dsimp only [kdD]; omega) (D_isC (w := wNot) rfl hS (by decide) (fun e1 => absurd e1 h0) (fun e1 => ?_))) | (refine hub_i (by dsimp only [kdD]; omega) (D_isC (w := [91]) rfl hS (by decide) (fun e1 => ?_) (fun e1 => absurd h1 (by rw [e1]; decide)))) | (refine hub_i (by dsimp only [kdD]; omega) (E_open hS (by split at hB <;> omega) (fun _ m1 x1 e1 s1 => ?_) (fun e => by omega))) | ((refine hub_i (by dsimp only [kdD]; have := s1.1.1; omega) (S6 _ _ (B + 300) ts _ _ _ _ _ hr2 s1 (by rw [e1]; exact hlo) (hTL.x x1 hlo.1) (by omega) (by omega) (by rw [e1]; split at hB <;> omega) (by omega) (fun y m2 x2 s2 t2 u2 b2 => ?_)))) | ((refine hub_i (by dsimp only [kdD]; have := s2.1.1; omega) (E_close (w := [93]) rfl s2 hop.1 (by decide) (by omega) (fun e1 => absurd e1 h3) (fun _ w m3 g1 => ?_)))) | (refine ⟨fun _ => ?_, fun _ => ?_⟩ <;> try omega) | (refine ⟨by first | omega | rfl | assumption | (simp only [dst_1, dst_2, up3_ap, upd1_ap, Nat.reduceEqDiff, ↓reduceIte, eq_self] at * <;> omega) | fail, ?_⟩) | (exact hQ _ _ (g1.wt (x1.l.tr x2) (by decide) (by omega))) | (simp only [dst_1, dst_2, up3_ap, upd1_ap, Nat.reduceEqDiff, ↓reduceIte, eq_self] at *) | omega | fail
    · rw [if_neg h1] at h
      rcases pB_some h with ⟨⟨k, p⟩, hr2, rfl⟩ | ⟨c1, l1, q1, hr2, hk⟩
      · clear fin
        refine RDr [] [1980002, 1980060] 30 ?_
        repeat' first | (refine hub_i (by dsimp only [kdD]; omega) (D_isC (w := wNot) rfl hS (by decide) (fun e1 => absurd e1 h0) (fun e1 => ?_))) | (refine hub_i (by dsimp only [kdD]; omega) (D_isC (w := [91]) rfl hS (by decide) (fun e1 => absurd e1 h1) (fun e1 => ?_))) | ((refine hub_i (by dsimp only [kdD]; omega) (S _ _ B ts _ _ _ _ _ _ _ hr2 hS hlo hTL hts hB1 (by split at hB <;> omega) (by omega) (fun w m2 g1 => ?_)))) | (refine ⟨fun _ => ?_, fun _ => ?_⟩ <;> try omega) | (refine ⟨by first | omega | rfl | assumption | (simp only [dst_1, dst_2, up3_ap, upd1_ap, Nat.reduceEqDiff, ↓reduceIte, eq_self] at * <;> omega) | fail, ?_⟩) | (exact hQ _ _ g1) | (simp only [dst_1, dst_2, up3_ap, upd1_ap, Nat.reduceEqDiff, ↓reduceIte, eq_self] at *) | omega | fail
      · have hk := hk.symm
        cases hk
        refine RDr [] [1980002, 1980060] 30 ?_
        repeat' first | (refine hub_i (by dsimp only [kdD]; omega) (D_isC (w := wNot) rfl hS (by decide) (fun e1 => absurd e1 h0) (fun e1 => ?_))) | (refine hub_i (by dsimp only [kdD]; omega) (D_isC (w := [91]) rfl hS (by decide) (fun e1 => absurd e1 h1) (fun e1 => ?_))) | ((refine hub_i (by dsimp only [kdD]; omega) (S _ _ (B + (if c = [] then 0 else 10)) ts _ _ _ _ _ _ _ hr2 hS hlo hTL hts (by split <;> omega) (by omega) (by omega) (fun y m2 x2 s2 t2 u2 b2 => ?_)))) | (refine ⟨fun _ => ?_, fun _ => ?_⟩ <;> try omega) | (refine ⟨by first | omega | rfl | assumption | (simp only [dst_1, dst_2, up3_ap, upd1_ap, Nat.reduceEqDiff, ↓reduceIte, eq_self] at * <;> omega) | fail, ?_⟩) | (exact fin _ _ _ rfl _ _ x2 s2 (t2.cg (by omega) (Int.le_refl _) (Int.le_refl _) (fun _ _ _ _ => rfl) (fun _ _ _ => rfl)) u2 b2) | (simp only [dst_1, dst_2, up3_ap, upd1_ap, Nat.reduceEqDiff, ↓reduceIte, eq_self] at *) | omega | fail
theorem D_part {f : Nat} (S : dg4 t n nm ai r L lo0 f) (o q B : Int) (ts : List (List Int)) (m : mD) (d : Nat) (Q : mQ mD) (x : (Int × Int) ⊕ (List Int × List (List Int) × Int)) {x1 x2 : Option mV} (h : prs t n nm f 4 o q [] [] = some x) (hS : DS t n nm q o ai r m) (hlo : r < lo0 ∧ lo0 ≤ m.2.2.1) (hTL : TLo lo0 r ai L m ts) (hts : (ts.length : Int) ≤ q) (hB1 : 1000 ≤ B) (hB : B + 900 * (n - q) ≤ m.2.2.2) (hd : 12 * (4 - o) + 10 ≤ (d : Int)) (hQ : dPostC t n nm o ai r L lo0 ts m m.2.2.1 B 200 900 (lvl o) x Q) : RD d 198 (0, [some (mR r), x1, x2], [], m) Q := by
  have go := S o q B [] ts m d Q x x2 h hS hlo hTL hts hB1 (by rw [if_pos rfl]; omega) hd hQ
  refine RDr [] [1980002] 10 ?_
  exact go
theorem dg5_s {f : Nat} (hL0 : 0 < lo0) (S : dg4 t n nm ai r L lo0 f) (G : dg9 t n nm ai r L lo0 f) : dg5 t n nm ai r L lo0 (f + 1) := by
  intro o q B ts m d Q x x1 h hS hlo hTL hts hB1 hB hd hQ
  have hop := hS.2.2.2.2.1
  have hq := hS.2.2.2.1
  have hr := hS.rb
  have tl := hTL.lo hL0
  obtain ⟨d', rfl⟩ : ∃ d', d = d' + 6 := ⟨d - 6, by omega⟩
  rw [prs_5] at h
  -- the list is made
  have mk : ∀ a l m2, m.2.2.1 ≤ a → smeN a 1 l (dal m a 12 (((2 : Nat) : Int) + 4)) m2 → RD (d' + 6) 197 (9, [some (mR r), some (mR a)], [], m2) Q := by
    intro a l m2 ha ⟨e1, e2, e3, e4, e5, e6, e7, e8, e9⟩
    have dx := dal_x (r := r) (L := 0) (k := 12) (c := ((2 : Nat) : Int) + 4) ha
    have nxa := dx.2.2.2.1
    have bda := dx.2.2.2.2
    have k12 : m2.2.1 a = 12 := by rw [e4 a (by omega)]; exact dx.2.2.1
    have x2 : RX r 0 m m2 := ⟨by omega, fun b hb => by rw [e4 b (by omega)]; exact dx.1.2.1 b hb, fun g b hb => Or.inl (by
      rw [e9 g b (by omega) (by omega)]
      show (if b = a then (fun _ => 0) else m.1 g b) = _
      rw [if_neg (by omega)])⟩
    have same : ∀ g b, b < m.2.2.1 → m2.1 g b = m.1 g b := fun g b hb => by
      rw [e9 g b (by omega) (by omega)]
      show (if b = a then (fun _ => 0) else m.1 g b) = _
      rw [if_neg (by omega)]
    have s2 : DS t n nm q o ai r m2 := hS.y x2 (by omega) (fun g _ => same g r hr.2)
    have u2 := hTL.x x2 hlo.1
    have kr2 := s2.1.1
    have sm0 : ∀ N, SoM m.2.2.1 m2 a 1 N [] := fun N => ⟨by rw [e6]; omega, k12, e7, by rw [e6]; exact e3, by rw [e6]; exact e5, fun i hi => absurd hi (Nat.not_lt_zero _)⟩
    have bd2 : m2.2.2.2 = m.2.2.2 - 19 := by rw [e8, bda]; show m.2.2.2 - (((2 : Nat) : Int) + 4) - 13 = _; omega
    have li : m2.1 1201 a 0 = l := e6
    have hal : a < l := by omega
    clear e1 e3 e4 e5 e6 e7 e8 e9
    rcases pB_some h with ⟨⟨k, p⟩, hr2, rfl⟩ | ⟨c1, l1, q1, hr2, hk⟩
    · refine RDr [] [] 30 ?_
      repeat' first | ((refine hub_i (by dsimp only [kdD]; omega) (D_part S _ _ (B - 19) ts _ _ _ _ hr2 s2 (by omega) u2 hts (by omega) (by omega) (by omega) (fun w m3 g1 => ?_)))) | (refine ⟨fun _ => ?_, fun _ => ?_⟩ <;> try omega) | (refine ⟨by first | omega | rfl | assumption | (simp only [dst_1, dst_2, up3_ap, upd1_ap, Nat.reduceEqDiff, ↓reduceIte, eq_self] at * <;> omega) | fail, ?_⟩) | (exact hQ _ _ ((g1.tr x2.l).le (by omega))) | (simp only [dst_1, dst_2, up3_ap, upd1_ap, Nat.reduceEqDiff, ↓reduceIte, eq_self] at *) | omega | fail
    · have far := prs_far _ _ _ _ _ _ hq.2 _ _ _ hr2
      have fc := prs_cmp _ _ _ _ _ _ hq.2 _ _ _ hr2
      simp at fc
      have aft : ∀ y m3, RX r L m2 m3 → DS t n nm q1 o ai r m3 → TCb m2.2.2.1 m3.2.2.1 m3 (c1.length + lvl o) y c1 → TLo lo0 r ai L m3 (ts ++ l1) → B - 19 + 900 * (n - q1) + 900 ≤ m3.2.2.2 → m3.2.1 (m2.1 1201 a 0) = 11201 ∧ m3.1 21201 (m2.1 1201 a 0) 0 = 0 ∧ (11 ≤ m3.2.1 y ∧ m3.2.1 y ≤ 13) ∧ 1000 ≤ m3.2.2.2 ∧ RD (d' + 6) 197 (21, [some (mR r), some (mR a)], [], dpy (dst (dst m3 11201 (m2.1 1201 a 0) 0 y) 21201 (m2.1 1201 a 0) 0 (0 + 1)) (2 * 0 + 20)) Q := by
        intro y m3 x3 s3 t3 u3 b3
        have hq3 := s3.2.2.2.1
        have x31 := x3.1
        have sm3 := (sm0 (c1.length + lvl o)).x x3 (by omega) (by omega) (Nat.le_refl _)
        have e12 : m3.1 1201 a 0 = l := by rw [x3.o (by omega) (by omega) (by omega)]; exact li
        have sm4 := sm3.add (k := 2 * 0 + 20) (y := y) (c := c1) (t3.cg (Nat.le_refl _) (by omega) (Int.le_refl _) (fun _ _ _ _ => rfl) (fun _ _ _ => rfl))
        have f1 := sm3.2.2.2.1
        have f2 := sm3.2.2.2.2.1
        rw [e12] at sm4 f1 f2
        rw [li]
        refine ⟨f1, f2, t3.b.2.2, by omega, ?_⟩
        have hr3 := s3.rb
        have oo : ∀ g x, x ≠ l → (dpy (dst (dst m3 11201 l 0 y) 21201 l 0 (0 + 1)) (2 * 0 + 20)).1 g x = m3.1 g x := fun g x hx => by
          show (dst (dst m3 11201 l 0 y) 21201 l 0 (0 + 1)).1 g x = _
          rw [ds_o hx, ds_o hx]
        have u4 : TLo lo0 r ai L (dpy (dst (dst m3 11201 l 0 y) 21201 l 0 (0 + 1)) (2 * 0 + 20)) (ts ++ l1) := u3.k (Int.le_refl _) (fun _ _ => rfl) (fun g b hb hc => oo g b (by
          intro e
          have k1 : m3.2.1 l = 11201 := f1
          rcases hc with q | q | q
          · rcases u3 with z | z
            · rw [e] at q; have := z.1; omega
            · rw [e] at q; have := z.2.2.1.2.2.1; omega
          · rw [e] at q; omega
          · rw [e, k1] at q; omega))
        have x04 : RX r L m (dpy (dst (dst m3 11201 l 0 y) 21201 l 0 (0 + 1)) (2 * 0 + 20)) := ⟨by show m.2.2.1 ≤ m3.2.2.1; omega, fun b hb => by show m3.2.1 b = _; rw [x3.2.1 b (by omega), x2.2.1 b hb], fun g b hb => by
          rw [oo g b (by omega)]
          exact (x2.l.tr x3).2.2 g b hb⟩
        have s4 : DS t n nm q1 o ai r (dpy (dst (dst m3 11201 l 0 y) 21201 l 0 (0 + 1)) (2 * 0 + 20)) := by
          have x34 : RX r l m3 (dpy (dst (dst m3 11201 l 0 y) 21201 l 0 (0 + 1)) (2 * 0 + 20)) → True := fun _ => trivial
          have y1 : ∀ g, (dpy (dst (dst m3 11201 l 0 y) 21201 l 0 (0 + 1)) (2 * 0 + 20)).1 g r = m3.1 g r := fun g => oo g r (by omega)
          have y2 : (dpy (dst (dst m3 11201 l 0 y) 21201 l 0 (0 + 1)) (2 * 0 + 20)).1 10106 1005 = m3.1 10106 1005 := oo _ _ (by omega)
          obtain ⟨⟨a1, a2, a3, a4, a5⟩, ⟨b1, b2, b3, b4, b5⟩, ⟨c1, c2, c3⟩, hq, ho2, hr1⟩ := s3
          exact ⟨⟨a1, by rw [y1]; exact a2, by rw [y1]; exact a3, by rw [y2]; exact a4, a5⟩, ⟨by rw [y1]; exact b1, by rw [y1]; exact b2, by rw [y1]; exact b3, by rw [y1]; exact b4, by rw [y1]; exact b5⟩, ⟨by rw [y1]; exact c1, by rw [y1]; exact c2, by rw [y1]; exact c3⟩, hq, ho2, hr1⟩
        exact G o q1 B m c1 [] a l1 ts _ _ _ _ hk s4 ⟨hlo.1, by show lo0 ≤ m3.2.2.1; omega⟩ u4 (by rw [List.length_append]; omega) x04 ⟨hlo.2, hr.2, by show ((1 : Nat) : Int) ≤ q1; omega⟩ sm4 hB1 (by show _ ≤ m3.2.2.2 - (2 * 0 + 20); omega) (by omega) hQ
      clear sm0 hQ
      refine RDr [] [1970021] 30 ?_
      repeat' first | ((refine hub_i (by dsimp only [kdD]; omega) (D_part S _ _ (B - 19) ts _ _ _ _ hr2 s2 (by omega) u2 hts (by omega) (by omega) (by omega) (fun y m3 x3 s3 t3 u3 b3 => ?_)); obtain ⟨p1, p2, p3, p4, p5⟩ := aft y m3 x3 s3 t3 u3 b3)) | ((refine ⟨p1, ⟨by omega, by omega, Or.inr (by omega)⟩, ?_⟩; rw [p2])) | (refine ⟨fun _ => ?_, fun _ => ?_⟩ <;> try omega) | (refine ⟨by first | omega | rfl | assumption | (simp only [dst_1, dst_2, up3_ap, upd1_ap, Nat.reduceEqDiff, ↓reduceIte, eq_self] at * <;> omega) | fail, ?_⟩) | (exact p5) | (simp only [dst_1, dst_2, up3_ap, upd1_ap, Nat.reduceEqDiff, ↓reduceIte, eq_self] at *) | omega | fail
  have ka : ∀ a, m.2.2.1 ≤ a → (dal m a 12 (((2 : Nat) : Int) + 4)).2.1 a = 12 ∧ (dal m a 12 (((2 : Nat) : Int) + 4)).2.2.1 = a + 1 ∧ (dal m a 12 (((2 : Nat) : Int) + 4)).2.2.2 = m.2.2.2 - (((2 : Nat) : Int) + 4) := fun a ha => (dal_x (r := r) (L := 0) (k := 12) (c := ((2 : Nat) : Int) + 4) ha).2.2
  refine RDr [] [1970009] 20 ?_
  repeat' first | ((refine ⟨by show ((2 : Nat) : Int) + 4 ≤ _; omega, fun a ha => ?_⟩; have k1 := ka a ha)) | (refine hub_i (by dsimp only [kdD]; omega) (D_Some k1.1 (by omega) (by decide) (by omega) (fun l m2 hm => ?_))) | (refine ⟨fun _ => ?_, fun _ => ?_⟩ <;> try omega) | (refine ⟨by first | omega | rfl | assumption | (simp only [dst_1, dst_2, up3_ap, upd1_ap, Nat.reduceEqDiff, ↓reduceIte, eq_self] at * <;> omega) | fail, ?_⟩) | (exact mk _ _ _ ha hm) | (simp only [dst_1, dst_2, up3_ap, upd1_ap, Nat.reduceEqDiff, ↓reduceIte, eq_self] at *) | omega | fail
theorem dg9_s {f : Nat} (hL0 : 0 < lo0) (S : dg4 t n nm ai r L lo0 f) (G : dg9 t n nm ai r L lo0 f) : dg9 t n nm ai r L lo0 (f + 1) := by
  intro o q B mb c0 cs a l ts m d Q x h hS hlo hTL hts hXb hlq hSM hB1 hB hd hQ
  have hop := hS.2.2.2.2.1
  have hq := hS.2.2.2.1
  have hr := hS.rb
  have kr := hS.1.1
  have tl := hTL.lo hL0
  have hn4 := hS.1.2.2.2.2
  have hnx := nx_b (t := t) hq.2
  have hb1 := hXb.1
  obtain ⟨d', rfl⟩ : ∃ d', d = d' + 6 := ⟨d - 6, by omega⟩
  rw [prs_9] at h
  have k12 : ∀ m1, RC r m m1 → m1.2.1 a = 12 := fun m1 c1 => by rw [c1.1]; exact hSM.2.1
  by_cases h1 : isWb t n q wAnd = true
  · rw [if_pos h1] at h
    have hlt := isWb_lt h1 (by decide) hq.2
    rcases pB_some h with ⟨⟨k, p⟩, hr2, rfl⟩ | ⟨c2, l2, q1, hr2, hk⟩
    · refine RDr [] [1970021] 30 ?_
      repeat' first | (refine hub_i (by dsimp only [kdD]; omega) (D_isC (w := wAnd) rfl hS (by decide) (fun e1 => ?_) (fun e1 => absurd h1 (by rw [e1]; decide)))) | ((refine hub_i (by dsimp only [kdD]; omega) (E_cut hS (fun m1 c1 s1 => ?_)); have q12 := k12 m1 c1; have kr1 := s1.1.1)) | ((refine hub_i (by dsimp only [kdD]; omega) (D_part S _ _ (B + 1600) (ts ++ l) _ _ _ _ hr2 s1 (by rw [c1.1]; exact hlo) (hTL.x (RC.x c1) hlo.1) (by omega) (by omega) (by rw [c1.1]; omega) (by omega) (fun w m3 g1 => ?_)))) | (refine ⟨fun _ => ?_, fun _ => ?_⟩ <;> try omega) | (refine ⟨by first | omega | rfl | assumption | (simp only [dst_1, dst_2, up3_ap, upd1_ap, Nat.reduceEqDiff, ↓reduceIte, eq_self] at * <;> omega) | fail, ?_⟩) | (exact hQ _ _ ((g1.tr (hXb.tr (RC.x c1))).le (by omega))) | (simp only [dst_1, dst_2, up3_ap, upd1_ap, Nat.reduceEqDiff, ↓reduceIte, eq_self] at *) | omega | fail
    · have far := prs_far _ _ _ _ _ _ hnx.2.1 _ _ _ hr2
      have fc := prs_cmp _ _ _ _ _ _ hnx.2.1 _ _ _ hr2
      simp at fc
      have hjl : (jcode (-7) c0 cs ++ (c2 ++ [-7])).length = (jcode (-7) c0 cs).length + c2.length + 1 := by rw [List.length_append, List.length_append]; show _ + (c2.length + 1) = _; omega
      have hj := jcode_app (-7) c2 cs c0
      have hab := hSM.1
      have aft : ∀ y m1 m3, RC r m m1 → RX r L m1 m3 → DS t n nm q1 o ai r m3 → TCb m1.2.2.1 m3.2.2.1 m3 (c2.length + lvl o) y c2 → TLo lo0 r ai L m3 ((ts ++ l) ++ l2) → B + 1600 + 900 * (n - q1) + 900 ≤ m3.2.2.2 → m3.2.1 (m1.1 1201 a 0) = 11201 ∧ m3.1 21201 (m1.1 1201 a 0) 0 = ((c0 :: cs).length : Int) ∧ (11 ≤ m3.2.1 y ∧ m3.2.1 y ≤ 13) ∧ 2000 ≤ m3.2.2.2 ∧ RD (d' + 6) 197 (21, [some (mR r), some (mR a)], [], dpy (dst (dst m3 11201 (m1.1 1201 a 0) (c0 :: cs).length y) 21201 (m1.1 1201 a 0) 0 ((c0 :: cs).length + 1)) (2 * ((c0 :: cs).length : Int) + 20)) Q := by
        intro y m1 m3 c1 x3 s3 t3 u3 b3
        have e1 := c1.1
        have x1 := RC.x (L := L) c1
        have hq3 := s3.2.2.2.1
        have x13 := x1.tr x3
        have x31 := x13.1
        rw [e1] at t3
        have sm3 := hSM.x x13 (by omega) (by omega) (show _ ≤ (jcode (-7) c0 (cs ++ [c2])).length + lvl o by rw [hj, hjl]; omega)
        have e12 : m1.1 1201 a 0 = m.1 1201 a 0 := by
          rcases c1.2 1201 a with z | z
          · rw [z]
          · exact absurd z.2 (by decide)
        have e13 : m3.1 1201 a 0 = m.1 1201 a 0 := by rw [x13.o (b := a) (by omega) (by omega) (by omega)]
        have sm4 := sm3.add (k := 2 * ((c0 :: cs).length : Int) + 20) (y := y) (c := c2) (t3.cg (by rw [hj, hjl]; omega) (by rw [e13]; omega) (Int.le_refl _) (fun _ _ _ _ => rfl) (fun _ _ _ => rfl))
        have f1 := sm3.2.2.2.1
        have f2 := sm3.2.2.2.2.1
        rw [e13] at sm4 f1 f2
        rw [e12]
        generalize hl : m.1 1201 a 0 = li at *
        refine ⟨f1, f2, t3.b.2.2, by omega, ?_⟩
        have hr3 := s3.rb
        have ln2 : ((c0 :: (cs ++ [c2])).length : Int) = ((c0 :: cs).length : Int) + 1 := by rw [List.length_cons, List.length_append, List.length_cons]; show ((cs.length + 1 + 1 : Nat) : Int) = ((cs.length + 1 : Nat) : Int) + 1; omega
        generalize hps : ((c0 :: cs).length : Int) = ln at *
        have oo : ∀ g x, x ≠ li → (dpy (dst (dst m3 11201 li ln y) 21201 li 0 (ln + 1)) (2 * ln + 20)).1 g x = m3.1 g x := fun g x hx => by
          show (dst (dst m3 11201 li ln y) 21201 li 0 (ln + 1)).1 g x = _
          rw [ds_o hx, ds_o hx]
        have u4 : TLo lo0 r ai L (dpy (dst (dst m3 11201 li ln y) 21201 li 0 (ln + 1)) (2 * ln + 20)) ((ts ++ l) ++ l2) := u3.k (Int.le_refl _) (fun _ _ => rfl) (fun g b hb hc => oo g b (by
          intro e
          have k1 : m3.2.1 li = 11201 := f1
          rcases hc with q | q | q
          · rcases u3 with z | z
            · rw [e] at q; have := z.1; omega
            · rw [e] at q; have := z.2.2.1.2.2.1; omega
          · rw [e] at q; omega
          · rw [e, k1] at q; omega))
        have y1 : ∀ g, (dpy (dst (dst m3 11201 li ln y) 21201 li 0 (ln + 1)) (2 * ln + 20)).1 g r = m3.1 g r := fun g => oo g r (by omega)
        have y2 : (dpy (dst (dst m3 11201 li ln y) 21201 li 0 (ln + 1)) (2 * ln + 20)).1 10106 1005 = m3.1 10106 1005 := oo _ _ (by omega)
        have s4 : DS t n nm q1 o ai r (dpy (dst (dst m3 11201 li ln y) 21201 li 0 (ln + 1)) (2 * ln + 20)) := by
          obtain ⟨⟨a1, a2, a3, a4, a5⟩, ⟨b1, b2, b3, b4, b5⟩, ⟨c1, c2, c3⟩, hq, ho2, hr1⟩ := s3
          exact ⟨⟨a1, by rw [y1]; exact a2, by rw [y1]; exact a3, by rw [y2]; exact a4, a5⟩, ⟨by rw [y1]; exact b1, by rw [y1]; exact b2, by rw [y1]; exact b3, by rw [y1]; exact b4, by rw [y1]; exact b5⟩, ⟨by rw [y1]; exact c1, by rw [y1]; exact c2, by rw [y1]; exact c3⟩, hq, ho2, hr1⟩
        rw [List.append_assoc] at u4
        rw [← hj] at hk
        have xb3 := hXb.tr x13
        have x04 : RX r L mb (dpy (dst (dst m3 11201 li ln y) 21201 li 0 (ln + 1)) (2 * ln + 20)) := ⟨xb3.1, xb3.2.1, fun g b hb => by
          rw [oo g b (by omega)]
          exact xb3.2.2 g b hb⟩
        exact G o q1 B mb c0 (cs ++ [c2]) a (l ++ l2) ts _ _ _ _ hk s4 ⟨hlo.1, by show lo0 ≤ m3.2.2.1; omega⟩ u4 (by rw [← List.append_assoc, List.length_append]; omega) x04 ⟨hlq.1, hlq.2.1, by rw [ln2]; omega⟩ sm4 hB1 (by show _ ≤ m3.2.2.2 - (2 * ln + 20); omega) (by omega) hQ
      refine RDr [] [1970021] 30 ?_
      repeat' first | (refine hub_i (by dsimp only [kdD]; omega) (D_isC (w := wAnd) rfl hS (by decide) (fun e1 => ?_) (fun e1 => absurd h1 (by rw [e1]; decide)))) | ((refine hub_i (by dsimp only [kdD]; omega) (E_cut hS (fun m1 c1 s1 => ?_)); have q12 := k12 m1 c1; have kr1 := s1.1.1)) | ((refine hub_i (by dsimp only [kdD]; omega) (D_part S _ _ (B + 1600) (ts ++ l) _ _ _ _ hr2 s1 (by rw [c1.1]; exact hlo) (hTL.x (RC.x c1) hlo.1) (by omega) (by omega) (by rw [c1.1]; omega) (by omega) (fun y m3 x3 s3 t3 u3 b3 => ?_)); obtain ⟨p1, p2, p3, p4, p5⟩ := aft y m1 m3 c1 x3 s3 t3 u3 b3)) | ((refine ⟨p1, ⟨by omega, by omega, Or.inr (by omega)⟩, ?_⟩; rw [p2])) | (refine ⟨fun _ => ?_, fun _ => ?_⟩ <;> try omega) | (refine ⟨by first | omega | rfl | assumption | (simp only [dst_1, dst_2, up3_ap, upd1_ap, Nat.reduceEqDiff, ↓reduceIte, eq_self] at * <;> omega) | fail, ?_⟩) | (exact p5) | (simp only [dst_1, dst_2, up3_ap, upd1_ap, Nat.reduceEqDiff, ↓reduceIte, eq_self] at *) | omega | fail
  · rw [if_neg h1] at h
    cases h
    have tc := hSM.tc (c := jcode (-7) c0 cs) (by omega) (by simp)
    have fin := hQ a m hXb hS tc hTL hB
    refine RDr [] [1970021] 20 ?_
    repeat' first | (refine hub_i (by dsimp only [kdD]; omega) (D_isC (w := wAnd) rfl hS (by decide) (fun e1 => absurd e1 h1) (fun e1 => ?_))) | (refine ⟨fun _ => ?_, fun _ => ?_⟩ <;> try omega) | (refine ⟨by first | omega | rfl | assumption | (simp only [dst_1, dst_2, up3_ap, upd1_ap, Nat.reduceEqDiff, ↓reduceIte, eq_self] at * <;> omega) | fail, ?_⟩) | (exact fin) | (simp only [dst_1, dst_2, up3_ap, upd1_ap, Nat.reduceEqDiff, ↓reduceIte, eq_self] at *) | omega | fail
theorem dg6_s {f : Nat} (hL0 : 0 < lo0) (S : dg5 t n nm ai r L lo0 f) (G : dg10 t n nm ai r L lo0 f) : dg6 t n nm ai r L lo0 (f + 1) := by
  intro o q B ts m d Q x x1 h hS hlo hTL hts hB1 hB hd hQ
  have hop := hS.2.2.2.2.1
  have hq := hS.2.2.2.1
  have hr := hS.rb
  have tl := hTL.lo hL0
  obtain ⟨d', rfl⟩ : ∃ d', d = d' + 6 := ⟨d - 6, by omega⟩
  rw [prs_6] at h
  -- the list is made
  have mk : ∀ a l m2, m.2.2.1 ≤ a → smeN a 0 l (dal m a 12 (((2 : Nat) : Int) + 4)) m2 → RD (d' + 6) 196 (9, [some (mR r), some (mR a)], [], m2) Q := by
    intro a l m2 ha ⟨e1, e2, e3, e4, e5, e6, e7, e8, e9⟩
    have dx := dal_x (r := r) (L := 0) (k := 12) (c := ((2 : Nat) : Int) + 4) ha
    have nxa := dx.2.2.2.1
    have bda := dx.2.2.2.2
    have k12 : m2.2.1 a = 12 := by rw [e4 a (by omega)]; exact dx.2.2.1
    have x2 : RX r 0 m m2 := ⟨by omega, fun b hb => by rw [e4 b (by omega)]; exact dx.1.2.1 b hb, fun g b hb => Or.inl (by
      rw [e9 g b (by omega) (by omega)]
      show (if b = a then (fun _ => 0) else m.1 g b) = _
      rw [if_neg (by omega)])⟩
    have same : ∀ g b, b < m.2.2.1 → m2.1 g b = m.1 g b := fun g b hb => by
      rw [e9 g b (by omega) (by omega)]
      show (if b = a then (fun _ => 0) else m.1 g b) = _
      rw [if_neg (by omega)]
    have s2 : DS t n nm q o ai r m2 := hS.y x2 (by omega) (fun g _ => same g r hr.2)
    have u2 := hTL.x x2 hlo.1
    have kr2 := s2.1.1
    have sm0 : ∀ N, SoM m.2.2.1 m2 a 0 N [] := fun N => ⟨by rw [e6]; omega, k12, e7, by rw [e6]; exact e3, by rw [e6]; exact e5, fun i hi => absurd hi (Nat.not_lt_zero _)⟩
    have bd2 : m2.2.2.2 = m.2.2.2 - 19 := by rw [e8, bda]; show m.2.2.2 - (((2 : Nat) : Int) + 4) - 13 = _; omega
    have li : m2.1 1201 a 0 = l := e6
    have hal : a < l := by omega
    clear e1 e3 e4 e5 e6 e7 e8 e9
    rcases pB_some h with ⟨⟨k, p⟩, hr2, rfl⟩ | ⟨c1, l1, q1, hr2, hk⟩
    · refine RDr [] [] 30 ?_
      repeat' first | ((refine hub_i (by dsimp only [kdD]; omega) (S _ _ (B - 19) ts _ _ _ _ _ hr2 s2 (by omega) u2 hts (by omega) (by omega) (by omega) (fun w m3 g1 => ?_)))) | (refine ⟨fun _ => ?_, fun _ => ?_⟩ <;> try omega) | (refine ⟨by first | omega | rfl | assumption | (simp only [dst_1, dst_2, up3_ap, upd1_ap, Nat.reduceEqDiff, ↓reduceIte, eq_self] at * <;> omega) | fail, ?_⟩) | (exact hQ _ _ ((g1.tr x2.l).le (by omega))) | (simp only [dst_1, dst_2, up3_ap, upd1_ap, Nat.reduceEqDiff, ↓reduceIte, eq_self] at *) | omega | fail
    · have far := prs_far _ _ _ _ _ _ hq.2 _ _ _ hr2
      have fc := prs_cmp _ _ _ _ _ _ hq.2 _ _ _ hr2
      simp at fc
      have aft : ∀ y m3, RX r L m2 m3 → DS t n nm q1 o ai r m3 → TCb m2.2.2.1 m3.2.2.1 m3 (c1.length + (lvl o + 1)) y c1 → TLo lo0 r ai L m3 (ts ++ l1) → B - 19 + 900 * (n - q1) + 850 ≤ m3.2.2.2 → m3.2.1 (m2.1 1201 a 0) = 11201 ∧ m3.1 21201 (m2.1 1201 a 0) 0 = 0 ∧ (11 ≤ m3.2.1 y ∧ m3.2.1 y ≤ 13) ∧ 1000 ≤ m3.2.2.2 ∧ RD (d' + 6) 196 (21, [some (mR r), some (mR a)], [], dpy (dst (dst m3 11201 (m2.1 1201 a 0) 0 y) 21201 (m2.1 1201 a 0) 0 (0 + 1)) (2 * 0 + 20)) Q := by
        intro y m3 x3 s3 t3 u3 b3
        have hq3 := s3.2.2.2.1
        have x31 := x3.1
        have sm3 := (sm0 (c1.length + (lvl o + 1))).x x3 (by omega) (by omega) (Nat.le_refl _)
        have e12 : m3.1 1201 a 0 = l := by rw [x3.o (by omega) (by omega) (by omega)]; exact li
        have sm4 := sm3.add (k := 2 * 0 + 20) (y := y) (c := c1) (t3.cg (Nat.le_refl _) (by omega) (Int.le_refl _) (fun _ _ _ _ => rfl) (fun _ _ _ => rfl))
        have f1 := sm3.2.2.2.1
        have f2 := sm3.2.2.2.2.1
        rw [e12] at sm4 f1 f2
        rw [li]
        refine ⟨f1, f2, t3.b.2.2, by omega, ?_⟩
        have hr3 := s3.rb
        have oo : ∀ g x, x ≠ l → (dpy (dst (dst m3 11201 l 0 y) 21201 l 0 (0 + 1)) (2 * 0 + 20)).1 g x = m3.1 g x := fun g x hx => by
          show (dst (dst m3 11201 l 0 y) 21201 l 0 (0 + 1)).1 g x = _
          rw [ds_o hx, ds_o hx]
        have u4 : TLo lo0 r ai L (dpy (dst (dst m3 11201 l 0 y) 21201 l 0 (0 + 1)) (2 * 0 + 20)) (ts ++ l1) := u3.k (Int.le_refl _) (fun _ _ => rfl) (fun g b hb hc => oo g b (by
          intro e
          have k1 : m3.2.1 l = 11201 := f1
          rcases hc with q | q | q
          · rcases u3 with z | z
            · rw [e] at q; have := z.1; omega
            · rw [e] at q; have := z.2.2.1.2.2.1; omega
          · rw [e] at q; omega
          · rw [e, k1] at q; omega))
        have x04 : RX r L m (dpy (dst (dst m3 11201 l 0 y) 21201 l 0 (0 + 1)) (2 * 0 + 20)) := ⟨by show m.2.2.1 ≤ m3.2.2.1; omega, fun b hb => by show m3.2.1 b = _; rw [x3.2.1 b (by omega), x2.2.1 b hb], fun g b hb => by
          rw [oo g b (by omega)]
          exact (x2.l.tr x3).2.2 g b hb⟩
        have s4 : DS t n nm q1 o ai r (dpy (dst (dst m3 11201 l 0 y) 21201 l 0 (0 + 1)) (2 * 0 + 20)) := by
          have x34 : RX r l m3 (dpy (dst (dst m3 11201 l 0 y) 21201 l 0 (0 + 1)) (2 * 0 + 20)) → True := fun _ => trivial
          have y1 : ∀ g, (dpy (dst (dst m3 11201 l 0 y) 21201 l 0 (0 + 1)) (2 * 0 + 20)).1 g r = m3.1 g r := fun g => oo g r (by omega)
          have y2 : (dpy (dst (dst m3 11201 l 0 y) 21201 l 0 (0 + 1)) (2 * 0 + 20)).1 10106 1005 = m3.1 10106 1005 := oo _ _ (by omega)
          obtain ⟨⟨a1, a2, a3, a4, a5⟩, ⟨b1, b2, b3, b4, b5⟩, ⟨c1, c2, c3⟩, hq, ho2, hr1⟩ := s3
          exact ⟨⟨a1, by rw [y1]; exact a2, by rw [y1]; exact a3, by rw [y2]; exact a4, a5⟩, ⟨by rw [y1]; exact b1, by rw [y1]; exact b2, by rw [y1]; exact b3, by rw [y1]; exact b4, by rw [y1]; exact b5⟩, ⟨by rw [y1]; exact c1, by rw [y1]; exact c2, by rw [y1]; exact c3⟩, hq, ho2, hr1⟩
        exact G o q1 B m c1 [] a l1 ts _ _ _ _ hk s4 ⟨hlo.1, by show lo0 ≤ m3.2.2.1; omega⟩ u4 (by rw [List.length_append]; omega) x04 ⟨hlo.2, hr.2, by show ((1 : Nat) : Int) ≤ q1; omega⟩ sm4 hB1 (by show _ ≤ m3.2.2.2 - (2 * 0 + 20); omega) (by omega) hQ
      clear sm0 hQ
      refine RDr [] [1960021] 30 ?_
      repeat' first | ((refine hub_i (by dsimp only [kdD]; omega) (S _ _ (B - 19) ts _ _ _ _ _ hr2 s2 (by omega) u2 hts (by omega) (by omega) (by omega) (fun y m3 x3 s3 t3 u3 b3 => ?_)); obtain ⟨p1, p2, p3, p4, p5⟩ := aft y m3 x3 s3 t3 u3 b3)) | ((refine ⟨p1, ⟨by omega, by omega, Or.inr (by omega)⟩, ?_⟩; rw [p2])) | (refine ⟨fun _ => ?_, fun _ => ?_⟩ <;> try omega) | (refine ⟨by first | omega | rfl | assumption | (simp only [dst_1, dst_2, up3_ap, upd1_ap, Nat.reduceEqDiff, ↓reduceIte, eq_self] at * <;> omega) | fail, ?_⟩) | (exact p5) | (simp only [dst_1, dst_2, up3_ap, upd1_ap, Nat.reduceEqDiff, ↓reduceIte, eq_self] at *) | omega | fail
  have ka : ∀ a, m.2.2.1 ≤ a → (dal m a 12 (((2 : Nat) : Int) + 4)).2.1 a = 12 ∧ (dal m a 12 (((2 : Nat) : Int) + 4)).2.2.1 = a + 1 ∧ (dal m a 12 (((2 : Nat) : Int) + 4)).2.2.2 = m.2.2.2 - (((2 : Nat) : Int) + 4) := fun a ha => (dal_x (r := r) (L := 0) (k := 12) (c := ((2 : Nat) : Int) + 4) ha).2.2
  refine RDr [] [1960009] 20 ?_
  repeat' first | ((refine ⟨by show ((2 : Nat) : Int) + 4 ≤ _; omega, fun a ha => ?_⟩; have k1 := ka a ha)) | (refine hub_i (by dsimp only [kdD]; omega) (D_Some k1.1 (by omega) (by decide) (by omega) (fun l m2 hm => ?_))) | (refine ⟨fun _ => ?_, fun _ => ?_⟩ <;> try omega) | (refine ⟨by first | omega | rfl | assumption | (simp only [dst_1, dst_2, up3_ap, upd1_ap, Nat.reduceEqDiff, ↓reduceIte, eq_self] at * <;> omega) | fail, ?_⟩) | (exact mk _ _ _ ha hm) | (simp only [dst_1, dst_2, up3_ap, upd1_ap, Nat.reduceEqDiff, ↓reduceIte, eq_self] at *) | omega | fail
theorem dg10_s {f : Nat} (hL0 : 0 < lo0) (S : dg5 t n nm ai r L lo0 f) (G : dg10 t n nm ai r L lo0 f) : dg10 t n nm ai r L lo0 (f + 1) := by
  intro o q B mb c0 cs a l ts m d Q x h hS hlo hTL hts hXb hlq hSM hB1 hB hd hQ
  have hop := hS.2.2.2.2.1
  have hq := hS.2.2.2.1
  have hr := hS.rb
  have kr := hS.1.1
  have tl := hTL.lo hL0
  have hn4 := hS.1.2.2.2.2
  have hnx := nx_b (t := t) hq.2
  have hb1 := hXb.1
  obtain ⟨d', rfl⟩ : ∃ d', d = d' + 6 := ⟨d - 6, by omega⟩
  rw [prs_10] at h
  have k12 : ∀ m1, RC r m m1 → m1.2.1 a = 12 := fun m1 c1 => by rw [c1.1]; exact hSM.2.1
  by_cases h1 : isWb t n q wOr = true
  · rw [if_pos h1] at h
    have hlt := isWb_lt h1 (by decide) hq.2
    rcases pB_some h with ⟨⟨k, p⟩, hr2, rfl⟩ | ⟨c2, l2, q1, hr2, hk⟩
    · refine RDr [] [1960021] 30 ?_
      repeat' first | (refine hub_i (by dsimp only [kdD]; omega) (D_isC (w := wOr) rfl hS (by decide) (fun e1 => ?_) (fun e1 => absurd h1 (by rw [e1]; decide)))) | ((refine hub_i (by dsimp only [kdD]; omega) (E_cut hS (fun m1 c1 s1 => ?_)); have q12 := k12 m1 c1; have kr1 := s1.1.1)) | ((refine hub_i (by dsimp only [kdD]; omega) (S _ _ (B + 1600) (ts ++ l) _ _ _ _ _ hr2 s1 (by rw [c1.1]; exact hlo) (hTL.x (RC.x c1) hlo.1) (by omega) (by omega) (by rw [c1.1]; omega) (by omega) (fun w m3 g1 => ?_)))) | (refine ⟨fun _ => ?_, fun _ => ?_⟩ <;> try omega) | (refine ⟨by first | omega | rfl | assumption | (simp only [dst_1, dst_2, up3_ap, upd1_ap, Nat.reduceEqDiff, ↓reduceIte, eq_self] at * <;> omega) | fail, ?_⟩) | (exact hQ _ _ ((g1.tr (hXb.tr (RC.x c1))).le (by omega))) | (simp only [dst_1, dst_2, up3_ap, upd1_ap, Nat.reduceEqDiff, ↓reduceIte, eq_self] at *) | omega | fail
    · have far := prs_far _ _ _ _ _ _ hnx.2.1 _ _ _ hr2
      have fc := prs_cmp _ _ _ _ _ _ hnx.2.1 _ _ _ hr2
      simp at fc
      have hjl : (jcode (-8) c0 cs ++ (c2 ++ [-8])).length = (jcode (-8) c0 cs).length + c2.length + 1 := by rw [List.length_append, List.length_append]; show _ + (c2.length + 1) = _; omega
      have hj := jcode_app (-8) c2 cs c0
      have hab := hSM.1
      have aft : ∀ y m1 m3, RC r m m1 → RX r L m1 m3 → DS t n nm q1 o ai r m3 → TCb m1.2.2.1 m3.2.2.1 m3 (c2.length + (lvl o + 1)) y c2 → TLo lo0 r ai L m3 ((ts ++ l) ++ l2) → B + 1600 + 900 * (n - q1) + 850 ≤ m3.2.2.2 → m3.2.1 (m1.1 1201 a 0) = 11201 ∧ m3.1 21201 (m1.1 1201 a 0) 0 = ((c0 :: cs).length : Int) ∧ (11 ≤ m3.2.1 y ∧ m3.2.1 y ≤ 13) ∧ 2000 ≤ m3.2.2.2 ∧ RD (d' + 6) 196 (21, [some (mR r), some (mR a)], [], dpy (dst (dst m3 11201 (m1.1 1201 a 0) (c0 :: cs).length y) 21201 (m1.1 1201 a 0) 0 ((c0 :: cs).length + 1)) (2 * ((c0 :: cs).length : Int) + 20)) Q := by
        intro y m1 m3 c1 x3 s3 t3 u3 b3
        have e1 := c1.1
        have x1 := RC.x (L := L) c1
        have hq3 := s3.2.2.2.1
        have x13 := x1.tr x3
        have x31 := x13.1
        rw [e1] at t3
        have sm3 := hSM.x x13 (by omega) (by omega) (show _ ≤ (jcode (-8) c0 (cs ++ [c2])).length + (lvl o + 1) by rw [hj, hjl]; omega)
        have e12 : m1.1 1201 a 0 = m.1 1201 a 0 := by
          rcases c1.2 1201 a with z | z
          · rw [z]
          · exact absurd z.2 (by decide)
        have e13 : m3.1 1201 a 0 = m.1 1201 a 0 := by rw [x13.o (b := a) (by omega) (by omega) (by omega)]
        have sm4 := sm3.add (k := 2 * ((c0 :: cs).length : Int) + 20) (y := y) (c := c2) (t3.cg (by rw [hj, hjl]; omega) (by rw [e13]; omega) (Int.le_refl _) (fun _ _ _ _ => rfl) (fun _ _ _ => rfl))
        have f1 := sm3.2.2.2.1
        have f2 := sm3.2.2.2.2.1
        rw [e13] at sm4 f1 f2
        rw [e12]
        generalize hl : m.1 1201 a 0 = li at *
        refine ⟨f1, f2, t3.b.2.2, by omega, ?_⟩
        have hr3 := s3.rb
        have ln2 : ((c0 :: (cs ++ [c2])).length : Int) = ((c0 :: cs).length : Int) + 1 := by rw [List.length_cons, List.length_append, List.length_cons]; show ((cs.length + 1 + 1 : Nat) : Int) = ((cs.length + 1 : Nat) : Int) + 1; omega
        generalize hps : ((c0 :: cs).length : Int) = ln at *
        have oo : ∀ g x, x ≠ li → (dpy (dst (dst m3 11201 li ln y) 21201 li 0 (ln + 1)) (2 * ln + 20)).1 g x = m3.1 g x := fun g x hx => by
          show (dst (dst m3 11201 li ln y) 21201 li 0 (ln + 1)).1 g x = _
          rw [ds_o hx, ds_o hx]
        have u4 : TLo lo0 r ai L (dpy (dst (dst m3 11201 li ln y) 21201 li 0 (ln + 1)) (2 * ln + 20)) ((ts ++ l) ++ l2) := u3.k (Int.le_refl _) (fun _ _ => rfl) (fun g b hb hc => oo g b (by
          intro e
          have k1 : m3.2.1 li = 11201 := f1
          rcases hc with q | q | q
          · rcases u3 with z | z
            · rw [e] at q; have := z.1; omega
            · rw [e] at q; have := z.2.2.1.2.2.1; omega
          · rw [e] at q; omega
          · rw [e, k1] at q; omega))
        have y1 : ∀ g, (dpy (dst (dst m3 11201 li ln y) 21201 li 0 (ln + 1)) (2 * ln + 20)).1 g r = m3.1 g r := fun g => oo g r (by omega)
        have y2 : (dpy (dst (dst m3 11201 li ln y) 21201 li 0 (ln + 1)) (2 * ln + 20)).1 10106 1005 = m3.1 10106 1005 := oo _ _ (by omega)
        have s4 : DS t n nm q1 o ai r (dpy (dst (dst m3 11201 li ln y) 21201 li 0 (ln + 1)) (2 * ln + 20)) := by
          obtain ⟨⟨a1, a2, a3, a4, a5⟩, ⟨b1, b2, b3, b4, b5⟩, ⟨c1, c2, c3⟩, hq, ho2, hr1⟩ := s3
          exact ⟨⟨a1, by rw [y1]; exact a2, by rw [y1]; exact a3, by rw [y2]; exact a4, a5⟩, ⟨by rw [y1]; exact b1, by rw [y1]; exact b2, by rw [y1]; exact b3, by rw [y1]; exact b4, by rw [y1]; exact b5⟩, ⟨by rw [y1]; exact c1, by rw [y1]; exact c2, by rw [y1]; exact c3⟩, hq, ho2, hr1⟩
        rw [List.append_assoc] at u4
        rw [← hj] at hk
        have xb3 := hXb.tr x13
        have x04 : RX r L mb (dpy (dst (dst m3 11201 li ln y) 21201 li 0 (ln + 1)) (2 * ln + 20)) := ⟨xb3.1, xb3.2.1, fun g b hb => by
          rw [oo g b (by omega)]
          exact xb3.2.2 g b hb⟩
        exact G o q1 B mb c0 (cs ++ [c2]) a (l ++ l2) ts _ _ _ _ hk s4 ⟨hlo.1, by show lo0 ≤ m3.2.2.1; omega⟩ u4 (by rw [← List.append_assoc, List.length_append]; omega) x04 ⟨hlq.1, hlq.2.1, by rw [ln2]; omega⟩ sm4 hB1 (by show _ ≤ m3.2.2.2 - (2 * ln + 20); omega) (by omega) hQ
      refine RDr [] [1960021] 30 ?_
      repeat' first | (refine hub_i (by dsimp only [kdD]; omega) (D_isC (w := wOr) rfl hS (by decide) (fun e1 => ?_) (fun e1 => absurd h1 (by rw [e1]; decide)))) | ((refine hub_i (by dsimp only [kdD]; omega) (E_cut hS (fun m1 c1 s1 => ?_)); have q12 := k12 m1 c1; have kr1 := s1.1.1)) | ((refine hub_i (by dsimp only [kdD]; omega) (S _ _ (B + 1600) (ts ++ l) _ _ _ _ _ hr2 s1 (by rw [c1.1]; exact hlo) (hTL.x (RC.x c1) hlo.1) (by omega) (by omega) (by rw [c1.1]; omega) (by omega) (fun y m3 x3 s3 t3 u3 b3 => ?_)); obtain ⟨p1, p2, p3, p4, p5⟩ := aft y m1 m3 c1 x3 s3 t3 u3 b3)) | ((refine ⟨p1, ⟨by omega, by omega, Or.inr (by omega)⟩, ?_⟩; rw [p2])) | (refine ⟨fun _ => ?_, fun _ => ?_⟩ <;> try omega) | (refine ⟨by first | omega | rfl | assumption | (simp only [dst_1, dst_2, up3_ap, upd1_ap, Nat.reduceEqDiff, ↓reduceIte, eq_self] at * <;> omega) | fail, ?_⟩) | (exact p5) | (simp only [dst_1, dst_2, up3_ap, upd1_ap, Nat.reduceEqDiff, ↓reduceIte, eq_self] at *) | omega | fail
  · rw [if_neg h1] at h
    cases h
    have tc := hSM.tc (c := jcode (-8) c0 cs) (by omega) (by simp)
    have fin := hQ a m hXb hS tc hTL hB
    refine RDr [] [1960021] 20 ?_
    repeat' first | (refine hub_i (by dsimp only [kdD]; omega) (D_isC (w := wOr) rfl hS (by decide) (fun e1 => absurd e1 h1) (fun e1 => ?_))) | (refine ⟨fun _ => ?_, fun _ => ?_⟩ <;> try omega) | (refine ⟨by first | omega | rfl | assumption | (simp only [dst_1, dst_2, up3_ap, upd1_ap, Nat.reduceEqDiff, ↓reduceIte, eq_self] at * <;> omega) | fail, ?_⟩) | (exact fin) | (simp only [dst_1, dst_2, up3_ap, upd1_ap, Nat.reduceEqDiff, ↓reduceIte, eq_self] at *) | omega | fail
theorem dgC_all (hnm : nm ≤ 13) (hL0 : 0 < lo0) : ∀ f : Nat, dg3 t n nm ai r L lo0 f ∧ dg4 t n nm ai r L lo0 f ∧ dg5 t n nm ai r L lo0 f ∧ dg9 t n nm ai r L lo0 f ∧ dg6 t n nm ai r L lo0 f ∧ dg10 t n nm ai r L lo0 f
  | 0 => by
    refine ⟨?_, ?_, ?_, ?_, ?_, ?_⟩
    · intro o q B ts m d Q x x1 x2 x3 h; cases h
    · intro o q B c ts m d Q x x2 h; cases h
    · intro o q B ts m d Q x x1 h; cases h
    · intro o q B mb c0 cs a l ts m d Q x h; cases h
    · intro o q B ts m d Q x x1 h; cases h
    · intro o q B mb c0 cs a l ts m d Q x h; cases h
  | f + 1 => by
    obtain ⟨a3, a4, a5, a9, a6, a10⟩ := dgC_all hnm hL0 f
    exact ⟨dg3_s hL0 (dgS_all hnm f).2.2.2.1, dg4_s hL0 a3 a6 a4, dg5_s hL0 a4 a9, dg9_s hL0 a4 a9, dg6_s hL0 a5 a10, dg10_s hL0 a5 a10⟩
end
