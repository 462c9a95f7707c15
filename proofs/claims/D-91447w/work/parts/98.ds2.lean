/-! THE DESK READS sums: products, sums -/
set_option maxHeartbeats 3200000
set_option maxRecDepth 100000
section
variable {t : Int → Int} {n : Int} {nm : Nat} {ai r L : Int} {d : Nat} {m m0 m1 : mD} {Q : mQ mD}
theorem dg1_s {f : Nat} (S : dg0 t n nm ai r f) (L : dg7 t n nm ai r f) : dg1 t n nm ai r (f + 1) := by
  intro o q B m d Q x x1 h hS hB1 hB hd hQ
  have hop := hS.2.2.2.2.1
  have hq := hS.2.2.2.1
  have hr := hS.rb
  have kr := hS.1.1
  obtain ⟨d', rfl⟩ : ∃ d', d = d' + 5 := ⟨d - 5, by omega⟩
  rw [prs_1] at h
  rcases pB_some h with ⟨⟨k, p⟩, hr2, rfl⟩ | ⟨c1, l1, q1, hr2, hk⟩
  · refine RDr [] [] 20 ?_
    repeat' first | ((refine hub_i (by dsimp only [kdD]; omega) (S _ _ B _ _ _ _ _ hr2 hS hB1 hB (by omega) (fun w m2 g1 => ?_)))) | (refine ⟨fun _ => ?_, fun _ => ?_⟩ <;> try omega) | (refine ⟨by first | omega | rfl | assumption | (simp only [dst_1, dst_2, up3_ap, upd1_ap, Nat.reduceEqDiff, ↓reduceIte, eq_self] at * <;> omega) | fail, ?_⟩) | (exact hQ _ _ g1) | (simp only [dst_1, dst_2, up3_ap, upd1_ap, Nat.reduceEqDiff, ↓reduceIte, eq_self] at *) | omega | fail
  · have far := prs_far _ _ _ _ _ _ hq.2 _ _ _ hr2
    refine RDr [] [2030005] 20 ?_
    repeat' first | (refine ⟨fun _ => ?_, fun _ => ?_⟩ <;> try omega) | (refine ⟨by first | omega | rfl | assumption | (simp only [dst_1, dst_2, up3_ap, upd1_ap, Nat.reduceEqDiff, ↓reduceIte, eq_self] at * <;> omega) | fail, ?_⟩) | ((refine hub_i (by dsimp only [kdD]; omega) (S _ _ B _ _ _ _ _ hr2 hS hB1 hB (by omega) (fun y m2 x2 s2 t2 b2 => ?_)))) | (simp only [dst_1, dst_2, up3_ap, upd1_ap, Nat.reduceEqDiff, ↓reduceIte, eq_self] at *) | omega | fail
    have x21 := x2.1
    refine L _ _ B m.2.2.1 _ _ _ _ _ _ _ hk s2 (show r < m.2.2.1 ∧ m.2.2.1 ≤ m2.2.2.1 by omega) t2 hB1 b2 (by omega) ?_
    rcases x with ⟨k, p⟩ | ⟨c, l, q2⟩
    · exact fun w m3 g1 => hQ w m3 (g1.tr x2)
    · exact fun y m3 x3 s3 t3 b3 => hQ y m3 (x2.tr x3) s3 t3 b3
theorem dg2_s {f : Nat} (S : dg1 t n nm ai r f) (L : dg8 t n nm ai r f) : dg2 t n nm ai r (f + 1) := by
  intro o q B m d Q x x1 x2 h hS hB1 hB hd hQ
  have hop := hS.2.2.2.2.1
  have hq := hS.2.2.2.1
  have hr := hS.rb
  have kr := hS.1.1
  obtain ⟨d', rfl⟩ : ∃ d', d = d' + 5 := ⟨d - 5, by omega⟩
  rw [prs_2] at h
  rcases pB_some h with ⟨⟨k, p⟩, hr2, rfl⟩ | ⟨c1, l1, q1, hr2, hk⟩
  · refine RDr [] [] 20 ?_
    repeat' first | ((refine hub_i (by dsimp only [kdD]; omega) (S _ _ B _ _ _ _ _ hr2 hS hB1 hB (by omega) (fun w m2 g1 => ?_)))) | (refine ⟨fun _ => ?_, fun _ => ?_⟩ <;> try omega) | (refine ⟨by first | omega | rfl | assumption | (simp only [dst_1, dst_2, up3_ap, upd1_ap, Nat.reduceEqDiff, ↓reduceIte, eq_self] at * <;> omega) | fail, ?_⟩) | (exact hQ _ _ g1) | (simp only [dst_1, dst_2, up3_ap, upd1_ap, Nat.reduceEqDiff, ↓reduceIte, eq_self] at *) | omega | fail
  · have far := prs_far _ _ _ _ _ _ hq.2 _ _ _ hr2
    refine RDr [] [2020005] 20 ?_
    repeat' first | (refine ⟨fun _ => ?_, fun _ => ?_⟩ <;> try omega) | (refine ⟨by first | omega | rfl | assumption | (simp only [dst_1, dst_2, up3_ap, upd1_ap, Nat.reduceEqDiff, ↓reduceIte, eq_self] at * <;> omega) | fail, ?_⟩) | ((refine hub_i (by dsimp only [kdD]; omega) (S _ _ B _ _ _ _ _ hr2 hS hB1 hB (by omega) (fun y m2 x2 s2 t2 b2 => ?_)))) | (simp only [dst_1, dst_2, up3_ap, upd1_ap, Nat.reduceEqDiff, ↓reduceIte, eq_self] at *) | omega | fail
    have x21 := x2.1
    refine L _ _ B m.2.2.1 _ _ _ _ _ _ _ _ hk s2 (show r < m.2.2.1 ∧ m.2.2.1 ≤ m2.2.2.1 by omega) t2 hB1 b2 (by omega) ?_
    rcases x with ⟨k, p⟩ | ⟨c, l, q2⟩
    · exact fun w m3 g1 => hQ w m3 (g1.tr x2)
    · exact fun y m3 x3 s3 t3 b3 => hQ y m3 (x2.tr x3) s3 t3 b3
theorem dg7_s {f : Nat} (S : dg0 t n nm ai r f) (L : dg7 t n nm ai r f) : dg7 t n nm ai r (f + 1) := by
  intro o q B lo c l s m d Q x h hS hlo hTs hB1 hB hd hQ
  have hop := hS.2.2.2.2.1
  have hq := hS.2.2.2.1
  have hr := hS.rb
  have kr := hS.1.1
  have hnx := nx_b (t := t) hq.2
  obtain ⟨d', rfl⟩ : ∃ d', d = d' + 5 := ⟨d - 5, by omega⟩
  rw [prs_7] at h
  by_cases h1 : isWb t n q [42] = true
  · rw [if_pos h1] at h
    have hlt := isWb_lt h1 (by decide) hq.2
    rcases pB_some h with ⟨⟨k, p⟩, hr2, rfl⟩ | ⟨c2, l2, q1, hr2, hk⟩
    · refine RDr [] [2030005] 40 ?_
      repeat' first | (refine hub_i (by dsimp only [kdD]; omega) (D_isC (w := [42]) rfl hS (by decide) (fun e1 => ?_) (fun e1 => absurd h1 (by rw [e1]; decide)))) | (refine hub_i (by dsimp only [kdD]; omega) (E_cut hS (fun m1 c1 s1 => ?_))) | ((fail)) | ((refine ⟨by rw [c1.1]; show ((3 : Nat) : Int) + 4 ≤ _; omega, fun a ha => ?_⟩; have sa := s1.al (k := 10) (c := ((3 : Nat) : Int) + 4) ha; have dx := dal_x (r := r) (L := 0) (k := 10) (c := ((3 : Nat) : Int) + 4) ha; have bd := dx.2.2.2.2)) | ((refine hub_i (by dsimp only [kdD]; have := sa.1.1; omega) (S _ _ B _ _ _ _ _ hr2 sa hB1 (by rw [bd, c1.1]; omega) (by omega) (fun w m3 g1 => ?_)))) | (refine ⟨fun _ => ?_, fun _ => ?_⟩ <;> try omega) | (refine ⟨by first | omega | rfl | assumption | (simp only [dst_1, dst_2, up3_ap, upd1_ap, Nat.reduceEqDiff, ↓reduceIte, eq_self] at * <;> omega) | fail, ?_⟩) | (exact hQ _ _ (g1.tr ((RC.x c1).tr dx.1))) | (simp only [dst_1, dst_2, up3_ap, upd1_ap, Nat.reduceEqDiff, ↓reduceIte, eq_self] at *) | omega | fail
    · have far := prs_far _ _ _ _ _ _ hnx.2.1 _ _ _ hr2
      have step : ∀ m1 a m3 y, RC r m m1 → m1.2.2.1 ≤ a → RX r 0 (dal m1 a 10 (((3 : Nat) : Int) + 4)) m3 → DS t n nm q1 o ai r m3 → TSb (a + 1) m3.2.2.1 m3 c2.length y c2 → B + 900 * (n - q1) + 600 ≤ m3.2.2.2 → m3.2.1 a = 10 ∧ RD (d' + 5) 203 (5, [some (mR r), some (mR a)], [], dst (dst (dst m3 1000 a 0 42) 1001 a 0 s) 1002 a 0 y) Q := by
        intro m1 a m3 y c1 ha x3 s3 t3 b3
        have e1 := c1.1
        have dx := dal_x (r := r) (L := 0) (k := 10) (c := ((3 : Nat) : Int) + 4) ha
        have hma : m.2.2.1 ≤ a := by rw [← e1]; exact ha
        have xx := (RC.x (L := 0) c1).tr (dx.1.tr x3)
        have hla : a < m3.2.2.1 := by have := x3.1; rw [dx.2.2.2.1] at this; omega
        have ka : m3.2.1 a = 10 := by rw [x3.2.1 a (by rw [dx.2.2.2.1]; omega)]; exact dx.2.2.1
        have ts := hTs.x xx (Int.le_refl _) (Nat.le_refl _) hlo.1 (by omega) (hi' := a) hma
        have hr3 := s3.rb
        have sd : ∀ y', DS t n nm q1 o ai r (dst (dst (dst m3 1000 a 0 42) 1001 a 0 s) 1002 a 0 y') := fun y' => ((s3.st (by omega) (by omega)).st (by omega) (by omega)).st (by omega) (by omega)
        refine ⟨ka, L _ _ B lo _ _ _ _ _ _ _ hk (sd y) ⟨hlo.1, by show lo ≤ m3.2.2.1; omega⟩ (TS_wk ts t3 (by omega) ka (by decide)) hB1 b3 (by omega) ?_⟩
        have x4 := xx.st3 (a := a) (i1 := 0) (i2 := 0) (i3 := 0) (v1 := 42) (v2 := s) (v3 := y) (g1 := 1000) (g2 := 1001) (g3 := 1002) hma
        rcases x with ⟨k, p⟩ | ⟨c, l, q2⟩
        · exact fun w m5 g1 => hQ w m5 (g1.tr x4)
        · exact fun z m5 x5 s5 t5 b5 => hQ z m5 (x4.tr x5) s5 t5 b5
      refine RDr [] [2030005] 40 ?_
      repeat' first | (refine hub_i (by dsimp only [kdD]; omega) (D_isC (w := [42]) rfl hS (by decide) (fun e1 => ?_) (fun e1 => absurd h1 (by rw [e1]; decide)))) | (refine hub_i (by dsimp only [kdD]; omega) (E_cut hS (fun m1 c1 s1 => ?_))) | ((fail)) | ((refine ⟨by rw [c1.1]; show ((3 : Nat) : Int) + 4 ≤ _; omega, fun a ha => ?_⟩; have sa := s1.al (k := 10) (c := ((3 : Nat) : Int) + 4) ha; have dx := dal_x (r := r) (L := 0) (k := 10) (c := ((3 : Nat) : Int) + 4) ha; have bd := dx.2.2.2.2)) | ((refine hub_i (by dsimp only [kdD]; have := sa.1.1; omega) (S _ _ B _ _ _ _ _ hr2 sa hB1 (by rw [bd, c1.1]; omega) (by omega) (fun y m3 x3 s3 t3 b3 => ?_)); obtain ⟨ka, go⟩ := step _ _ _ y c1 ha x3 s3 t3 b3)) | (refine hub_i (by dsimp only [kdD]; omega) (D_Worked ka (by decide) ?_)) | (refine ⟨fun _ => ?_, fun _ => ?_⟩ <;> try omega) | (refine ⟨by first | omega | rfl | assumption | (simp only [dst_1, dst_2, up3_ap, upd1_ap, Nat.reduceEqDiff, ↓reduceIte, eq_self] at * <;> omega) | fail, ?_⟩) | (exact go) | (simp only [dst_1, dst_2, up3_ap, upd1_ap, Nat.reduceEqDiff, ↓reduceIte, eq_self] at *) | omega | fail
  · rw [if_neg h1] at h
    cases h
    refine RDr [] [2030005] 20 ?_
    repeat' first | (refine hub_i (by dsimp only [kdD]; omega) (D_isC (w := [42]) rfl hS (by decide) (fun e1 => absurd e1 h1) (fun e1 => ?_))) | (refine ⟨fun _ => ?_, fun _ => ?_⟩ <;> try omega) | (refine ⟨by first | omega | rfl | assumption | (simp only [dst_1, dst_2, up3_ap, upd1_ap, Nat.reduceEqDiff, ↓reduceIte, eq_self] at * <;> omega) | fail, ?_⟩) | (exact hQ s m RX.rfl hS hTs hB) | (simp only [dst_1, dst_2, up3_ap, upd1_ap, Nat.reduceEqDiff, ↓reduceIte, eq_self] at *) | omega | fail
theorem byd_w {q c : Int} (h : isWb t n q [c] = true) (hc : 0 ≤ c ∧ c ≤ 127) : byd t n q = c ∧ zi2c (byd t n q) = c := by
  have h2 := (isWb_iff.mp h).2 0 (by show 0 < 1; decide)
  rw [show q + ((0 : Nat) : Int) = q by omega] at h2
  have h2 : byt t n q = c := h2
  have e : byd t n q = c := by unfold byd; rw [if_neg (by omega)]; exact h2
  refine ⟨e, ?_⟩
  rw [e]
  unfold zi2c
  omega
theorem dg8_s {f : Nat} (S : dg1 t n nm ai r f) (L : dg8 t n nm ai r f) : dg8 t n nm ai r (f + 1) := by
  intro o q B lo c l s m d Q x x2 h hS hlo hTs hB1 hB hd hQ
  have hop := hS.2.2.2.2.1
  have hq := hS.2.2.2.1
  have hr := hS.rb
  have kr := hS.1.1
  have k2 := hS.2.1.1
  have hnx := nx_b (t := t) hq.2
  obtain ⟨d', rfl⟩ : ∃ d', d = d' + 5 := ⟨d - 5, by omega⟩
  rw [prs_8] at h
  by_cases h1 : isWb t n q [43] = true
  · rw [if_pos (by rw [h1]; rfl)] at h
    simp only [if_pos h1] at h
    have hlt := isWb_lt h1 (by decide) hq.2
    have hbw := (byd_w h1 (by decide)).2
    rw [← k2] at hbw
    rcases pB_some h with ⟨⟨k, p⟩, hr2, rfl⟩ | ⟨c2, l2, q1, hr2, hk⟩
    · refine RDr [] [2020005] 40 ?_
      repeat' first | (refine hub_i (by dsimp only [kdD]; omega) (D_isC (w := [43]) rfl hS (by decide) (fun e1 => ?_) (fun e1 => absurd h1 (by rw [e1]; decide)))) | (refine hub_i (by dsimp only [kdD]; omega) (E_cut hS (fun m1 c1 s1 => ?_))) | ((refine hub_i (by dsimp only [kdD]; omega) (D_byteAt hS.1 (by omega) ?_))) | ((rw [hbw])) | ((refine ⟨by rw [c1.1]; show ((3 : Nat) : Int) + 4 ≤ _; omega, fun a ha => ?_⟩; have sa := s1.al (k := 10) (c := ((3 : Nat) : Int) + 4) ha; have dx := dal_x (r := r) (L := 0) (k := 10) (c := ((3 : Nat) : Int) + 4) ha; have bd := dx.2.2.2.2)) | ((refine hub_i (by dsimp only [kdD]; have := sa.1.1; omega) (S _ _ B _ _ _ _ _ hr2 sa hB1 (by rw [bd, c1.1]; omega) (by omega) (fun w m3 g1 => ?_)))) | (refine ⟨fun _ => ?_, fun _ => ?_⟩ <;> try omega) | (refine ⟨by first | omega | rfl | assumption | (simp only [dst_1, dst_2, up3_ap, upd1_ap, Nat.reduceEqDiff, ↓reduceIte, eq_self] at * <;> omega) | fail, ?_⟩) | (exact hQ _ _ (g1.tr ((RC.x c1).tr dx.1))) | (simp only [dst_1, dst_2, up3_ap, upd1_ap, Nat.reduceEqDiff, ↓reduceIte, eq_self] at *) | omega | fail
    · have far := prs_far _ _ _ _ _ _ hnx.2.1 _ _ _ hr2
      have step : ∀ m1 a m3 y, RC r m m1 → m1.2.2.1 ≤ a → RX r 0 (dal m1 a 10 (((3 : Nat) : Int) + 4)) m3 → DS t n nm q1 o ai r m3 → TSb (a + 1) m3.2.2.1 m3 c2.length y c2 → B + 900 * (n - q1) + 600 ≤ m3.2.2.2 → m3.2.1 a = 10 ∧ RD (d' + 5) 202 (5, [some (mR r), some (mR a), some (mI 43)], [], dst (dst (dst m3 1000 a 0 43) 1001 a 0 s) 1002 a 0 y) Q := by
        intro m1 a m3 y c1 ha x3 s3 t3 b3
        have e1 := c1.1
        have dx := dal_x (r := r) (L := 0) (k := 10) (c := ((3 : Nat) : Int) + 4) ha
        have hma : m.2.2.1 ≤ a := by rw [← e1]; exact ha
        have xx := (RC.x (L := 0) c1).tr (dx.1.tr x3)
        have hla : a < m3.2.2.1 := by have := x3.1; rw [dx.2.2.2.1] at this; omega
        have ka : m3.2.1 a = 10 := by rw [x3.2.1 a (by rw [dx.2.2.2.1]; omega)]; exact dx.2.2.1
        have ts := hTs.x xx (Int.le_refl _) (Nat.le_refl _) hlo.1 (by omega) (hi' := a) hma
        have hr3 := s3.rb
        have sd : ∀ y', DS t n nm q1 o ai r (dst (dst (dst m3 1000 a 0 43) 1001 a 0 s) 1002 a 0 y') := fun y' => ((s3.st (by omega) (by omega)).st (by omega) (by omega)).st (by omega) (by omega)
        refine ⟨ka, L _ _ B lo _ _ _ _ _ _ _ _ hk (sd y) ⟨hlo.1, by show lo ≤ m3.2.2.1; omega⟩ (TS_wk ts t3 (by omega) ka (by decide)) hB1 b3 (by omega) ?_⟩
        have x4 := xx.st3 (a := a) (i1 := 0) (i2 := 0) (i3 := 0) (v1 := 43) (v2 := s) (v3 := y) (g1 := 1000) (g2 := 1001) (g3 := 1002) hma
        rcases x with ⟨k, p⟩ | ⟨c, l, q2⟩
        · exact fun w m5 g1 => hQ w m5 (g1.tr x4)
        · exact fun z m5 x5 s5 t5 b5 => hQ z m5 (x4.tr x5) s5 t5 b5
      refine RDr [] [2020005] 40 ?_
      repeat' first | (refine hub_i (by dsimp only [kdD]; omega) (D_isC (w := [43]) rfl hS (by decide) (fun e1 => ?_) (fun e1 => absurd h1 (by rw [e1]; decide)))) | (refine hub_i (by dsimp only [kdD]; omega) (E_cut hS (fun m1 c1 s1 => ?_))) | ((refine hub_i (by dsimp only [kdD]; omega) (D_byteAt hS.1 (by omega) ?_))) | ((rw [hbw])) | ((refine ⟨by rw [c1.1]; show ((3 : Nat) : Int) + 4 ≤ _; omega, fun a ha => ?_⟩; have sa := s1.al (k := 10) (c := ((3 : Nat) : Int) + 4) ha; have dx := dal_x (r := r) (L := 0) (k := 10) (c := ((3 : Nat) : Int) + 4) ha; have bd := dx.2.2.2.2)) | ((refine hub_i (by dsimp only [kdD]; have := sa.1.1; omega) (S _ _ B _ _ _ _ _ hr2 sa hB1 (by rw [bd, c1.1]; omega) (by omega) (fun y m3 x3 s3 t3 b3 => ?_)); obtain ⟨ka, go⟩ := step _ _ _ y c1 ha x3 s3 t3 b3)) | (refine hub_i (by dsimp only [kdD]; omega) (D_Worked ka (by decide) ?_)) | (refine ⟨fun _ => ?_, fun _ => ?_⟩ <;> try omega) | (refine ⟨by first | omega | rfl | assumption | (simp only [dst_1, dst_2, up3_ap, upd1_ap, Nat.reduceEqDiff, ↓reduceIte, eq_self] at * <;> omega) | fail, ?_⟩) | (exact go) | (simp only [dst_1, dst_2, up3_ap, upd1_ap, Nat.reduceEqDiff, ↓reduceIte, eq_self] at *) | omega | fail
  · by_cases h2 : isWb t n q [45] = true
    · rw [if_pos (by rw [h2]; simp)] at h
      simp only [if_neg h1] at h
      have hlt := isWb_lt h2 (by decide) hq.2
      have hbw := (byd_w h2 (by decide)).2
      rw [← k2] at hbw
      rcases pB_some h with ⟨⟨k, p⟩, hr2, rfl⟩ | ⟨c2, l2, q1, hr2, hk⟩
      · refine RDr [] [2020005] 40 ?_
        repeat' first | (refine hub_i (by dsimp only [kdD]; omega) (D_isC (w := [43]) rfl hS (by decide) (fun e1 => absurd e1 h1) (fun e1 => ?_))) | (refine hub_i (by dsimp only [kdD]; omega) (D_isC (w := [45]) rfl hS (by decide) (fun e1 => ?_) (fun e1 => absurd h2 (by rw [e1]; decide)))) | (refine hub_i (by dsimp only [kdD]; omega) (E_cut hS (fun m1 c1 s1 => ?_))) | ((refine hub_i (by dsimp only [kdD]; omega) (D_byteAt hS.1 (by omega) ?_))) | ((rw [hbw])) | ((refine ⟨by rw [c1.1]; show ((3 : Nat) : Int) + 4 ≤ _; omega, fun a ha => ?_⟩; have sa := s1.al (k := 10) (c := ((3 : Nat) : Int) + 4) ha; have dx := dal_x (r := r) (L := 0) (k := 10) (c := ((3 : Nat) : Int) + 4) ha; have bd := dx.2.2.2.2)) | ((refine hub_i (by dsimp only [kdD]; have := sa.1.1; omega) (S _ _ B _ _ _ _ _ hr2 sa hB1 (by rw [bd, c1.1]; omega) (by omega) (fun w m3 g1 => ?_)))) | (refine ⟨fun _ => ?_, fun _ => ?_⟩ <;> try omega) | (refine ⟨by first | omega | rfl | assumption | (simp only [dst_1, dst_2, up3_ap, upd1_ap, Nat.reduceEqDiff, ↓reduceIte, eq_self] at * <;> omega) | fail, ?_⟩) | (exact hQ _ _ (g1.tr ((RC.x c1).tr dx.1))) | (simp only [dst_1, dst_2, up3_ap, upd1_ap, Nat.reduceEqDiff, ↓reduceIte, eq_self] at *) | omega | fail
      · have far := prs_far _ _ _ _ _ _ hnx.2.1 _ _ _ hr2
        have step : ∀ m1 a m3 y, RC r m m1 → m1.2.2.1 ≤ a → RX r 0 (dal m1 a 10 (((3 : Nat) : Int) + 4)) m3 → DS t n nm q1 o ai r m3 → TSb (a + 1) m3.2.2.1 m3 c2.length y c2 → B + 900 * (n - q1) + 600 ≤ m3.2.2.2 → m3.2.1 a = 10 ∧ RD (d' + 5) 202 (5, [some (mR r), some (mR a), some (mI 45)], [], dst (dst (dst m3 1000 a 0 45) 1001 a 0 s) 1002 a 0 y) Q := by
          intro m1 a m3 y c1 ha x3 s3 t3 b3
          have e1 := c1.1
          have dx := dal_x (r := r) (L := 0) (k := 10) (c := ((3 : Nat) : Int) + 4) ha
          have hma : m.2.2.1 ≤ a := by rw [← e1]; exact ha
          have xx := (RC.x (L := 0) c1).tr (dx.1.tr x3)
          have hla : a < m3.2.2.1 := by have := x3.1; rw [dx.2.2.2.1] at this; omega
          have ka : m3.2.1 a = 10 := by rw [x3.2.1 a (by rw [dx.2.2.2.1]; omega)]; exact dx.2.2.1
          have ts := hTs.x xx (Int.le_refl _) (Nat.le_refl _) hlo.1 (by omega) (hi' := a) hma
          have hr3 := s3.rb
          have sd : ∀ y', DS t n nm q1 o ai r (dst (dst (dst m3 1000 a 0 45) 1001 a 0 s) 1002 a 0 y') := fun y' => ((s3.st (by omega) (by omega)).st (by omega) (by omega)).st (by omega) (by omega)
          refine ⟨ka, L _ _ B lo _ _ _ _ _ _ _ _ hk (sd y) ⟨hlo.1, by show lo ≤ m3.2.2.1; omega⟩ (TS_wk ts t3 (by omega) ka (by decide)) hB1 b3 (by omega) ?_⟩
          have x4 := xx.st3 (a := a) (i1 := 0) (i2 := 0) (i3 := 0) (v1 := 45) (v2 := s) (v3 := y) (g1 := 1000) (g2 := 1001) (g3 := 1002) hma
          rcases x with ⟨k, p⟩ | ⟨c, l, q2⟩
          · exact fun w m5 g1 => hQ w m5 (g1.tr x4)
          · exact fun z m5 x5 s5 t5 b5 => hQ z m5 (x4.tr x5) s5 t5 b5
        refine RDr [] [2020005] 40 ?_
        repeat' first | (refine hub_i (by dsimp only [kdD]; omega) (D_isC (w := [43]) rfl hS (by decide) (fun e1 => absurd e1 h1) (fun e1 => ?_))) | (refine hub_i (by dsimp only [kdD]; omega) (D_isC (w := [45]) rfl hS (by decide) (fun e1 => ?_) (fun e1 => absurd h2 (by rw [e1]; decide)))) | (refine hub_i (by dsimp only [kdD]; omega) (E_cut hS (fun m1 c1 s1 => ?_))) | ((refine hub_i (by dsimp only [kdD]; omega) (D_byteAt hS.1 (by omega) ?_))) | ((rw [hbw])) | ((refine ⟨by rw [c1.1]; show ((3 : Nat) : Int) + 4 ≤ _; omega, fun a ha => ?_⟩; have sa := s1.al (k := 10) (c := ((3 : Nat) : Int) + 4) ha; have dx := dal_x (r := r) (L := 0) (k := 10) (c := ((3 : Nat) : Int) + 4) ha; have bd := dx.2.2.2.2)) | ((refine hub_i (by dsimp only [kdD]; have := sa.1.1; omega) (S _ _ B _ _ _ _ _ hr2 sa hB1 (by rw [bd, c1.1]; omega) (by omega) (fun y m3 x3 s3 t3 b3 => ?_)); obtain ⟨ka, go⟩ := step _ _ _ y c1 ha x3 s3 t3 b3)) | (refine hub_i (by dsimp only [kdD]; omega) (D_Worked ka (by decide) ?_)) | (refine ⟨fun _ => ?_, fun _ => ?_⟩ <;> try omega) | (refine ⟨by first | omega | rfl | assumption | (simp only [dst_1, dst_2, up3_ap, upd1_ap, Nat.reduceEqDiff, ↓reduceIte, eq_self] at * <;> omega) | fail, ?_⟩) | (exact go) | (simp only [dst_1, dst_2, up3_ap, upd1_ap, Nat.reduceEqDiff, ↓reduceIte, eq_self] at *) | omega | fail
    · rw [if_neg (by simp [h1, h2])] at h
      cases h
      refine RDr [] [2020005] 20 ?_
      repeat' first | (refine hub_i (by dsimp only [kdD]; omega) (D_isC (w := [43]) rfl hS (by decide) (fun e1 => absurd e1 h1) (fun e1 => ?_))) | (refine hub_i (by dsimp only [kdD]; omega) (D_isC (w := [45]) rfl hS (by decide) (fun e1 => absurd e1 h2) (fun e1 => ?_))) | (refine ⟨fun _ => ?_, fun _ => ?_⟩ <;> try omega) | (refine ⟨by first | omega | rfl | assumption | (simp only [dst_1, dst_2, up3_ap, upd1_ap, Nat.reduceEqDiff, ↓reduceIte, eq_self] at * <;> omega) | fail, ?_⟩) | (exact hQ s m RX.rfl hS hTs hB) | (simp only [dst_1, dst_2, up3_ap, upd1_ap, Nat.reduceEqDiff, ↓reduceIte, eq_self] at *) | omega | fail
theorem dgS_all (hnm : nm ≤ 13) : ∀ f : Nat, dg0 t n nm ai r f ∧ dg1 t n nm ai r f ∧ dg7 t n nm ai r f ∧ dg2 t n nm ai r f ∧ dg8 t n nm ai r f
  | 0 => by
    refine ⟨?_, ?_, ?_, ?_, ?_⟩
    · intro o q B m d Q x x1 h; cases h
    · intro o q B m d Q x x1 h; cases h
    · intro o q B lo c l s m d Q x h; cases h
    · intro o q B m d Q x x1 x2 h; cases h
    · intro o q B lo c l s m d Q x x2 h; cases h
  | f + 1 => by
    obtain ⟨a0, a1, a7, a2, a8⟩ := dgS_all hnm f
    exact ⟨dg0_s hnm a2, dg1_s a0 a7, dg7_s a0 a7, dg2_s a1 a8, dg8_s a1 a8⟩
end
