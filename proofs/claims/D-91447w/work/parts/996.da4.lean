/-! THE DESK READS an end: from the beginning -/
set_option maxHeartbeats 3200000
set_option maxRecDepth 100000
section
variable {t : Int → Int} {n : Int} {nm : Nat} {ai r L lo0 : Int} {d : Nat} {m m0 m1 : mD} {Q : mQ mD}
/-- the sum -/
theorem D_a2 {f : Nat} {q q0 B a s b dd : Int} {x : (Int × Int) ⊕ (Cl × Int)} (hS : DS t n 10 q 0 0 r m) (hX : RX r 0 m0 m) (hr0 : r < m0.2.2.1) (h1075 : 1075 < r) (hlo : (m0.2.2.1 ≤ a ∧ a < m.2.2.1) ∧ (m0.2.2.1 ≤ s ∧ s < m.2.2.1) ∧ (m0.2.2.1 ≤ L ∧ L < m.2.2.1) ∧ L ≠ a) (hB1 : 1200 ≤ B) (hB : B + 900 * (n - q) + 600 ≤ m.2.2.2)
    (ha : m.2.1 a = 16 ∧ m.1 1600 a 0 = s ∧ m.1 1604 a 0 = L ∧ m.2.1 L = 11604 ∧ m.1 21604 L 0 = 0) (hN : NMs t n m s q0 (tke t n q0 - q0))
    (h : (if isWb t n q wPays then pC (prs t n 10 f 2 0 (nx t n q) [] []) (fun c1 _ q3 =>
    if isWb t n q3 wIf then pC (prs t n 10 f 6 0 (nx t n q3) [] []) (fun c2 l q4 =>
      if isWb t n q4 wPart then cO (8, tke t n q0 - q0, 1, c1, c2, l, q0) (nx t n q4) else cO (8, tke t n q0 - q0, 0, c1, c2, l, q0) q4)
    else cF 1 q3) else cF 1 q) = some x) (hQ : dPostA t n r m0 B x Q) : RD (d + 62) 209 (109, [some (mR r), some (mR dd), some (mR b), some (mR s), some (mR a)], [], m) Q := by
  have kr := hS.1.1
  have hq := hS.2.2.2.1
  have hrb := hS.rb
  have hnx := nx_b (t := t) hq.2
  obtain ⟨a1, a2, a3, a4, a5⟩ := ha
  by_cases h3 : isWb t n q wPays = true
  · rw [if_pos h3] at h
    have hl3 := isWb_lt h3 (by decide) hq.2
    rcases pC_some h with ⟨⟨kf, p⟩, hp, rfl⟩ | ⟨c1, l1, q3, hp, hk⟩
    · refine RDr [] [] 20 ?_
      repeat' first | (refine hub_i (by dsimp only [kdD]; omega) (E_takes (w := wPays) rfl hS (by decide) (by omega) (fun _ m1 c1 s1 => ?_) (fun e1 => absurd h3 (by rw [e1]; decide)))) | ((refine hub_i (by dsimp only [kdD]; have := s1.1.1; omega) ((dgS_all (ai := 0) (by decide) f).2.2.2.1 _ _ B _ _ _ _ _ _ hp s1 (by omega) (by rw [c1.1]; omega) (by omega) (fun w m2 g1 => ?_)))) | (refine ⟨fun _ => ?_, fun _ => ?_⟩ <;> try omega) | (refine ⟨by first | omega | rfl | assumption | (simp only [dst_1, dst_2, up3_ap, upd1_ap, Nat.reduceEqDiff, ↓reduceIte, eq_self] at * <;> omega) | fail, ?_⟩) | (exact hQ _ _ (((g1.tr (hX.tr (RC.x c1))).q).le (by omega))) | (simp only [dst_1, dst_2, up3_ap, upd1_ap, Nat.reduceEqDiff, ↓reduceIte, eq_self] at *) | omega | fail
    · have far := prs_far _ _ _ _ _ _ hnx.2.1 _ _ _ hp
      have hnx3 := nx_b (t := t) far.2.1
      have aft : ∀ y m1 m2, RC r m m1 → RX r 0 m1 m2 → DS t n 10 q3 0 0 r m2 → TSb m1.2.2.1 m2.2.2.1 m2 c1.length y c1 → B + 900 * (n - q3) + 600 ≤ m2.2.2.2 → m2.2.1 a = 16 ∧ RD (d + 62) 209 (124, [some (mR r), some (mR dd), some (mR b), some (mR s), some (mR a)], [], dst m2 1601 a 0 y) Q := by
        intro y m1 m2 k1 x2 s2 t2 b2
        have e1 := k1.1
        have x02 : RX r 0 m m2 := (RC.x k1).tr x2
        have x21 := x02.1
        rw [e1] at t2
        have oa : ∀ g, m2.1 g a = m.1 g a := fun g => x02.o (by omega) (by omega) (by omega) g
        have os : ∀ g, m2.1 g s = m.1 g s := fun g => x02.o (by omega) (by omega) (by omega) g
        have ol : ∀ g, m2.1 g L = m.1 g L := fun g => x02.o (by omega) (by omega) (by omega) g
        have ka : m2.2.1 a = 16 := by rw [x02.2.1 a (by omega)]; exact a1
        refine ⟨ka, ?_⟩
        have hr2 := s2.rb
        have S3 : DS t n 10 q3 0 0 r (dst m2 1601 a 0 y) := s2.st (by omega) (by omega)
        have X3 : RX r 0 m0 (dst m2 1601 a 0 y) := (hX.tr x02).st (by omega)
        have ns : s ≠ a := fun e => by
          have := hN.1
          rw [e, a1] at this
          cases this
        have N3 : NMs t n (dst m2 1601 a 0 y) s q0 (tke t n q0 - q0) := hN.cg (fun g => by rw [ds_o ns, os]) (x02.2.1 s (by omega))
        have H3 : (dst m2 1601 a 0 y).2.1 a = 16 ∧ (dst m2 1601 a 0 y).1 1600 a 0 = s ∧ (dst m2 1601 a 0 y).1 1604 a 0 = L ∧ (dst m2 1601 a 0 y).2.1 L = 11604 ∧ (dst m2 1601 a 0 y).1 21604 L 0 = 0 := ⟨ka, by rw [ds_n (by decide), oa]; exact a2, by rw [ds_n (by decide), oa]; exact a3, by show m2.2.1 L = _; rw [x02.2.1 L (by omega)]; exact a4, by rw [ds_n (by decide), ol]; exact a5⟩
        have T3 : TSb m0.2.2.1 m2.2.2.1 (dst m2 1601 a 0 y) c1.length ((dst m2 1601 a 0 y).1 1601 a 0) c1 := by
          rw [dsz_0]
          have := hX.1
          exact t2.cg (Nat.le_refl _) (by omega) (Int.le_refl _) (fun g b b0 _ => ds_o (by omega) g) (fun _ _ _ => rfl)
        have bb : (dst m2 1601 a 0 y).2 = m2.2 := rfl
        generalize dst m2 1601 a 0 y = m3 at *
        have kr3 := S3.1.1
        have L3 : (m0.2.2.1 ≤ a ∧ a < m3.2.2.1) ∧ (m0.2.2.1 ≤ s ∧ s < m3.2.2.1) ∧ (m0.2.2.1 ≤ L ∧ L < m3.2.2.1) ∧ L ≠ a := by rw [bb]; omega
        rw [← bb] at b2 T3
        by_cases h4 : isWb t n q3 wIf = true
        · rw [if_pos h4] at hk
          have hl4 := isWb_lt h4 (by decide) far.2.1
          have nxt : ∀ m4, RC r m3 m4 → DS t n 10 (nx t n q3) 0 0 r m4 → RD (d + 62) 209 (130, [some (mR r), some (mR dd), some (mR b), some (mR s), some (mR a)], [], m4) Q := by
            intro m4 c4 s4
            have e4 := c4.1
            have cg : ∀ g b, b ≠ r → m4.1 g b = m3.1 g b := fun g b hb => by
              rcases c4.2 g b with z | z
              · exact z
              · exact absurd z.1 hb
            refine D_a3 (q0 := q0) (c1 := c1) (B := B) s4 (X3.tr (RC.x c4)) hr0 h1075 (by rw [e4]; exact L3) hB1 (by rw [e4]; omega) (by rw [e4, cg 1600 a (by omega), cg 1604 a (by omega), cg 21604 L (by omega)]; exact H3) (by rw [cg 1601 a (by omega)]; exact T3.cg (Nat.le_refl _) (Int.le_refl _) (by rw [e4]; exact Int.le_refl _) (fun g b b0 _ => cg g b (by omega)) (fun b _ _ => by rw [e4])) (N3.cg (fun g => cg g s (by omega)) (by rw [e4])) hk hQ
          clear hQ
          refine RDr [] [2090130] 20 ?_
          repeat' first | (refine hub_i (by dsimp only [kdD]; omega) (E_takes (w := wIf) rfl S3 (by decide) (by omega) (fun _ m4 c4 s4 => ?_) (fun e1 => absurd h4 (by rw [e1]; decide)))) | (refine ⟨fun _ => ?_, fun _ => ?_⟩ <;> try omega) | (refine ⟨by first | omega | rfl | assumption | (simp only [dst_1, dst_2, up3_ap, upd1_ap, Nat.reduceEqDiff, ↓reduceIte, eq_self] at * <;> omega) | fail, ?_⟩) | (exact nxt _ c4 s4) | (simp only [dst_1, dst_2, up3_ap, upd1_ap, Nat.reduceEqDiff, ↓reduceIte, eq_self] at *) | omega | fail
        · rw [if_neg h4] at hk
          cases hk
          refine RDr [] [2090130] 20 ?_
          repeat' first | (refine hub_i (by dsimp only [kdD]; omega) (E_takes (w := wIf) rfl S3 (by decide) (by omega) (fun e1 => absurd e1 h4) (fun _ w m4 g1 => ?_))) | (refine ⟨fun _ => ?_, fun _ => ?_⟩ <;> try omega) | (refine ⟨by first | omega | rfl | assumption | (simp only [dst_1, dst_2, up3_ap, upd1_ap, Nat.reduceEqDiff, ↓reduceIte, eq_self] at * <;> omega) | fail, ?_⟩) | (exact hQ _ _ ((g1.wt X3 (by decide) (by omega)).q)) | (simp only [dst_1, dst_2, up3_ap, upd1_ap, Nat.reduceEqDiff, ↓reduceIte, eq_self] at *) | omega | fail
      refine RDr [] [2090124] 20 ?_
      repeat' first | (refine hub_i (by dsimp only [kdD]; omega) (E_takes (w := wPays) rfl hS (by decide) (by omega) (fun _ m1 c1 s1 => ?_) (fun e1 => absurd h3 (by rw [e1]; decide)))) | ((refine hub_i (by dsimp only [kdD]; have := s1.1.1; omega) ((dgS_all (ai := 0) (by decide) f).2.2.2.1 _ _ B _ _ _ _ _ _ hp s1 (by omega) (by rw [c1.1]; omega) (by omega) (fun y m2 x2 s2 t2 b2 => ?_)); obtain ⟨g1, g2⟩ := aft y m1 m2 c1 x2 s2 t2 b2)) | (refine ⟨fun _ => ?_, fun _ => ?_⟩ <;> try omega) | (refine ⟨by first | omega | rfl | assumption | (simp only [dst_1, dst_2, up3_ap, upd1_ap, Nat.reduceEqDiff, ↓reduceIte, eq_self] at * <;> omega) | fail, ?_⟩) | (exact g2) | (simp only [dst_1, dst_2, up3_ap, upd1_ap, Nat.reduceEqDiff, ↓reduceIte, eq_self] at *) | omega | fail
  · rw [if_neg h3] at h
    cases h
    refine RDr [] [] 20 ?_
    repeat' first | (refine hub_i (by dsimp only [kdD]; omega) (E_takes (w := wPays) rfl hS (by decide) (by omega) (fun e1 => absurd e1 h3) (fun _ w m1 g1 => ?_))) | (refine ⟨fun _ => ?_, fun _ => ?_⟩ <;> try omega) | (refine ⟨by first | omega | rfl | assumption | (simp only [dst_1, dst_2, up3_ap, upd1_ap, Nat.reduceEqDiff, ↓reduceIte, eq_self] at * <;> omega) | fail, ?_⟩) | (exact hQ _ _ ((g1.wt hX (by decide) (by omega)).q)) | (simp only [dst_1, dst_2, up3_ap, upd1_ap, Nat.reduceEqDiff, ↓reduceIte, eq_self] at *) | omega | fail
theorem D_aim {f : Nat} {q B dd : Int} {nn : List (Int × Int)} {x2 x3 x4 : Option mV} {x : (Int × Int) ⊕ (Cl × Int)} (h : endC t n f (nx t n q) nn = some x) (hS : DS t n 10 q 0 0 r m) (hqn : q < n) (hA : AN t n m dd nn) (hl : nn.length ≤ 6) (hok : ∀ i : Nat, i < nn.length → 0 ≤ (nn.getD i (0, 0)).1 ∧ (nn.getD i (0, 0)).1 + (nn.getD i (0, 0)).2 ≤ n) (hB1 : 1200 ≤ B) (hB : B + 900 * (n - q) ≤ m.2.2.2)
    (hQ : dPostA t n r m B x Q) : RD (d + 62) 209 (0, [some (mR r), some (mR dd), x2, x3, x4], [], m) Q := by
  have kr := hS.1.1
  have hq := hS.2.2.2.1
  have hrb := hS.rb
  have hnx := nx_b (t := t) hq.2
  have hnx2 := nx_b (t := t) hnx.2.1
  have htk := tke_b (t := t) hnx.2.1
  unfold endC at h
  generalize hq1 : nx t n q = q1 at *
  -- a word
  have wd : ∀ m1, DS t n 10 q1 0 0 r m1 → ((m1.1 407 r 0 ≠ 0 ∧ m1.1 403 r 0 ≤ 8) ↔ ¬ (¬ srt t n q1 = 3 ∨ 8 < tke t n q1 - q1)) := by
    intro m1 s1
    have e3 := s1.2.1.2.1
    have e7 := s1.2.1.2.2.2.1
    have sm : srt t n q1 = 3 ↔ sml t n q1 = true := by
      constructor
      · intro h
        unfold srt at h
        by_cases c : n ≤ q1
        · rw [if_pos c] at h; omega
        · rw [if_neg c] at h
          by_cases c2 : sml t n q1 = true
          · exact c2
          · rw [if_neg c2] at h
            split at h
            · split at h <;> omega
            · omega
      · intro h
        unfold srt
        rw [if_neg (by have := (sml_lt h).1; omega), if_pos h]
    rw [sm, e3, e7]
    by_cases c : sml t n q1 = true
    · rw [if_pos c]
      simp [c]
    · rw [if_neg c]
      simp [c]
  by_cases h1 : ¬ srt t n q1 = 3 ∨ 8 < tke t n q1 - q1
  · rw [if_pos h1] at h
    cases h
    refine RDr [] [] 30 ?_
    repeat' first | ((refine hub_i (by dsimp only [kdD]; omega) (E_cut hS (fun m1 c1 s1 => ?_)); rw [hq1] at s1; have w1 := fun z => (wd m1 s1).mp z h1; have kr1 := s1.1.1)) | (refine hub_i (by dsimp only [kdD]; omega) (D_need s1 (by rw [c1.1]; omega) (fun e => absurd rfl e) (fun _ m2 w g1 => ?_))) | (refine ⟨fun _ => ?_, fun _ => ?_⟩ <;> try omega) | (refine ⟨by first | omega | rfl | assumption | (simp only [dst_1, dst_2, up3_ap, upd1_ap, Nat.reduceEqDiff, ↓reduceIte, eq_self] at * <;> omega) | fail, ?_⟩) | (exact hQ _ _ ((g1.wt (RC.x c1) (by decide) (by rw [c1.1]; omega)).q)) | (exact absurd (And.intro (by assumption) (by omega)) w1) | (simp only [dst_1, dst_2, up3_ap, upd1_ap, Nat.reduceEqDiff, ↓reduceIte, eq_self] at *) | omega | fail
  · rw [if_neg h1] at h
    have hs3 : srt t n q1 = 3 := by
      by_cases h3 : srt t n q1 = 3
      · exact h3
      · exact absurd (Or.inl h3) h1
    have hs8 : tke t n q1 - q1 ≤ 8 := by
      by_cases h3 : 8 < tke t n q1 - q1
      · exact absurd (Or.inr h3) h1
      · omega
    have hlt := srt2_lt (Or.inr hs3)
    -- the name is there
    have nam : ∀ s b m2, RX r 0 m m2 → DS t n 10 q1 0 0 r m2 → (m.2.2.1 ≤ s ∧ s < m2.2.2.1) → NMs t n m2 s q1 (tke t n q1 - q1) → B + 900 * (n - q1) + 800 ≤ m2.2.2.2 → RD (d + 62) 209 (77, [some (mR r), some (mR dd), some (mR b), some (mR s), x4], [], m2) Q := by
      intro s b m2 X2 S2 hsb N2 B2
      have kr2 := S2.1.1
      have A2 := hA.x X2
      have k15 := A2.1.1
      by_cases h2 : nn.any (nmE t n q1) = true
      · rw [if_pos h2] at h
        cases h
        refine RDr [] [] 30 ?_
        repeat' first | (refine hub_i (by dsimp only [kdD]; omega) (D_has S2.1 A2 N2 (by omega) (by omega) hl hok (fun e1 => ?_) (fun e1 => absurd h2 (by rw [e1]; decide)))) | (refine hub_i (by dsimp only [kdD]; omega) (D_need S2 (by omega) (fun e => absurd rfl e) (fun _ m3 w g1 => ?_))) | (refine ⟨fun _ => ?_, fun _ => ?_⟩ <;> try omega) | (refine ⟨by first | omega | rfl | assumption | (simp only [dst_1, dst_2, up3_ap, upd1_ap, Nat.reduceEqDiff, ↓reduceIte, eq_self] at * <;> omega) | fail, ?_⟩) | (exact hQ _ _ ((g1.wt X2 (by decide) (by omega)).q)) | (simp only [dst_1, dst_2, up3_ap, upd1_ap, Nat.reduceEqDiff, ↓reduceIte, eq_self] at *) | omega | fail
      · rw [if_neg h2] at h
        have nxt : ∀ m3, RC r m2 m3 → DS t n 10 (nx t n q1) 0 0 r m3 → ∀ a, m3.2.2.1 ≤ a → (dal m3 a 16 (((5 : Nat) : Int) + 4)).2.1 a = 16 ∧ (dal m3 a 16 (((5 : Nat) : Int) + 4)).2.2.1 = a + 1 ∧ (dal m3 a 16 (((5 : Nat) : Int) + 4)).2.2.2 = m2.2.2.2 - 9 ∧ ∀ l m4, aimN a s l (dal m3 a 16 (((5 : Nat) : Int) + 4)) m4 → RD (d + 62) 209 (109, [some (mR r), some (mR dd), some (mR b), some (mR s), some (mR a)], [], m4) Q := by
          intro m3 c3 s3 a ha
          have e3 := c3.1
          have dx := dal_x (r := r) (L := 0) (k := 16) (c := ((5 : Nat) : Int) + 4) ha
          have bd : (dal m3 a 16 (((5 : Nat) : Int) + 4)).2.2.2 = m2.2.2.2 - 9 := by rw [dx.2.2.2.2, e3]; rfl
          refine ⟨dx.2.2.1, dx.2.2.2.1, bd, ?_⟩
          intro l m4 ⟨p1, p2, p3, p4, p5, p6, p7, p8, p9⟩
          have nxa := dx.2.2.2.1
          have h23 : m3.2.2.1 = m2.2.2.1 := by rw [e3]
          have X21 := X2.1
          have k16 : m4.2.1 a = 16 := by rw [p4 a (by omega)]; exact dx.2.2.1
          have X34 : RX r 0 m3 m4 := ⟨by omega, fun b hb => by rw [p4 b (by omega)]; exact dx.1.2.1 b hb, fun g b hb => Or.inl (by
            rw [p9 g b (by omega) (by omega)]
            show (if b = a then (fun _ => 0) else m3.1 g b) = _
            rw [if_neg (by omega)])⟩
          have same : ∀ g b, b < m3.2.2.1 → m4.1 g b = m3.1 g b := fun g b hb => by
            rw [p9 g b (by omega) (by omega)]
            show (if b = a then (fun _ => 0) else m3.1 g b) = _
            rw [if_neg (by omega)]
          have hr3 := s3.rb
          have S4 : DS t n 10 (nx t n q1) 0 0 r m4 := s3.y X34 (by omega) (fun g _ => same g r hr3.2)
          have cg : ∀ g b, b ≠ r → m3.1 g b = m2.1 g b := fun g b hb => by
            rcases c3.2 g b with z | z
            · exact z
            · exact absurd z.1 hb
          have N4 : NMs t n m4 s q1 (tke t n q1 - q1) := N2.cg (fun g => by rw [same g s (by omega), cg g s (by omega)]) (by rw [p4 s (by omega), dx.1.2.1 s (by omega), e3])
          exact D_a2 (q0 := q1) (L := l) (B := B) S4 (X2.tr ((RC.x c3).tr X34)) hrb.2 hrb.1 ⟨by omega, by omega, by omega, by omega⟩ hB1 (by rw [p8, bd]; omega) ⟨k16, p7, p6, p3, p5⟩ N4 h hQ
        clear hQ
        refine RDr [] [2090109] 40 ?_
        repeat' first | (refine hub_i (by dsimp only [kdD]; omega) (D_has S2.1 A2 N2 (by omega) (by omega) hl hok (fun e1 => absurd e1 h2) (fun e1 => ?_))) | (refine hub_i (by dsimp only [kdD]; omega) (D_need S2 (by omega) (fun _ => ?_) (fun e => absurd e (by decide)))) | (refine hub_i (by dsimp only [kdD]; omega) (E_cut S2 (fun m3 c3 s3 => ?_))) | ((refine ⟨by rw [c3.1]; show ((5 : Nat) : Int) + 4 ≤ _; omega, fun a ha => ?_⟩; obtain ⟨z1, z2, z3, z4⟩ := nxt m3 c3 s3 a ha)) | (refine hub_i (by dsimp only [kdD]; omega) (D_Aim z1 (by omega) (by omega) (fun l m4 hm => ?_))) | (refine ⟨fun _ => ?_, fun _ => ?_⟩ <;> try omega) | (refine ⟨by first | omega | rfl | assumption | (simp only [dst_1, dst_2, up3_ap, upd1_ap, Nat.reduceEqDiff, ↓reduceIte, eq_self] at * <;> omega) | fail, ?_⟩) | (exact z4 l m4 hm) | (simp only [dst_1, dst_2, up3_ap, upd1_ap, Nat.reduceEqDiff, ↓reduceIte, eq_self] at *) | omega | fail
    have go : ∀ m1, RC r m m1 → DS t n 10 q1 0 0 r m1 → RD (d + 62) 209 (30, [some (mR r), some (mR dd), x2, x3, x4], [], m1) Q := by
      intro m1 c1 s1
      have e1 := c1.1
      exact D_name (d := d + 59) s1 hs8 (by rw [e1]; omega) (fun s b m2 X2 S2 hsb N2 B2 => nam s b m2 ((RC.x c1).tr X2) S2 (by rw [← e1]; exact hsb) N2 (by rw [e1] at B2; omega))
    clear hQ nam h
    refine RDr [] [2090030] 30 ?_
    repeat' first | ((refine hub_i (by dsimp only [kdD]; omega) (E_cut hS (fun m1 c1 s1 => ?_)); rw [hq1] at s1; have w1 := (wd m1 s1).mpr h1; have kr1 := s1.1.1)) | (refine hub_i (by dsimp only [kdD]; omega) (D_need s1 (by rw [c1.1]; omega) (fun _ => ?_) (fun e => absurd e (by decide)))) | (refine ⟨fun _ => ?_, fun _ => ?_⟩ <;> try omega) | (refine ⟨by first | omega | rfl | assumption | (simp only [dst_1, dst_2, up3_ap, upd1_ap, Nat.reduceEqDiff, ↓reduceIte, eq_self] at * <;> omega) | fail, ?_⟩) | (exact go m1 c1 s1) | (simp only [dst_1, dst_2, up3_ap, upd1_ap, Nat.reduceEqDiff, ↓reduceIte, eq_self] at *) | omega | fail
end
