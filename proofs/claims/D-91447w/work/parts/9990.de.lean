/-! THE DESK READS deeds, one end alone -/
set_option maxHeartbeats 3200000
set_option maxRecDepth 100000
section
variable {t : Int → Int} {n : Int} {nm : Nat} {ai r L lo : Int} {d : Nat} {m m0 m1 : mD} {Q : mQ mD}
/-- a new deed at a -/
def dedN (a l : Int) (m m' : mD) : Prop := m.2.2.1 ≤ l ∧ m'.2.2.1 = l + 1 ∧ m'.2.1 l = 11500 ∧ (∀ x, x < m.2.2.1 → m'.2.1 x = m.2.1 x) ∧ m'.1 21500 l 0 = 0 ∧ m'.1 1500 a 0 = l ∧ (m'.1 1502 a 0 = 7 ∧ m'.1 1503 a 0 = 1 ∧ m'.1 1501 a 0 = m.1 1501 a 0) ∧ m'.2.2.2 = m.2.2.2 - 13 ∧ ∀ g x, x < m.2.2.1 → x ≠ a → m'.1 g x = m.1 g x
theorem D_Deed {a : Int} (ha : m.2.1 a = 15) (hab : a < m.2.2.1) (hB : 13 ≤ m.2.2.2) (hQ : ∀ l m', dedN a l m m' → Q rV m') : RD (d + 1) 297 (0, [some (mR a)], [], m) Q := by
  have fin : ∀ l, m.2.2.1 ≤ l → Q rV (dst (dst (dst (dst (dkd (dal m l 99 7) l 11500 (2 + 4)) 21500 l 0 0) 1500 a 0 l) 1502 a 0 7) 1503 a 0 1) := by
    intro l hl
    refine hQ l _ ⟨hl, rfl, ?_, fun x hx => ?_, ?_, ?_, ⟨?_, dsz_0, ?_⟩, ?_, fun g x hx hxa => ?_⟩
    · show (if l = l then 11500 else _) = _
      rw [if_pos rfl]
    · show (if x = l then 11500 else (if x = l then 99 else m.2.1 x)) = _
      rw [if_neg (by omega), if_neg (by omega)]
    · rw [ds_n (by decide), ds_n (by decide), ds_n (by decide), dsz_0]
    · rw [ds_n (by decide), ds_n (by decide), dsz_0]
    · rw [ds_n (by decide), dsz_0]
    · rw [ds_n (by decide), ds_n (by decide), ds_n (by decide), ds_n (by decide)]
      show (if a = l then (fun _ => 0) else m.1 1501 a) 0 = _
      rw [if_neg (by omega)]
    · show m.2.2.2 - 7 - (2 + 4) = _
      omega
    · rw [ds_o hxa, ds_o hxa, ds_o hxa, ds_o (by omega)]
      show (if x = l then (fun _ => 0) else m.1 g x) = _
      rw [if_neg (by omega)]
  have kk : ∀ l, m.2.2.1 ≤ l → (dal m l 99 7).2.1 l = 99 ∧ (dal m l 99 7).2.2.2 = m.2.2.2 - 7 := by
    intro l hl
    refine ⟨?_, rfl⟩
    show (if l = l then 99 else _) = _
    rw [if_pos rfl]
  have ka : ∀ l, m.2.2.1 ≤ l → (dst (dkd (dal m l 99 7) l 11500 (2 + 4)) 21500 l 0 0).2.1 a = 15 := by
    intro l hl
    show (if a = l then 11500 else (if a = l then 99 else m.2.1 a)) = 15
    rw [if_neg (by omega), if_neg (by omega)]; exact ha
  have ka2 : ∀ l, m.2.2.1 ≤ l → (dst (dst (dkd (dal m l 99 7) l 11500 (2 + 4)) 21500 l 0 0) 1500 a 0 l).2.1 a = 15 := ka
  have ka3 : ∀ l, m.2.2.1 ≤ l → (dst (dst (dst (dkd (dal m l 99 7) l 11500 (2 + 4)) 21500 l 0 0) 1500 a 0 l) 1502 a 0 7).2.1 a = 15 := ka
  have kz : m.2.1 a ≠ 0 := by omega
  clear hQ
  refine RDr [] [] 40 ?_
  repeat' first | ((refine ⟨by omega, fun l hl => ?_⟩; have k1 := kk l hl; have k2 := ka l hl; have k3 := ka2 l hl; have k4 := ka3 l hl)) | (refine ⟨fun _ => ?_, fun _ => ?_⟩ <;> try omega) | (refine ⟨by first | omega | rfl | assumption | (simp only [dst_1, dst_2, up3_ap, upd1_ap, Nat.reduceEqDiff, ↓reduceIte, eq_self] at * <;> omega) | fail, ?_⟩) | (exact fin l hl) | (simp only [dst_1, dst_2, up3_ap, upd1_ap, Nat.reduceEqDiff, ↓reduceIte, eq_self] at *) | omega | fail
/-- a new deed is empty -/
theorem ded0 {q a l : Int} (hS : DS t n 10 q 0 0 r m) (ha : m.2.2.1 ≤ a) (hm : dedN a l (dal m a 15 (((4 : Nat) : Int) + 4)) m1) : RX r 0 m m1 ∧ DS t n 10 q 0 0 r m1 ∧ DDp t n m.2.2.1 m1 a [] 0 7 1 ∧ m1.2.2.2 = m.2.2.2 - 21 := by
  obtain ⟨e1, e2, e3, e4, e5, e6, ⟨e7, e8, e8'⟩, e9, e10⟩ := hm
  have dx := dal_x (r := r) (L := 0) (k := 15) (c := ((4 : Nat) : Int) + 4) ha
  have nxa := dx.2.2.2.1
  have hr := hS.rb
  have same : ∀ g b, b < m.2.2.1 → m1.1 g b = m.1 g b := fun g b hb => by
    rw [e10 g b (by omega) (by omega)]
    show (if b = a then (fun _ => 0) else m.1 g b) = _
    rw [if_neg (by omega)]
  have X : RX r 0 m m1 := ⟨by omega, fun b hb => by rw [e4 b (by omega)]; exact dx.1.2.1 b hb, fun g b hb => Or.inl (same g b hb)⟩
  have k15 : m1.2.1 a = 15 := by rw [e4 a (by omega)]; exact dx.2.2.1
  refine ⟨X, hS.y X (by omega) (fun g _ => same g r hr.2), ⟨⟨⟨k15, by omega, by omega⟩, ⟨by rw [e6]; exact e3, by rw [e6]; omega, by rw [e6]; omega⟩, by rw [e6]; exact e5, fun i hi => absurd hi (Nat.not_lt_zero _)⟩, ⟨ha, by rw [e6]; omega⟩, ⟨by rw [e8']; exact dx.2.1 1501 0, e7, e8⟩, fun i hi => absurd hi (Nat.not_lt_zero _)⟩, ?_⟩
  rw [e9, dx.2.2.2.2]
  show m.2.2.2 - (((4 : Nat) : Int) + 4) - 13 = _
  omega
abbrev dPostE (t : Int → Int) (n r : Int) (m0 : mD) (B : Int) (x : (Int × Int) ⊕ List Cl) (Q : mQ mD) : Prop := match x with
  | .inl (k, p) => ∀ w m', WQ r m0 k p (B - 700) w m' → Q (Sum.inr w) m'
  | .inr cs => ∀ dd m', RX r 0 m0 m' → DDp t n m0.2.2.1 m' dd cs (mks cs 0) (tmo cs 7) (tye cs 1) → B - 100 ≤ m'.2.2.2 → Q (rR dd) m'
theorem D_deed {f g : Nat} {q B : Int} {x1 x2 : Option mV} {x : (Int × Int) ⊕ List Cl} (h : deedC t n f g q [] = some x) (hS : DS t n 10 q 0 0 r m) (hB1 : 1400 ≤ B) (hB : B + 900 * (n - q) ≤ m.2.2.2) (hQ : dPostE t n r m B x Q) : RD (d + 64) 208 (0, [some (mR r), x1, x2], [], m) Q := by
  have hq := hS.2.2.2.1
  have hr := hS.rb
  have go : ∀ a, m.2.2.1 ≤ a → (dal m a 15 (((4 : Nat) : Int) + 4)).2.1 a = 15 ∧ (dal m a 15 (((4 : Nat) : Int) + 4)).2.2.1 = a + 1 ∧ (dal m a 15 (((4 : Nat) : Int) + 4)).2.2.2 = m.2.2.2 - 8 ∧ ∀ l m1, dedN a l (dal m a 15 (((4 : Nat) : Int) + 4)) m1 → RD (d + 64) 208 (10, [some (mR r), some (mR a), some (mI 0)], [], m1) Q := by
    intro a ha
    have dx := dal_x (r := r) (L := 0) (k := 15) (c := ((4 : Nat) : Int) + 4) ha
    refine ⟨dx.2.2.1, dx.2.2.2.1, dx.2.2.2.2, fun l m1 hm => ?_⟩
    obtain ⟨X, S, D, b1⟩ := ded0 hS ha hm
    refine D_deedL (m0 := m) (B := B - 21) hr.2 (by omega) ?_ g q [] m1 h S X D ⟨by show ((0 : Nat) : Int) ≤ _; omega, by show 0 ≤ 12; omega, by show 0 ≤ 6; omega, fun c hc => by cases hc⟩ (by rw [b1]; omega)
    rcases x with ⟨k, p⟩ | cs
    · exact fun w m' g1 => hQ w m' (g1.le (by omega))
    · exact fun m' X' D' B' => hQ a m' X' D' (by omega)
  clear hQ
  refine RDr [] [2080010] 20 ?_
  repeat' first | ((refine ⟨by show ((4 : Nat) : Int) + 4 ≤ _; omega, fun a ha => ?_⟩; obtain ⟨z1, z2, z3, z4⟩ := go a ha)) | (refine hub_i (by dsimp only [kdD]; omega) (D_Deed z1 (by omega) (by omega) (fun l m1 hm => ?_))) | (refine ⟨fun _ => ?_, fun _ => ?_⟩ <;> try omega) | (refine ⟨by first | omega | rfl | assumption | (simp only [dst_1, dst_2, up3_ap, upd1_ap, Nat.reduceEqDiff, ↓reduceIte, eq_self] at * <;> omega) | fail, ?_⟩) | (exact z4 l m1 hm) | (simp only [dst_1, dst_2, up3_ap, upd1_ap, Nat.reduceEqDiff, ↓reduceIte, eq_self] at *) | omega | fail
abbrev dPostN (t : Int → Int) (n r : Int) (m0 : mD) (B : Int) (x : (Int × Int) ⊕ List Cl) (Q : mQ mD) : Prop := match x with
  | .inl (k, p) => ∀ w m', WQ r m0 k p (B - 700) w m' → Q (Sum.inr w) m'
  | .inr cs => ∀ a m' c, cs = [c] → RX r 0 m0 m' → AM m0.2.2.1 m'.2.2.1 m' a c → B - 100 ≤ m'.2.2.2 → Q (rR a) m'
theorem D_alone {f : Nat} {q B : Int} {x1 : Option mV} {x : (Int × Int) ⊕ List Cl} (h : neaC t n f q = some x) (hS : DS t n 10 q 0 0 r m) (hB1 : 1400 ≤ B) (hB : B + 900 * (n - q) ≤ m.2.2.2) (hQ : dPostN t n r m B x Q) : RD (d + 64) 210 (0, [some (mR r), x1], [], m) Q := by
  have hq := hS.2.2.2.1
  have hr := hS.rb
  have kr := hS.1.1
  have hnx := nx_b (t := t) hq.2
  unfold neaC at h
  by_cases he : isWb t n q wEnd = true
  · rw [if_pos he] at h
    have hlt := isWb_lt he (by decide) hq.2
    have hcl : clsC t n f q 0 [] = semC t n (endC t n f (nx t n q) []) := by
      unfold clsC
      rw [if_neg (by rw [he]; simp), if_neg (fun e => e.elim (fun e => by omega) (fun e => absurd e.2 (by decide))), if_pos he]
    rw [hcl] at h
    -- the semicolon, the end
    have sem : ∀ (c : Cl) (q1 a : Int) (m1 : mD), endC t n f (nx t n q) [] = cO c q1 → DS t n 10 q1 0 0 r m1 → RX r 0 m m1 → AM m.2.2.1 m1.2.2.1 m1 a c → B - 21 + 900 * (n - q1) + 500 ≤ m1.2.2.2 → RD (d + 64) 210 (23, [some (mR r), some (mR a)], [], m1) Q := by
      intro c q1 a m1 hc S1 X1 A1 B1
      have kr1 := S1.1.1
      have hq1 := S1.2.2.2.1
      have hs : semC t n (endC t n f (nx t n q) []) = (if isWb t n q1 [59] then cO c (nx t n q1) else cF 1 q1) := by unfold semC; rw [hc]; rfl
      rw [hs] at h
      by_cases h59 : isWb t n q1 [59] = true
      · rw [if_pos h59] at h
        have h : (if n ≤ nx t n q1 then some (Sum.inr [c]) else some (Sum.inl (1, nx t n q1))) = some x := h
        have nxt : ∀ m2, RC r m1 m2 → DS t n 10 (nx t n q1) 0 0 r m2 → RD (d + 64) 210 (29, [some (mR r), some (mR a)], [], m2) Q := by
          intro m2 c2 s2
          have e2 := c2.1
          have kr2 := s2.1.1
          have k3 := s2.2.1.2.1
          have htk := tke_b (t := t) s2.2.2.2.1.2
          have X2 := X1.tr (RC.x (L := 0) c2)
          have X11 := X1.1
          by_cases hn : n ≤ nx t n q1
          · rw [if_pos hn] at h
            cases h
            have hqe : tke t n (nx t n q1) = nx t n q1 := by omega
            have fin := hQ a m2 c rfl X2 (A1.cg (Int.le_refl _) (by rw [e2]; exact Int.le_refl _) (fun g b b0 _ => by
              rcases c2.2 g b with z | z
              · exact z
              · omega) (fun b _ _ => by rw [e2])) (by rw [e2]; omega)
            refine RDr [] [] 30 ?_
            repeat' first | (refine hub_i (by dsimp only [kdD]; omega) (D_need s2 (by rw [e2]; omega) (fun _ => ?_) (fun e => absurd e (by decide)))) | (refine ⟨fun _ => ?_, fun _ => ?_⟩ <;> try omega) | (refine ⟨by first | omega | rfl | assumption | (simp only [dst_1, dst_2, up3_ap, upd1_ap, Nat.reduceEqDiff, ↓reduceIte, eq_self] at * <;> omega) | fail, ?_⟩) | (exact fin) | (simp only [dst_1, dst_2, up3_ap, upd1_ap, Nat.reduceEqDiff, ↓reduceIte, eq_self] at *) | omega | fail
          · rw [if_neg hn] at h
            cases h
            have hlt2 := htk.2.2 (by omega)
            refine RDr [] [] 30 ?_
            repeat' first | (refine hub_i (by dsimp only [kdD]; omega) (D_need s2 (by rw [e2]; omega) (fun e => absurd rfl e) (fun _ m3 w g1 => ?_))) | (refine ⟨fun _ => ?_, fun _ => ?_⟩ <;> try omega) | (refine ⟨by first | omega | rfl | assumption | (simp only [dst_1, dst_2, up3_ap, upd1_ap, Nat.reduceEqDiff, ↓reduceIte, eq_self] at * <;> omega) | fail, ?_⟩) | (exact hQ _ _ ((g1.wt X2 (by decide) (by rw [e2]; omega)).q)) | (simp only [dst_1, dst_2, up3_ap, upd1_ap, Nat.reduceEqDiff, ↓reduceIte, eq_self] at *) | omega | fail
        clear hQ
        refine RDr [] [2100029] 20 ?_
        repeat' first | (refine hub_i (by dsimp only [kdD]; omega) (E_takes (w := [59]) rfl S1 (by decide) (by omega) (fun _ m2 c2 s2 => ?_) (fun e1 => absurd h59 (by rw [e1]; decide)))) | (refine ⟨fun _ => ?_, fun _ => ?_⟩ <;> try omega) | (refine ⟨by first | omega | rfl | assumption | (simp only [dst_1, dst_2, up3_ap, upd1_ap, Nat.reduceEqDiff, ↓reduceIte, eq_self] at * <;> omega) | fail, ?_⟩) | (exact nxt m2 c2 s2) | (simp only [dst_1, dst_2, up3_ap, upd1_ap, Nat.reduceEqDiff, ↓reduceIte, eq_self] at *) | omega | fail
      · rw [if_neg h59] at h
        have h : some (Sum.inl (1, q1)) = some x := h
        cases h
        refine RDr [] [] 20 ?_
        repeat' first | (refine hub_i (by dsimp only [kdD]; omega) (E_takes (w := [59]) rfl S1 (by decide) (by omega) (fun e1 => absurd e1 h59) (fun _ w m2 g1 => ?_))) | (refine ⟨fun _ => ?_, fun _ => ?_⟩ <;> try omega) | (refine ⟨by first | omega | rfl | assumption | (simp only [dst_1, dst_2, up3_ap, upd1_ap, Nat.reduceEqDiff, ↓reduceIte, eq_self] at * <;> omega) | fail, ?_⟩) | (exact hQ _ _ ((g1.wt X1 (by decide) (by omega)).q)) | (simp only [dst_1, dst_2, up3_ap, upd1_ap, Nat.reduceEqDiff, ↓reduceIte, eq_self] at *) | omega | fail
    obtain ⟨y, hy⟩ : ∃ y, endC t n f (nx t n q) [] = some y := by
      rcases dB_some h with ⟨e, he, hx⟩ | ⟨c', q', hc', hk'⟩
      · rcases cB_some he with ⟨e', h1, _⟩ | ⟨c, q1, h1, _⟩ <;> exact ⟨_, h1⟩
      · rcases cB_some hc' with ⟨e', h1, _⟩ | ⟨c, q1, h1, _⟩ <;> exact ⟨_, h1⟩
    have go : ∀ a, m.2.2.1 ≤ a → (dal m a 15 (((4 : Nat) : Int) + 4)).2.1 a = 15 ∧ (dal m a 15 (((4 : Nat) : Int) + 4)).2.2.1 = a + 1 ∧ (dal m a 15 (((4 : Nat) : Int) + 4)).2.2.2 = m.2.2.2 - 8 ∧ ∀ l m1, dedN a l (dal m a 15 (((4 : Nat) : Int) + 4)) m1 → m1.2.1 r = 4 ∧ RD (d + 64) 210 (19, [some (mR r), x1], [mR a, mR r], m1) Q := by
      intro a ha
      have dx := dal_x (r := r) (L := 0) (k := 15) (c := ((4 : Nat) : Int) + 4) ha
      refine ⟨dx.2.2.1, dx.2.2.2.1, dx.2.2.2.2, fun l m1 hm => ?_⟩
      obtain ⟨X, S, D, b1⟩ := ded0 hS ha hm
      have X1 := X.1
      refine ⟨S.1.1, ?_⟩
      have kr1 := S.1.1
      rcases y with ⟨kf, p⟩ | ⟨c, q1⟩
      · have hx : x = .inl (kf, p) := by
          have hs : semC t n (endC t n f (nx t n q) []) = some (.inl (kf, p)) := by unfold semC; rw [hy]; rfl
          rw [hs] at h
          cases h
          rfl
        subst hx
        clear sem
        refine RDr [] [] 20 ?_
        repeat' first | ((refine hub_i (by dsimp only [kdD]; omega) (D_aim (d := d + 1) (B := B - 21) hy S (by omega) D.1 (by show 0 ≤ 6; omega) (fun i hi => absurd hi (Nat.not_lt_zero _)) (by omega) (by rw [b1]; omega) (fun w m2 g1 => ?_)))) | (refine ⟨fun _ => ?_, fun _ => ?_⟩ <;> try omega) | (refine ⟨by first | omega | rfl | assumption | (simp only [dst_1, dst_2, up3_ap, upd1_ap, Nat.reduceEqDiff, ↓reduceIte, eq_self] at * <;> omega) | fail, ?_⟩) | (exact hQ _ _ ((g1.tr X.f).le (by omega))) | (simp only [dst_1, dst_2, up3_ap, upd1_ap, Nat.reduceEqDiff, ↓reduceIte, eq_self] at *) | omega | fail
      · clear hQ
        refine RDr [] [2100023] 20 ?_
        repeat' first | ((refine hub_i (by dsimp only [kdD]; omega) (D_aim (d := d + 1) (B := B - 21) hy S (by omega) D.1 (by show 0 ≤ 6; omega) (fun i hi => absurd hi (Nat.not_lt_zero _)) (by omega) (by rw [b1]; omega) (fun a2 m2 X2 S2 A2 N2 B2 => ?_)))) | (refine ⟨fun _ => ?_, fun _ => ?_⟩ <;> try omega) | (refine ⟨by first | omega | rfl | assumption | (simp only [dst_1, dst_2, up3_ap, upd1_ap, Nat.reduceEqDiff, ↓reduceIte, eq_self] at * <;> omega) | fail, ?_⟩) | (exact sem c q1 a2 m2 hy S2 (X.tr X2) (A2.cg X1 (Int.le_refl _) (fun _ _ _ _ => rfl) (fun _ _ _ => rfl)) B2) | (simp only [dst_1, dst_2, up3_ap, upd1_ap, Nat.reduceEqDiff, ↓reduceIte, eq_self] at *) | omega | fail
    clear hQ sem
    refine RDr [] [2100019] 30 ?_
    repeat' first | (refine hub_i (by dsimp only [kdD]; omega) (D_isC (w := wEnd) rfl hS (by decide) (fun e1 => ?_) (fun e1 => absurd he (by rw [e1]; decide)))) | (refine hub_i (by dsimp only [kdD]; omega) (D_need hS (by omega) (fun _ => ?_) (fun e => absurd e (by decide)))) | ((refine ⟨by show ((4 : Nat) : Int) + 4 ≤ _; omega, fun a ha => ?_⟩; obtain ⟨z1, z2, z3, z4⟩ := go a ha)) | (refine hub_i (by dsimp only [kdD]; omega) (D_Deed z1 (by omega) (by omega) (fun l m1 hm => ?_))) | (refine ⟨fun _ => ?_, fun _ => ?_⟩ <;> try omega) | (refine ⟨by first | omega | rfl | assumption | (simp only [dst_1, dst_2, up3_ap, upd1_ap, Nat.reduceEqDiff, ↓reduceIte, eq_self] at * <;> omega) | fail, ?_⟩) | (exact (z4 l m1 hm).2) | (simp only [dst_1, dst_2, up3_ap, upd1_ap, Nat.reduceEqDiff, ↓reduceIte, eq_self] at *) | omega | fail
  · rw [if_neg he] at h
    cases h
    refine RDr [] [] 30 ?_
    repeat' first | (refine hub_i (by dsimp only [kdD]; omega) (D_isC (w := wEnd) rfl hS (by decide) (fun e1 => absurd e1 he) (fun e1 => ?_))) | (refine hub_i (by dsimp only [kdD]; omega) (D_need hS (by omega) (fun e => absurd rfl e) (fun _ m2 w g1 => ?_))) | (refine ⟨fun _ => ?_, fun _ => ?_⟩ <;> try omega) | (refine ⟨by first | omega | rfl | assumption | (simp only [dst_1, dst_2, up3_ap, upd1_ap, Nat.reduceEqDiff, ↓reduceIte, eq_self] at * <;> omega) | fail, ?_⟩) | (exact hQ _ _ ((g1.wt RX.rfl (by decide) (by omega)).q)) | (simp only [dst_1, dst_2, up3_ap, upd1_ap, Nat.reduceEqDiff, ↓reduceIte, eq_self] at *) | omega | fail
end
