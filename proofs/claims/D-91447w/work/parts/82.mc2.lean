/-! THE MODEL READS clauses: an end -/
set_option maxHeartbeats 1600000
set_option maxRecDepth 100000
/-- a fault, seen from the text's beginning -/
def FY (m0 : sg) (k p : Int) (m : sg) : Prop := frY m0 m ∧ (m 19 0 = k ∧ (1 ≤ k ∧ k ≤ 4) ∧ m 20 0 = p)
theorem FY.x {m0 m : sg} {k p : Int} (h : FY m0 k p m) : m 19 0 ≠ 0 := by have := h.2; omega
theorem FY.row {m0 m : sg} {k p : Int} (h : FY m0 k p m) {j : Nat} (hj : 7 ≤ j ∧ j ≤ 12) {i v : Int} (hi : 880 ≤ i) : FY m0 k p (upm m j i v) := ⟨h.1.row hj hi, by rw [upm_n (by omega)]; exact h.2.1, h.2.2.1, by rw [upm_n (by omega)]; exact h.2.2.2⟩
theorem FT.y {m0 m1 m : sg} {k p o : Int} (h : FT m1 k p o m) (hY : frY m0 m1) : FY m0 k p m := ⟨hY.x h.1, h.2.1⟩
/-- the row that is made -/
def RoW (m : sg) (r kd on be : Int) : Prop := m 7 r = kd ∧ m 8 r = on ∧ m 10 r = be
theorem RoW.x {m m' : sg} {r kd on be : Int} (h : RoW m r kd on be) (hx : frX m m') : RoW m' r kd on be := ⟨by rw [hx.1 7 (by decide)]; exact h.1, by rw [hx.1 8 (by decide)]; exact h.2.1, by rw [hx.1 10 (by decide)]; exact h.2.2⟩
section
variable {d : Nat} {m m0 m' : sg} {Q : mQ sg} {t : Int → Int} {n : Int} {nm : Nat} {q q' : Int} {pre pre' : List Int} {k : Int} {cs : List Cl} {nn : List (Int × Int)}
theorem C_begin {what : Int} {x2 : Option mV} (hD : MD t n nm q pre k cs nn m) (hY : frY m0 m) (hk : k = cs.length ∧ k ≤ 19) (hl : (pre.length : Int) ≤ 420) (hQ : ∀ m', frY m0 m' → MD t n nm (nx t n q) pre (k + 1) cs nn m' → m' 7 (880 + k) = what → m' 10 (880 + k) = pre.length → Q (rI (880 + k)) m') : RM (d + 2) 99 (0, [some (mR 1026), some (mI what), x2], [], m) Q := by
  have h6 := hD.2.1
  have h5 := hD.1.2.2.1.1
  rw [← h6] at hQ hk
  have hD1 : MD t n nm q pre (m 6 44 + 1) cs nn (upm m 6 44 (m 6 44 + 1)) := ⟨hD.1.u (by decide), by rw [upm_s, upd1_s], rowsR_cg cs _ _ (fun j h1 h2 i _ _ => by rw [upm_n (by omega)]) hD.2.2.1, hD.2.2.2⟩
  have hD2 := (hD1.row (j := 7) (by omega) (i := 880 + m 6 44) (v := what) (by omega)).row (j := 10) (by omega) (i := 880 + m 6 44) (v := m 5 44) (by omega)
  have hY2 := ((hY.mn (j := 6) (by omega) (v := m 6 44 + 1)).row (j := 7) (by omega) (i := 880 + m 6 44) (v := what) (by omega)).row (j := 10) (by omega) (i := 880 + m 6 44) (v := m 5 44) (by omega)
  have fin : ∀ m', frX (upm (upm (upm m 6 44 (m 6 44 + 1)) 7 (880 + m 6 44) what) 10 (880 + m 6 44) (m 5 44)) m' → MP t n nm (nx t n q) 0 pre m' → Q (rI (880 + m 6 44)) m' := fun m' hx hP => hQ m' (hY2.x hx) (hD2.x hx hP) (by rw [hx.1 7 (by decide), upm_n (by decide), upm_s, upd1_s]) (by rw [hx.1 10 (by decide), upm_s, upd1_s]; exact h5)
  refine RMr [] [] 60 ?_
  repeat' first | (refine ⟨fun _ => ?_, fun _ => ?_⟩ <;> try omega) | (refine ⟨by first | omega | (simp only [upm_ap, upd1_ap, Nat.reduceEqDiff, ↓reduceIte, eq_self] at * <;> omega) | fail, ?_⟩) | (refine P_next hD2.1 frX.rfl (fun m' hx hP => ?_)) | (exact fin _ hx hP) | (simp only [upm_ap, upd1_ap, Nat.reduceEqDiff, ↓reduceIte, eq_self] at *) | omega | fail
/-- the end's tail: part or not -/
theorem C_e4 {r on be mi : Int} (hD : MD t n nm q pre k cs nn m) (hY : frY m0 m) (hr : 880 + (cs.length : Int) ≤ r ∧ r < 900) (hR : RoW m r 8 on be ∧ m 11 r = mi)
    (hQ : ∀ m', frY m0 m' → MD t n nm (if isWb t n q wPart then nx t n q else q) pre k cs nn m' → RoW m' r 8 on be → m' 11 r = mi → m' 9 r = (if isWb t n q wPart then 1 else 0) → Q rV m') : RM (d + 2) 120 (145, [some (mR 1026), some (mI r)], [], m) Q := by
  have hD1 := hD.row (j := 9) (by omega) (i := r) (v := 0) (by omega)
  have hw1 := hD1.1.wl
  by_cases h1 : isWb t n q wPart = true
  · rw [if_pos h1, if_pos h1] at hQ
    have hD2 := hD1.row (j := 9) (by omega) (i := r) (v := 1) (by omega)
    have hY2 := (hY.row (j := 9) (by omega) (i := r) (v := 0) (by omega)).row (j := 9) (by omega) (i := r) (v := 1) (by omega)
    have fin : ∀ m', frX (upm (upm m 9 r 0) 9 r 1) m' → MP t n nm (nx t n q) 0 pre m' → Q rV m' := fun m' hx hP => hQ m' (hY2.x hx) (hD2.x hx hP) (RoW.x ⟨by rw [upm_n (by decide), upm_n (by decide)]; exact hR.1.1, by rw [upm_n (by decide), upm_n (by decide)]; exact hR.1.2.1, by rw [upm_n (by decide), upm_n (by decide)]; exact hR.1.2.2⟩ hx) (by rw [hx.1 11 (by decide), upm_n (by decide), upm_n (by decide)]; exact hR.2) (by rw [hx.1 9 (by decide), upm_s, upd1_s])
    refine RMr [] [] 60 ?_
    repeat' first | (refine ⟨fun _ => ?_, fun _ => ?_⟩ <;> try omega) | (refine ⟨by first | omega | (simp only [upm_ap, upd1_ap, Nat.reduceEqDiff, ↓reduceIte, eq_self] at * <;> omega) | fail, ?_⟩) | (refine M_isWell (fun _ => ?_) (fun e => absurd hw1 e)) | (refine P_isw (w := wPart) rfl hD1.1 (by decide) (fun e1 => ?_) (fun e1 => absurd h1 (by rw [e1]; decide))) | (refine P_next hD2.1 frX.rfl (fun m' hx hP => ?_)) | (exact fin _ hx hP) | (simp only [upm_ap, upd1_ap, Nat.reduceEqDiff, ↓reduceIte, eq_self] at *) | omega | fail
  · rw [if_neg h1, if_neg h1] at hQ
    have fin : Q rV (upm m 9 r 0) := hQ _ (hY.row (by omega) (by omega)) hD1 ⟨by rw [upm_n (by decide)]; exact hR.1.1, by rw [upm_n (by decide)]; exact hR.1.2.1, by rw [upm_n (by decide)]; exact hR.1.2.2⟩ (by rw [upm_n (by decide)]; exact hR.2) (by rw [upm_s, upd1_s])
    refine RMr [] [] 60 ?_
    repeat' first | (refine ⟨fun _ => ?_, fun _ => ?_⟩ <;> try omega) | (refine ⟨by first | omega | (simp only [upm_ap, upd1_ap, Nat.reduceEqDiff, ↓reduceIte, eq_self] at * <;> omega) | fail, ?_⟩) | (refine M_isWell (fun _ => ?_) (fun e => absurd hw1 e)) | (refine P_isw (w := wPart) rfl hD1.1 (by decide) (fun e1 => absurd e1 h1) (fun e1 => ?_)) | (exact fin) | (simp only [upm_ap, upd1_ap, Nat.reduceEqDiff, ↓reduceIte, eq_self] at *) | omega | fail
theorem Y_e4 {r kf pf : Int} (hX : FY m0 kf pf m) (hr : 880 ≤ r ∧ r < 900) (hQ : ∀ m', FY m0 kf pf m' → Q rV m') : RM (d + 2) 120 (145, [some (mR 1026), some (mI r)], [], m) Q := by
  have hX1 := hX.row (j := 9) (by omega) (i := r) (v := 0) (by omega)
  refine RMr [] [] 60 ?_
  repeat' first | (refine ⟨fun _ => ?_, fun _ => ?_⟩ <;> try omega) | (refine ⟨by first | omega | (simp only [upm_ap, upd1_ap, Nat.reduceEqDiff, ↓reduceIte, eq_self] at * <;> omega) | fail, ?_⟩) | (refine M_isWell (fun e => absurd e hX1.x) (fun _ => ?_)) | (exact hQ _ hX1) | (simp only [upm_ap, upd1_ap, Nat.reduceEqDiff, ↓reduceIte, eq_self] at *) | omega | fail
theorem Y_e3 {r kf pf : Int} (hX : FY m0 kf pf m) (hr : 880 ≤ r ∧ r < 900) (hQ : ∀ m', FY m0 kf pf m' → Q rV m') : RM (d + 4) 120 (121, [some (mR 1026), some (mI r)], [], m) Q := by
  have hX1 := hX.row (j := 11) (by omega) (i := r) (v := m 5 44) (by omega)
  refine RMr [] [1200145] 60 ?_
  repeat' first | (refine ⟨fun _ => ?_, fun _ => ?_⟩ <;> try omega) | (refine ⟨by first | omega | (simp only [upm_ap, upd1_ap, Nat.reduceEqDiff, ↓reduceIte, eq_self] at * <;> omega) | fail, ?_⟩) | (refine X_wwd hX1.x ?_) | (refine X_cond hX1.x ?_) | (exact Y_e4 hX1 hr hQ) | (simp only [upm_ap, upd1_ap, Nat.reduceEqDiff, ↓reduceIte, eq_self] at *) | omega | fail
/-- what an end leaves -/
abbrev ePost (t : Int → Int) (n q : Int) (pre : List Int) (k : Int) (cs : List Cl) (nn : List (Int × Int)) (m0 : sg) (r be : Int) (x : (Int × Int) ⊕ (Cl × Int)) (Q : mQ sg) : Prop := match x with
  | .inl (kf, pf) => ∀ m', FY m0 kf pf m' → Q rV m'
  | .inr (c, q') => ∀ m', frY m0 m' → MD t n 10 q' (pre ++ (c.2.2.2.1 ++ c.2.2.2.2.1)) k cs (nn ++ [(c.2.2.2.2.2.2, c.2.1)]) m' → RoW m' r 8 c.2.1 be → m' 11 r = pre.length + c.2.2.2.1.length → m' 9 r = c.2.2.1 → Q rV m'
theorem C_end {f : Nat} {r : Int} {x : (Int × Int) ⊕ (Cl × Int)} (h : endC t n f q nn = some x) (hD : MD t n 10 q pre k cs nn m) (hY : frY m0 m) (hl : (pre.length : Int) ≤ q) (hr : 880 + (cs.length : Int) ≤ r ∧ r < 900) (hnl : nn.length ≤ 5) (hok : ∀ i : Nat, i < nn.length → 0 ≤ (nn.getD i (0, 0)).1 ∧ (nn.getD i (0, 0)).1 + (nn.getD i (0, 0)).2 ≤ n)
    (hR : m 7 r = 8 ∧ m 10 r = pre.length) (hQ : ePost t n q pre k cs nn m0 r pre.length x Q) : RM (d + 54) 120 (0, [some (mR 1026), some (mI r)], [], m) Q := by
  have hqn := hD.1.qn
  have h19 := hD.1.wl
  have h17 := hD.1.so
  have h15 := hD.1.1.2.2.2.1
  have h16 := hD.1.1.2.2.1
  have h24 := hD.2.2.2.1
  have htk := tke_b (t := t) hqn.2.1
  have hnx := nx_b (t := t) hqn.2.1
  have hnx2 := nx_b (t := t) hnx.2.1
  unfold endC at h
  by_cases h1 : ¬ srt t n q = 3 ∨ 8 < tke t n q - q
  · rw [if_pos h1] at h
    cases h
    refine RMr [] [] 60 ?_
    repeat' first | (refine ⟨fun _ => ?_, fun _ => ?_⟩ <;> try omega) | (refine ⟨by first | omega | (simp only [upm_ap, upd1_ap, Nat.reduceEqDiff, ↓reduceIte, eq_self] at * <;> omega) | fail, ?_⟩) | (refine M_isWell (fun e => absurd e g1.x) (fun _ => ?_)) | (refine P_fail hD.1 (frX.rfl (m := m)) (by decide) (fun m1 g1 g2 => ?_)) | (exact hQ _ (g1.y hY)) | (simp only [upm_ap, upd1_ap, Nat.reduceEqDiff, ↓reduceIte, eq_self] at *) | omega | fail
  · rw [if_neg h1] at h
    have hs3 : srt t n q = 3 := by
      by_cases h3 : srt t n q = 3
      · exact h3
      · exact absurd (Or.inl h3) h1
    have hs8 : tke t n q - q ≤ 8 := by
      by_cases h3 : 8 < tke t n q - q
      · exact absurd (Or.inr h3) h1
      · omega
    have hlt := srt2_lt (Or.inr hs3)
    by_cases h2 : nn.any (nmE t n q) = true
    · rw [if_pos h2] at h
      cases h
      refine RMr [] [] 60 ?_
      repeat' first | (refine ⟨fun _ => ?_, fun _ => ?_⟩ <;> try omega) | (refine ⟨by first | omega | (simp only [upm_ap, upd1_ap, Nat.reduceEqDiff, ↓reduceIte, eq_self] at * <;> omega) | fail, ?_⟩) | (refine M_isWell (fun e => absurd e g1.x) (fun _ => ?_)) | (refine C_isThere hD (by omega) hok (fun e1 => ?_) (fun e1 => absurd h2 (by rw [e1]; decide))) | (refine P_fail hD.1 (frX.rfl (m := m)) (by decide) (fun m1 g1 g2 => ?_)) | (exact hQ _ (g1.y hY)) | (simp only [upm_ap, upd1_ap, Nat.reduceEqDiff, ↓reduceIte, eq_self] at *) | omega | fail
    · rw [if_neg h2] at h
      -- the name is put down
      have ent : ∀ m1, frY m0 m1 → MD t n 10 q pre k cs (nn ++ [(q, tke t n q - q)]) m1 → RoW m1 r 8 (tke t n q - q) pre.length → RM (d + 54) 120 (106, [some (mR 1026), some (mI r)], [], m1) Q := by
        intro m1 hY1 hD1 hR1
        by_cases h3 : isWb t n (nx t n q) wPays = true
        · rw [if_pos h3] at h
          have hl3 := isWb_lt h3 (by decide) hnx.2.1
          rcases pC_some h with ⟨⟨kf, pf⟩, hp, rfl⟩ | ⟨c1, l1, q3, hp, hk⟩
          · refine RMr [] [1200121] 60 ?_
            repeat' first | (refine ⟨fun _ => ?_, fun _ => ?_⟩ <;> try omega) | (refine ⟨by first | omega | (simp only [upm_ap, upd1_ap, Nat.reduceEqDiff, ↓reduceIte, eq_self] at * <;> omega) | fail, ?_⟩) | (refine P_next hD1.1 (frX.rfl (m := m1)) (fun m2 hx2 hP2 => ?_)) | (refine P_wwd (w := wPays) rfl hP2 hx2 (by decide) (fun _ m3 hx3 hP3 => ?_) (fun e1 => absurd h3 (by rw [e1]; decide))) | (refine (gm_all f).1.2.2.2.1 _ _ _ _ m1 _ _ _ _ hp hP3 (by omega) hx3 (by omega) (fun m4 g1 => ?_)) | (exact Y_e3 (g1.y hY1) (by omega) hQ) | (simp only [upm_ap, upd1_ap, Nat.reduceEqDiff, ↓reduceIte, eq_self] at *) | omega | fail
          · have f1 := prs_far _ _ _ _ _ _ hnx2.2.1 _ _ _ hp
            simp at f1
            have hnx3 := nx_b (t := t) (n := n) (q := q3) (by omega)
            -- the sum is read
            have mid : ∀ m4, frX m1 m4 → MP t n 10 q3 0 (pre ++ c1) m4 → RM (d + 54) 120 (121, [some (mR 1026), some (mI r)], [], m4) Q := by
              intro m4 hx4 hP4
              have hD4 := hD1.x hx4 hP4
              have h5 : m4 5 44 = pre.length + c1.length := by rw [hP4.2.2.1.1, List.length_append]; omega
              have hD5 := hD4.row (j := 11) (by omega) (i := r) (v := m4 5 44) (by omega)
              have hY5 := (hY1.x hx4).row (j := 11) (by omega) (i := r) (v := m4 5 44) (by omega)
              have hR5 : RoW (upm m4 11 r (m4 5 44)) r 8 (tke t n q - q) pre.length := by
                have := hR1.x hx4
                exact ⟨by rw [upm_n (by decide)]; exact this.1, by rw [upm_n (by decide)]; exact this.2.1, by rw [upm_n (by decide)]; exact this.2.2⟩
              have e11 : (upm m4 11 r (m4 5 44)) 11 r = pre.length + c1.length := by rw [upm_s, upd1_s]; exact h5
              have nxt : RM (d + 54) 120 (134, [some (mR 1026), some (mI r)], [], upm m4 11 r (m4 5 44)) Q := by
                generalize upm m4 11 r (m4 5 44) = m5 at hD5 hY5 hR5 e11
                clear hD4 hP4 hx4 h5
                by_cases h4 : isWb t n q3 wIf = true
                · rw [if_pos h4] at hk
                  have hl4 := isWb_lt h4 (by decide) f1.2.1
                  rcases pC_some hk with ⟨⟨kf, pf⟩, hp2, rfl⟩ | ⟨c2, l2, q4, hp2, hk2⟩
                  · refine RMr [] [1200145] 60 ?_
                    repeat' first | (refine ⟨fun _ => ?_, fun _ => ?_⟩ <;> try omega) | (refine ⟨by first | omega | (simp only [upm_ap, upd1_ap, Nat.reduceEqDiff, ↓reduceIte, eq_self] at * <;> omega) | fail, ?_⟩) | (refine P_wwd (w := wIf) rfl hD5.1 (frX.rfl (m := m5)) (by decide) (fun _ m6 hx6 hP6 => ?_) (fun e1 => absurd h4 (by rw [e1]; decide))) | (refine (gm_all f).2.2.2.2.1 _ _ _ _ m5 _ _ _ hp2 hP6 (by rw [ln_app]; omega) hx6 (by omega) (fun m7 g1 => ?_)) | (exact Y_e4 (g1.y hY5) (by omega) hQ) | (simp only [upm_ap, upd1_ap, Nat.reduceEqDiff, ↓reduceIte, eq_self] at *) | omega | fail
                  · have f2 := prs_far _ _ _ _ _ _ hnx3.2.1 _ _ _ hp2
                    simp at f2
                    refine RMr [] [1200145] 60 ?_
                    repeat' first | (refine ⟨fun _ => ?_, fun _ => ?_⟩ <;> try omega) | (refine ⟨by first | omega | (simp only [upm_ap, upd1_ap, Nat.reduceEqDiff, ↓reduceIte, eq_self] at * <;> omega) | fail, ?_⟩) | (refine P_wwd (w := wIf) rfl hD5.1 (frX.rfl (m := m5)) (by decide) (fun _ m6 hx6 hP6 => ?_) (fun e1 => absurd h4 (by rw [e1]; decide))) | (refine (gm_all f).2.2.2.2.1 _ _ _ _ m5 _ _ _ hp2 hP6 (by rw [ln_app]; omega) hx6 (by omega) (fun m7 hx7 hP7 => ?_)) | (simp only [upm_ap, upd1_ap, Nat.reduceEqDiff, ↓reduceIte, eq_self] at *) | omega | fail
                    rw [List.append_assoc] at hP7
                    have e11' : m7 11 r = pre.length + c1.length := by rw [hx7.1 11 (by decide)]; exact e11
                    refine C_e4 (hD5.x hx7 hP7) (hY5.x hx7) hr ⟨hR5.x hx7, e11'⟩ ?_
                    by_cases h5 : isWb t n q4 wPart = true
                    · rw [if_pos h5] at hk2
                      cases hk2
                      rw [if_pos h5, if_pos h5]
                      exact hQ
                    · rw [if_neg h5] at hk2
                      cases hk2
                      rw [if_neg h5, if_neg h5]
                      exact hQ
                · rw [if_neg h4] at hk
                  cases hk
                  refine RMr [] [1200145] 60 ?_
                  repeat' first | (refine ⟨fun _ => ?_, fun _ => ?_⟩ <;> try omega) | (refine ⟨by first | omega | (simp only [upm_ap, upd1_ap, Nat.reduceEqDiff, ↓reduceIte, eq_self] at * <;> omega) | fail, ?_⟩) | (refine P_wwd (w := wIf) rfl hD5.1 (frX.rfl (m := m5)) (by decide) (fun e1 => absurd e1 h4) (fun _ m6 g1 g2 => ?_)) | (refine X_cond g1.x ?_) | (exact Y_e4 (g1.y hY5) (by omega) hQ) | (simp only [upm_ap, upd1_ap, Nat.reduceEqDiff, ↓reduceIte, eq_self] at *) | omega | fail
              clear hD5 hY5 hR5 e11 hD4
              have hr' : 880 ≤ r ∧ r < 900 := by omega
              refine RMr [] [1200134] 60 ?_
              repeat' first | (refine ⟨fun _ => ?_, fun _ => ?_⟩ <;> try omega) | (refine ⟨by first | omega | (simp only [upm_ap, upd1_ap, Nat.reduceEqDiff, ↓reduceIte, eq_self] at * <;> omega) | fail, ?_⟩) | (exact nxt) | (simp only [upm_ap, upd1_ap, Nat.reduceEqDiff, ↓reduceIte, eq_self] at *) | omega | fail
            refine RMr [] [1200121] 60 ?_
            repeat' first | (refine ⟨fun _ => ?_, fun _ => ?_⟩ <;> try omega) | (refine ⟨by first | omega | (simp only [upm_ap, upd1_ap, Nat.reduceEqDiff, ↓reduceIte, eq_self] at * <;> omega) | fail, ?_⟩) | (refine P_next hD1.1 (frX.rfl (m := m1)) (fun m2 hx2 hP2 => ?_)) | (refine P_wwd (w := wPays) rfl hP2 hx2 (by decide) (fun _ m3 hx3 hP3 => ?_) (fun e1 => absurd h3 (by rw [e1]; decide))) | (refine (gm_all f).1.2.2.2.1 _ _ _ _ m1 _ _ _ _ hp hP3 (by omega) hx3 (by omega) (fun m4 hx4 hP4 => ?_)) | (exact mid _ hx4 hP4) | (simp only [upm_ap, upd1_ap, Nat.reduceEqDiff, ↓reduceIte, eq_self] at *) | omega | fail
        · rw [if_neg h3] at h
          cases h
          refine RMr [] [1200121] 60 ?_
          repeat' first | (refine ⟨fun _ => ?_, fun _ => ?_⟩ <;> try omega) | (refine ⟨by first | omega | (simp only [upm_ap, upd1_ap, Nat.reduceEqDiff, ↓reduceIte, eq_self] at * <;> omega) | fail, ?_⟩) | (refine P_next hD1.1 (frX.rfl (m := m1)) (fun m2 hx2 hP2 => ?_)) | (refine P_wwd (w := wPays) rfl hP2 hx2 (by decide) (fun e1 => absurd e1 h3) (fun _ m3 g1 g2 => ?_)) | (refine X_sum g1.x ?_) | (exact Y_e3 (g1.y hY1) (by omega) hQ) | (simp only [upm_ap, upd1_ap, Nat.reduceEqDiff, ↓reduceIte, eq_self] at *) | omega | fail
      have go : RM (d + 54) 120 (106, [some (mR 1026), some (mI r)], [], upm (upm (upm (upm m 25 (m 24 0) (m 16 0)) 26 (m 24 0) (m 15 0 - m 16 0)) 8 r (m 15 0 - m 16 0)) 24 0 (m 24 0 + 1)) Q := by
        refine ent _ ((((hY.up (by decide)).up (by decide)).row (by omega) (by omega)).up (by decide)) ⟨((hD.1.u (by decide)).u (by decide)).u (by decide) |>.u (by decide), by rw [upm_n (by decide), upm_n (by decide), upm_n (by decide), upm_n (by decide)]; exact hD.2.1, rowsR_cg cs _ _ (fun j j1 j2 i i0 i1 => ?_) hD.2.2.1, ?_, fun i hi => ?_⟩ ⟨by rw [upm_n (by decide), upm_n (by decide), upm_n (by decide), upm_n (by decide)]; exact hR.1, by rw [upm_n (by decide), upm_s, upd1_s, h15, h16], by rw [upm_n (by decide), upm_n (by decide), upm_n (by decide), upm_n (by decide)]; exact hR.2⟩
        · rw [upm_n (by omega)]
          by_cases e : j = 8
          · subst e
            rw [upm_s, upd1_n (by omega), upm_n (by decide), upm_n (by decide)]
          · rw [upm_n e, upm_n (by omega), upm_n (by omega)]
        · rw [upm_s, upd1_s, h24, List.length_append]
          rfl
        · rw [List.length_append] at hi
          have hi : i < nn.length + 1 := hi
          rw [upm_n (by decide), upm_n (by decide), upm_n (by decide), upm_s, upm_n (by decide), upm_n (by decide), upm_s, h24, h15, h16]
          by_cases e : i = nn.length
          · rw [e, upd1_s, upd1_s, List.getD_eq_getElem?_getD, List.getElem?_append_right (Nat.le_refl _), Nat.sub_self]
            exact ⟨rfl, rfl⟩
          · rw [upd1_n (by omega), upd1_n (by omega), List.getD_eq_getElem?_getD, List.getElem?_append_left (by omega), ← List.getD_eq_getElem?_getD]
            have := hD.2.2.2.2 i (by omega)
            rw [upm_n (by decide)]
            exact this
      clear ent
      refine RMr [] [1200106] 60 ?_
      repeat' first | (refine ⟨fun _ => ?_, fun _ => ?_⟩ <;> try omega) | (refine ⟨by first | omega | (simp only [upm_ap, upd1_ap, Nat.reduceEqDiff, ↓reduceIte, eq_self] at * <;> omega) | fail, ?_⟩) | (refine M_isWell (fun _ => ?_) (fun e => absurd h19 e)) | (refine C_isThere hD (by omega) hok (fun e1 => absurd e1 h2) (fun e1 => ?_)) | (exact go) | (simp only [upm_ap, upd1_ap, Nat.reduceEqDiff, ↓reduceIte, eq_self] at *) | omega | fail
end
