/-! THE MODEL READS clauses and rules -/
set_option maxHeartbeats 3200000
set_option maxRecDepth 100000
abbrev cPost (t : Int → Int) (n : Int) (nm : Nat) (pre : List Int) (k : Int) (cs : List Cl) (nn : List (Int × Int)) (m0 : sg) (x : (Int × Int) ⊕ (Cl × Int)) (Q : mQ sg) : Prop := match x with
  | .inl (kf, pf) => ∀ m', FY m0 kf pf m' → Q rV m'
  | .inr (c, q') => ∀ m', frY m0 m' → MD t n nm q' (pre ++ (c.2.2.2.1 ++ c.2.2.2.2.1)) (k + 1) (cs ++ [c]) (nn ++ nms [c]) m' → Q rV m'
section
variable {d : Nat} {m m0 m' : sg} {Q : mQ sg} {t : Int → Int} {n : Int} {nm : Nat} {q q' : Int} {pre pre' : List Int} {k : Int} {cs : List Cl} {nn : List (Int × Int)}
theorem Rtl (inl stops : List Nat) (j : Nat) {y : Nat} {g : mG sg} (h : wp2 oM isPM PM (fun _ _ => 0) tP tU (Rn2 oM isPM PM (fun _ _ => 0) tP tU) inl stops j d y g Q) : RM d y g Q := RMr inl stops j h
theorem C_clause {f : Nat} {x1 x2 x3 : Option mV} {x : (Int × Int) ⊕ (Cl × Int)} (h : clsC t n f q k nn = some x) (hD : MD t n 10 q pre k cs nn m) (hY : frY m0 m) (hk : k = cs.length ∧ k ≤ 12) (hpre : pre = cat cs) (hl : (pre.length : Int) ≤ q) (hnl : nn.length ≤ 6) (hok : ∀ i : Nat, i < nn.length → 0 ≤ (nn.getD i (0, 0)).1 ∧ (nn.getD i (0, 0)).1 + (nn.getD i (0, 0)).2 ≤ n)
    (hQ : cPost t n 10 pre k cs nn m0 x Q) : RM (d + 60) 119 (0, [some (mR 1026), x1, x2, x3], [], m) Q := by
  have hqn := hD.1.qn
  have h19 := hD.1.wl
  have h6 := hD.2.1
  have h24 := hD.2.2.2.1
  have hnx := nx_b (t := t) hqn.2.1
  have hbe : (pre.length : Int) = (cat cs).length := by rw [hpre]
  unfold clsC at h
  by_cases he : isWb t n q wEnd = true
  · rw [if_neg (by rw [he]; simp)] at h
    by_cases h12 : k = 12 ∨ (isWb t n q wEnd = true ∧ nn.length = 6)
    · rw [if_pos h12] at h
      cases h
      have h12' : m 6 44 = 12 ∨ m 24 0 = 6 := by
        rcases h12 with e | e
        · exact Or.inl (by omega)
        · exact Or.inr (by have := e.2; omega)
      refine RMr [] [] 90 ?_
      repeat' first | (refine ⟨fun _ => ?_, fun _ => ?_⟩ <;> try omega) | (refine ⟨by first | omega | (simp only [upm_ap, upd1_ap, Nat.reduceEqDiff, ↓reduceIte, eq_self] at * <;> omega) | fail, ?_⟩) | (refine M_isWell (fun e => absurd e g1.x) (fun _ => ?_)) | (refine P_isw (w := wEnd) rfl hD.1 (by decide) (fun e1 => ?_) (fun e1 => absurd he (by rw [e1]; decide))) | (refine P_fail hD.1 (frX.rfl (m := m)) (by decide) (fun m1 g1 g2 => ?_)) | (exact hQ _ (g1.y hY)) | (simp only [upm_ap, upd1_ap, Nat.reduceEqDiff, ↓reduceIte, eq_self] at *) | omega | fail
    · rw [if_neg h12, if_pos he] at h
      have hn12 : m 6 44 ≠ 12 := fun e => h12 (Or.inl (by omega))
      have hn6 : m 24 0 ≠ 6 := fun e => h12 (Or.inr ⟨he, by omega⟩)
      have hlt := isWb_lt he (by decide) hqn.2.1
      -- behind the beginning
      have aft : ∀ m1, frY m0 m1 → MD t n 10 (nx t n q) pre (k + 1) cs nn m1 → m1 7 (880 + k) = 8 → m1 10 (880 + k) = pre.length → ∀ x2, RM (d + 60) 119 (111, [some (mR 1026), some (mI 1), x2, some (mI (880 + k))], [], m1) Q := by
        intro m1 hY1 hD1 h7 h10 x2
        rcases cB_some h with ⟨⟨kf, pf⟩, hc, rfl⟩ | ⟨c, q1, hc, hk2⟩
        · refine RMr [] [1190165] 40 ?_
          repeat' first | (refine ⟨fun _ => ?_, fun _ => ?_⟩ <;> try omega) | (refine ⟨by first | omega | (simp only [upm_ap, upd1_ap, Nat.reduceEqDiff, ↓reduceIte, eq_self] at * <;> omega) | fail, ?_⟩) | (refine C_end (r := 880 + k) hc hD1 hY1 (by omega) (by omega) (by omega) hok ⟨h7, h10⟩ (fun m2 g1 => ?_)) | (exact Y_c5 g1 (by omega) hQ) | (simp only [upm_ap, upd1_ap, Nat.reduceEqDiff, ↓reduceIte, eq_self] at *) | omega | fail
        · have far := end_far hnx.2.1 hc
          have ec : nms [c] = [(c.2.2.2.2.2.2, c.2.1)] := by
            show (if c.1 = 8 then [(c.2.2.2.2.2.2, c.2.1)] else []) = _
            rw [if_pos far.2.2.1]
          refine RMr [] [1190165] 40 ?_
          repeat' first | (refine ⟨fun _ => ?_, fun _ => ?_⟩ <;> try omega) | (refine ⟨by first | omega | (simp only [upm_ap, upd1_ap, Nat.reduceEqDiff, ↓reduceIte, eq_self] at * <;> omega) | fail, ?_⟩) | (refine C_end (r := 880 + k) hc hD1 hY1 (by omega) (by omega) (by omega) hok ⟨h7, h10⟩ (fun m2 hY2 hD2 hR2 h11 h9 => ?_)) | (simp only [upm_ap, upd1_ap, Nat.reduceEqDiff, ↓reduceIte, eq_self] at *) | omega | fail
          refine C_c5 (c := c) (be := pre.length) hD2 hY2 (by omega) hbe ⟨by rw [far.2.2.1]; exact hR2.1, hR2.2.1, fun _ => h9, hR2.2.2, fun _ => h11⟩ (by rw [ln_app, ln_app]; omega) (fun e1 => ?_) (fun e1 => ?_)
          · rw [if_pos e1] at hk2
            cases hk2
            have hQ : ∀ m', frY m0 m' → MD t n 10 (nx t n q1) (pre ++ (c.2.2.2.1 ++ c.2.2.2.2.1)) (k + 1) (cs ++ [c]) (nn ++ nms [c]) m' → Q rV m' := hQ
            rw [ec] at hQ
            exact hQ
          · rw [if_neg (by rw [e1]; decide)] at hk2
            cases hk2
            exact hQ
      have hk' : k ≤ 11 := by
        have : k ≠ 12 := fun e => h12 (Or.inl e)
        omega
      refine RMr [] [1190111] 90 ?_
      repeat' first | (refine ⟨fun _ => ?_, fun _ => ?_⟩ <;> try omega) | (refine ⟨by first | omega | (simp only [upm_ap, upd1_ap, Nat.reduceEqDiff, ↓reduceIte, eq_self] at * <;> omega) | fail, ?_⟩) | (refine M_isWell (fun _ => ?_) (fun e => absurd h19 e)) | (refine P_isw (w := wEnd) rfl hD.1 (by decide) (fun e1 => ?_) (fun e1 => absurd he (by rw [e1]; decide))) | (refine P_isw (w := wMark) rfl hD.1 (by decide) (fun e1 => ?_) (fun e1 => ?_)) | (refine C_begin hD hY (by omega) (by omega) (fun m1 hY1 hD1 h7 h10 => ?_)) | (exact aft _ hY1 hD1 h7 h10 _) | (simp only [upm_ap, upd1_ap, Nat.reduceEqDiff, ↓reduceIte, eq_self] at *) | omega | fail
  · by_cases hm : isWb t n q wMark = true
    · rw [if_neg (by rw [hm]; simp)] at h
      by_cases h12 : k = 12
      · rw [if_pos (Or.inl h12)] at h
        cases h
        refine RMr [] [] 90 ?_
        repeat' first | (refine ⟨fun _ => ?_, fun _ => ?_⟩ <;> try omega) | (refine ⟨by first | omega | (simp only [upm_ap, upd1_ap, Nat.reduceEqDiff, ↓reduceIte, eq_self] at * <;> omega) | fail, ?_⟩) | (refine M_isWell (fun e => absurd e g1.x) (fun _ => ?_)) | (refine P_isw (w := wEnd) rfl hD.1 (by decide) (fun e1 => absurd e1 he) (fun e1 => ?_)) | (refine P_isw (w := wMark) rfl hD.1 (by decide) (fun e1 => ?_) (fun e1 => absurd hm (by rw [e1]; decide))) | (refine P_fail hD.1 (frX.rfl (m := m)) (by decide) (fun m1 g1 g2 => ?_)) | (exact hQ _ (g1.y hY)) | (simp only [upm_ap, upd1_ap, Nat.reduceEqDiff, ↓reduceIte, eq_self] at *) | omega | fail
      · rw [if_neg (fun e => e.elim h12 (fun e => he e.1)), if_neg he, if_pos hm] at h
        have hlt := isWb_lt hm (by decide) hqn.2.1
        have aft : ∀ m1, frY m0 m1 → MD t n 10 (nx t n q) pre (k + 1) cs nn m1 → m1 7 (880 + k) = 7 → m1 10 (880 + k) = pre.length → RM (d + 60) 119 (111, [some (mR 1026), some (mI 0), some (mI 1), some (mI (880 + k))], [], m1) Q := by
          intro m1 hY1 hD1 h7 h10
          rcases cB_some h with ⟨⟨kf, pf⟩, hc, rfl⟩ | ⟨c, q1, hc, hk2⟩
          · refine RMr [] [1190165] 40 ?_
            repeat' first | (refine ⟨fun _ => ?_, fun _ => ?_⟩ <;> try omega) | (refine ⟨by first | omega | (simp only [upm_ap, upd1_ap, Nat.reduceEqDiff, ↓reduceIte, eq_self] at * <;> omega) | fail, ?_⟩) | (refine C_marks (r := 880 + k) hc hD1 hY1 (by omega) h7 h10 (fun m2 g1 => ?_)) | (exact Y_c5 g1 (by omega) hQ) | (simp only [upm_ap, upd1_ap, Nat.reduceEqDiff, ↓reduceIte, eq_self] at *) | omega | fail
          · have far : c.1 = 7 ∧ c.2.2.2.1 = [] ∧ c.2.2.2.2.1 = [] := by
              rcases num_some hc with ⟨_, e⟩ | ⟨_, _, e⟩ | ⟨_, _, e⟩
              · cases e
              · cases e
              · exact (mrk_far _ _ _ (nx_b (t := t) hnx.2.1).2.1 _ _ e).2.2
            have ec : nms [c] = [] := by
              show (if c.1 = 8 then [(c.2.2.2.2.2.2, c.2.1)] else []) = _
              rw [if_neg (by omega)]
            refine RMr [] [1190165] 40 ?_
            repeat' first | (refine ⟨fun _ => ?_, fun _ => ?_⟩ <;> try omega) | (refine ⟨by first | omega | (simp only [upm_ap, upd1_ap, Nat.reduceEqDiff, ↓reduceIte, eq_self] at * <;> omega) | fail, ?_⟩) | (refine C_marks (r := 880 + k) hc hD1 hY1 (by omega) h7 h10 (fun m2 hY2 hD2 hR2 => ?_)) | (simp only [upm_ap, upd1_ap, Nat.reduceEqDiff, ↓reduceIte, eq_self] at *) | omega | fail
            refine C_c5 (c := c) (be := pre.length) hD2 hY2 (by omega) hbe hR2 (by rw [far.2.1, far.2.2]; show _ = _ + ((0 : Nat) : Int) + ((0 : Nat) : Int); omega) (fun e1 => ?_) (fun e1 => ?_)
            · rw [if_pos e1] at hk2
              cases hk2
              have hQ : ∀ m', frY m0 m' → MD t n 10 (nx t n q1) (pre ++ (c.2.2.2.1 ++ c.2.2.2.2.1)) (k + 1) (cs ++ [c]) (nn ++ nms [c]) m' → Q rV m' := hQ
              rw [ec, far.2.1, far.2.2, List.append_nil, List.append_nil, List.append_nil] at hQ
              exact hQ
            · rw [if_neg (by rw [e1]; decide)] at hk2
              cases hk2
              exact hQ
        refine RMr [] [1190111] 90 ?_
        repeat' first | (refine ⟨fun _ => ?_, fun _ => ?_⟩ <;> try omega) | (refine ⟨by first | omega | (simp only [upm_ap, upd1_ap, Nat.reduceEqDiff, ↓reduceIte, eq_self] at * <;> omega) | fail, ?_⟩) | (refine M_isWell (fun _ => ?_) (fun e => absurd h19 e)) | (refine P_isw (w := wEnd) rfl hD.1 (by decide) (fun e1 => absurd e1 he) (fun e1 => ?_)) | (refine P_isw (w := wMark) rfl hD.1 (by decide) (fun e1 => ?_) (fun e1 => absurd hm (by rw [e1]; decide))) | (refine C_begin hD hY (by omega) (by omega) (fun m1 hY1 hD1 h7 h10 => ?_)) | (exact aft _ hY1 hD1 h7 h10) | (simp only [upm_ap, upd1_ap, Nat.reduceEqDiff, ↓reduceIte, eq_self] at *) | omega | fail
    · by_cases ht : isWb t n q wTrust = true
      · rw [if_neg (by rw [ht]; simp)] at h
        by_cases h12 : k = 12
        · rw [if_pos (Or.inl h12)] at h
          cases h
          refine RMr [] [] 90 ?_
          repeat' first | (refine ⟨fun _ => ?_, fun _ => ?_⟩ <;> try omega) | (refine ⟨by first | omega | (simp only [upm_ap, upd1_ap, Nat.reduceEqDiff, ↓reduceIte, eq_self] at * <;> omega) | fail, ?_⟩) | (refine M_isWell (fun e => absurd e g1.x) (fun _ => ?_)) | (refine P_isw (w := wEnd) rfl hD.1 (by decide) (fun e1 => absurd e1 he) (fun e1 => ?_)) | (refine P_isw (w := wMark) rfl hD.1 (by decide) (fun e1 => absurd e1 hm) (fun e1 => ?_)) | (refine P_isw (w := wTrust) rfl hD.1 (by decide) (fun e1 => ?_) (fun e1 => absurd ht (by rw [e1]; decide))) | (refine P_fail hD.1 (frX.rfl (m := m)) (by decide) (fun m1 g1 g2 => ?_)) | (exact hQ _ (g1.y hY)) | (simp only [upm_ap, upd1_ap, Nat.reduceEqDiff, ↓reduceIte, eq_self] at *) | omega | fail
        · rw [if_neg (fun e => e.elim h12 (fun e => he e.1)), if_neg he, if_neg hm] at h
          have hlt := isWb_lt ht (by decide) hqn.2.1
          have aft : ∀ m1, frY m0 m1 → MD t n 10 (nx t n q) pre (k + 1) cs nn m1 → m1 7 (880 + k) = 9 → m1 10 (880 + k) = pre.length → RM (d + 60) 119 (111, [some (mR 1026), some (mI 0), some (mI 0), some (mI (880 + k))], [], m1) Q := by
            intro m1 hY1 hD1 h7 h10
            have hr' : 880 ≤ 880 + k ∧ 880 + k < 900 := by omega
            -- a fault in the first number, in the second
            have flt : ∀ kf pf, x = .inl (kf, pf) → ∀ m2, FY m0 kf pf m2 → RM (d + 60) 119 (165, [some (mR 1026), some (mI 0), some (mI 0), some (mI (880 + k))], [], m2) Q := by
              intro kf pf hx m2 g
              subst hx
              exact Y_c5 g hr' hQ
            have sn : ∀ {r : cR} {y : (Int × Int) ⊕ (Cl × Int)}, semC t n r = some y → (∃ e, r = some (.inl e) ∧ y = .inl e) ∨ ∃ c q, r = cO c q ∧ (if isWb t n q [59] then cO c (nx t n q) else cF 1 q) = some y := fun h => cB_some h
            rcases sn h with ⟨⟨kf, pf⟩, hc, hx⟩ | ⟨c, q1, hc, hk2⟩
            · rcases num_some hc with ⟨h1, e⟩ | ⟨h1, h2, e⟩ | ⟨h1, h2, h3⟩
              · cases e
                refine RMr [] [1190165] 40 ?_
                repeat' first | (refine ⟨fun _ => ?_, fun _ => ?_⟩ <;> try omega) | (refine ⟨by first | omega | (simp only [upm_ap, upd1_ap, Nat.reduceEqDiff, ↓reduceIte, eq_self] at * <;> omega) | fail, ?_⟩) | (refine P_num hD1.1 (frX.rfl (m := m1)) (fun e => by omega) (fun e => by omega) (fun _ m2 g1 g2 => ?_)) | (refine X_num ((g1.y hY1).row (j := 8) (by omega) (i := 880 + k) (v := 0) (by omega)).x ?_) | (exact flt _ _ hx _ (((g1.y hY1).row (by omega) (by omega)).row (by omega) (by omega))) | (simp only [upm_ap, upd1_ap, Nat.reduceEqDiff, ↓reduceIte, eq_self] at *) | omega | fail
              · cases e
                refine RMr [] [1190165] 40 ?_
                repeat' first | (refine ⟨fun _ => ?_, fun _ => ?_⟩ <;> try omega) | (refine ⟨by first | omega | (simp only [upm_ap, upd1_ap, Nat.reduceEqDiff, ↓reduceIte, eq_self] at * <;> omega) | fail, ?_⟩) | (refine P_num hD1.1 (frX.rfl (m := m1)) (fun _ _ e => by omega) (fun _ _ m2 g1 g2 => ?_) (fun e => by omega)) | (refine X_num ((g1.y hY1).row (j := 8) (by omega) (i := 880 + k) (v := 0) (by omega)).x ?_) | (exact flt _ _ hx _ (((g1.y hY1).row (by omega) (by omega)).row (by omega) (by omega))) | (simp only [upm_ap, upd1_ap, Nat.reduceEqDiff, ↓reduceIte, eq_self] at *) | omega | fail
              · generalize hv : vlu t n (nx t n q) = v at h2 h3
                rcases num_some h3 with ⟨h4, e⟩ | ⟨h4, h5, e⟩ | ⟨h4, h5, h6⟩
                · cases e
                  refine RMr [] [1190165] 40 ?_
                  repeat' first | (refine ⟨fun _ => ?_, fun _ => ?_⟩ <;> try omega) | (refine ⟨by first | omega | (simp only [upm_ap, upd1_ap, Nat.reduceEqDiff, ↓reduceIte, eq_self] at * <;> omega) | fail, ?_⟩) | (refine P_num hD1.1 (frX.rfl (m := m1)) (fun _ _ _ m2 hx2 hP2 => ?_) (fun _ e => by omega) (fun e => by omega)) | (refine P_num (hP2.u (j := 8) (by decide) (i := 880 + k) (v := vlu t n (nx t n q))) (frX.rfl (m := upm m2 8 (880 + k) (vlu t n (nx t n q)))) (fun e => by omega) (fun e => by omega) (fun _ m3 g1 g2 => ?_)) | (exact flt _ _ hx _ ((g1.y ((hY1.x hx2).row (by omega) (by omega))).row (by omega) (by omega))) | (simp only [upm_ap, upd1_ap, Nat.reduceEqDiff, ↓reduceIte, eq_self] at *) | omega | fail
                · cases e
                  refine RMr [] [1190165] 40 ?_
                  repeat' first | (refine ⟨fun _ => ?_, fun _ => ?_⟩ <;> try omega) | (refine ⟨by first | omega | (simp only [upm_ap, upd1_ap, Nat.reduceEqDiff, ↓reduceIte, eq_self] at * <;> omega) | fail, ?_⟩) | (refine P_num hD1.1 (frX.rfl (m := m1)) (fun _ _ _ m2 hx2 hP2 => ?_) (fun _ e => by omega) (fun e => by omega)) | (refine P_num (hP2.u (j := 8) (by decide) (i := 880 + k) (v := vlu t n (nx t n q))) (frX.rfl (m := upm m2 8 (880 + k) (vlu t n (nx t n q)))) (fun _ a b => absurd (And.intro a b) (by rw [upm_s, upd1_s, hv]; exact h5)) (fun _ _ m3 g1 g2 => ?_) (fun e => by omega)) | (exact flt _ _ hx _ ((g1.y ((hY1.x hx2).row (by omega) (by omega))).row (by omega) (by omega))) | (simp only [upm_ap, upd1_ap, Nat.reduceEqDiff, ↓reduceIte, eq_self] at *) | omega | fail
                · cases h6
            · rcases num_some hc with ⟨h1, e⟩ | ⟨h1, h2, e⟩ | ⟨h1, h2, h3⟩
              · cases e
              · cases e
              · generalize hv : vlu t n (nx t n q) = v at h2 h3
                rcases num_some h3 with ⟨h4, e⟩ | ⟨h4, h5, e⟩ | ⟨h4, h5, h6⟩
                · cases e
                · cases e
                · cases h6
                  refine RMr [] [1190165] 40 ?_
                  repeat' first | (refine ⟨fun _ => ?_, fun _ => ?_⟩ <;> try omega) | (refine ⟨by first | omega | (simp only [upm_ap, upd1_ap, Nat.reduceEqDiff, ↓reduceIte, eq_self] at * <;> omega) | fail, ?_⟩) | (refine P_num hD1.1 (frX.rfl (m := m1)) (fun _ _ _ m2 hx2 hP2 => ?_) (fun _ e => by omega) (fun e => by omega)) | (refine P_num (hP2.u (j := 8) (by decide) (i := 880 + k) (v := vlu t n (nx t n q))) (frX.rfl (m := upm m2 8 (880 + k) (vlu t n (nx t n q)))) (fun _ _ _ m3 hx3 hP3 => ?_) (fun _ e => absurd h5 (by rw [upm_s, upd1_s, hv] at e; exact e)) (fun e => by omega)) | (simp only [upm_ap, upd1_ap, Nat.reduceEqDiff, ↓reduceIte, eq_self] at *) | omega | fail
                  have hD3 := (((hD1.x hx2 hP2).row (j := 8) (by omega) (i := 880 + k) (v := vlu t n (nx t n q)) (by omega)).x hx3 hP3).row (j := 9) (by omega) (i := 880 + k) (v := vlu t n (nx t n (nx t n q))) (by omega)
                  have hY3 := (((hY1.x hx2).row (j := 8) (by omega) (i := 880 + k) (v := vlu t n (nx t n q)) (by omega)).x hx3).row (j := 9) (by omega) (i := 880 + k) (v := vlu t n (nx t n (nx t n q))) (by omega)
                  refine C_c5 (c := (9, v, vlu t n (nx t n (nx t n q)), [], [], [], 0)) (be := pre.length) hD3 hY3 (by omega) hbe ⟨?_, ?_, fun _ => ?_, ?_, fun (e : (9 : Int) = 8 ∨ (9 : Int) = 6) => by omega⟩ (by show _ = _ + ((0 : Nat) : Int) + ((0 : Nat) : Int); omega) (fun e1 => ?_) (fun e1 => ?_)
                  · show upm m3 9 (880 + k) _ 7 (880 + k) = 9
                    rw [upm_n (by decide), hx3.1 7 (by decide), upm_n (by decide), hx2.1 7 (by decide)]; exact h7
                  · show upm m3 9 (880 + k) _ 8 (880 + k) = v
                    rw [upm_n (by decide), hx3.1 8 (by decide), upm_s, upd1_s]; exact hv
                  · show upm m3 9 (880 + k) _ 9 (880 + k) = _
                    rw [upm_s, upd1_s]
                  · show upm m3 9 (880 + k) _ 10 (880 + k) = _
                    rw [upm_n (by decide), hx3.1 10 (by decide), upm_n (by decide), hx2.1 10 (by decide)]; exact h10
                  · rw [if_pos e1] at hk2
                    cases hk2
                    have hQ : ∀ m', frY m0 m' → MD t n 10 (nx t n (nx t n (nx t n (nx t n q)))) (pre ++ ([] ++ [])) (k + 1) (cs ++ [(9, v, vlu t n (nx t n (nx t n q)), [], [], [], 0)]) (nn ++ []) m' → Q rV m' := hQ
                    rw [List.append_nil, List.append_nil, List.append_nil] at hQ
                    exact hQ
                  · rw [if_neg (by rw [e1]; decide)] at hk2
                    cases hk2
                    exact hQ
          refine RMr [] [1190111] 90 ?_
          repeat' first | (refine ⟨fun _ => ?_, fun _ => ?_⟩ <;> try omega) | (refine ⟨by first | omega | (simp only [upm_ap, upd1_ap, Nat.reduceEqDiff, ↓reduceIte, eq_self] at * <;> omega) | fail, ?_⟩) | (refine M_isWell (fun _ => ?_) (fun e => absurd h19 e)) | (refine P_isw (w := wEnd) rfl hD.1 (by decide) (fun e1 => absurd e1 he) (fun e1 => ?_)) | (refine P_isw (w := wMark) rfl hD.1 (by decide) (fun e1 => absurd e1 hm) (fun e1 => ?_)) | (refine P_isw (w := wTrust) rfl hD.1 (by decide) (fun e1 => ?_) (fun e1 => absurd ht (by rw [e1]; decide))) | (refine C_begin hD hY (by omega) (by omega) (fun m1 hY1 hD1 h7 h10 => ?_)) | (exact aft _ hY1 hD1 h7 h10) | (simp only [upm_ap, upd1_ap, Nat.reduceEqDiff, ↓reduceIte, eq_self] at *) | omega | fail
      · rw [if_pos (by simp [he, hm, ht])] at h
        cases h
        refine RMr [] [] 90 ?_
        repeat' first | (refine ⟨fun _ => ?_, fun _ => ?_⟩ <;> try omega) | (refine ⟨by first | omega | (simp only [upm_ap, upd1_ap, Nat.reduceEqDiff, ↓reduceIte, eq_self] at * <;> omega) | fail, ?_⟩) | (refine M_isWell (fun e => absurd e g1.x) (fun _ => ?_)) | (refine P_isw (w := wEnd) rfl hD.1 (by decide) (fun e1 => absurd e1 he) (fun e1 => ?_)) | (refine P_isw (w := wMark) rfl hD.1 (by decide) (fun e1 => absurd e1 hm) (fun e1 => ?_)) | (refine P_isw (w := wTrust) rfl hD.1 (by decide) (fun e1 => absurd e1 ht) (fun e1 => ?_)) | (refine P_fail hD.1 (frX.rfl (m := m)) (by decide) (fun m1 g1 g2 => ?_)) | (exact hQ _ (g1.y hY)) | (simp only [upm_ap, upd1_ap, Nat.reduceEqDiff, ↓reduceIte, eq_self] at *) | omega | fail
end
