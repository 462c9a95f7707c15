/-! THE MODEL READS rules -/
set_option maxHeartbeats 3200000
set_option maxRecDepth 100000
section
variable {d : Nat} {m m0 m' : sg} {Q : mQ sg} {t : Int → Int} {n : Int} {nm : Nat} {q q' o : Int} {pre pre' : List Int} {k : Int} {cs : List Cl} {nn : List (Int × Int)}
theorem wix_no {ws : List (List Int)} (h : ∀ w ∈ ws, ¬ isWb t n q w = true) : wix t n q ws = -1 := by
  induction ws with
  | nil => rfl
  | cons w r ih => rw [wix_cons, if_neg (h w List.mem_cons_self), if_pos (ih (fun x hx => h x (List.mem_cons_of_mem _ hx)))]
theorem C_rw (hP : MP t n nm q o pre m) (hQ : Q (rI (if wix t n q wRul = -1 then (if isWb t n q wBar then 6 else -1) else wix t n q wRul)) m) : RM (d + 2) 96 (0, [some (mR 1026)], [], m) Q := by
  unfold wRul at hQ
  simp only [wix_cons] at hQ
  have w0 : wix t n q [] = -1 := rfl
  refine RMr [] [] 120 ?_
  repeat' first | (refine ⟨fun _ => ?_, fun _ => ?_⟩ <;> try omega) | (refine ⟨by first | omega | (simp only [upm_ap, upd1_ap, Nat.reduceEqDiff, ↓reduceIte, eq_self] at * <;> omega) | fail, ?_⟩) | (refine P_isw (a := 146) (w := [102, 97, 105, 108]) rfl hP (by decide) (fun h146 => ?_) (fun h146 => ?_)) | (refine P_isw (a := 147) (w := [107, 101, 101, 112]) rfl hP (by decide) (fun h147 => ?_) (fun h147 => ?_)) | (refine P_isw (a := 148) (w := [100, 97, 121, 115]) rfl hP (by decide) (fun h148 => ?_) (fun h148 => ?_)) | (refine P_isw (a := 149) (w := [108, 97, 116, 101]) rfl hP (by decide) (fun h149 => ?_) (fun h149 => ?_)) | (refine P_isw (a := 150) (w := [103, 97, 105, 110]) rfl hP (by decide) (fun h150 => ?_) (fun h150 => ?_)) | (refine P_isw (a := 151) (w := [115, 101, 108, 108]) rfl hP (by decide) (fun h151 => ?_) (fun h151 => ?_)) | (refine P_isw (a := 152) (w := wBar) rfl hP (by decide) (fun hb => ?_) (fun hb => ?_)) | ((simp [*] at hQ; exact hQ)) | (simp only [upm_ap, upd1_ap, Nat.reduceEqDiff, ↓reduceIte, eq_self] at *) | omega | fail
theorem C_rule {f : Nat} {x1 x2 x3 : Option mV} {x : (Int × Int) ⊕ (Cl × Int)} (h : rulC t n f q k = some x) (hD : MD t n 13 q pre k cs nn m) (hY : frY m0 m) (hk : k = cs.length ∧ k ≤ 20) (hpre : pre = cat cs) (hl : (pre.length : Int) ≤ q)
    (hQ : cPost t n 13 pre k cs nn m0 x Q) : RM (d + 60) 95 (0, [some (mR 1026), x1, x2, x3], [], m) Q := by
  have hqn := hD.1.qn
  have h19 := hD.1.wl
  have h6 := hD.2.1
  have hnx := nx_b (t := t) hqn.2.1
  have hnx2 := nx_b (t := t) hnx.2.1
  have hbe : (pre.length : Int) = (cat cs).length := by rw [hpre]
  have hwb := wix_b (t := t) (n := n) (q := q) wRul
  have hwl : (wRul.length : Int) = 6 := rfl
  have sn : ∀ {r : cR} {y : (Int × Int) ⊕ (Cl × Int)}, semC t n r = some y → (∃ e, r = some (.inl e) ∧ y = .inl e) ∨ ∃ c q, r = cO c q ∧ (if isWb t n q [59] then cO c (nx t n q) else cF 1 q) = some y := fun h => cB_some h
  unfold rulC at h
  by_cases h0 : wix t n q wRul = -1 ∧ ¬ isWb t n q wBar = true
  · rw [if_pos h0] at h
    cases h
    refine RMr [] [] 90 ?_
    repeat' first | (refine ⟨fun _ => ?_, fun _ => ?_⟩ <;> try omega) | (refine ⟨by first | omega | (simp only [upm_ap, upd1_ap, Nat.reduceEqDiff, ↓reduceIte, eq_self] at * <;> omega) | fail, ?_⟩) | (refine M_isWell (fun e => absurd e g1.x) (fun _ => ?_)) | ((refine C_rw hD.1 ?_; rw [if_pos h0.1, if_neg h0.2])) | (refine P_fail hD.1 (frX.rfl (m := m)) (by decide) (fun m1 g1 g2 => ?_)) | (exact hQ _ (g1.y hY)) | (simp only [upm_ap, upd1_ap, Nat.reduceEqDiff, ↓reduceIte, eq_self] at *) | omega | fail
  · rw [if_neg h0] at h
    generalize hw : (if wix t n q wRul = -1 then (if isWb t n q wBar then 6 else -1) else wix t n q wRul) = w
    have hw1 : 0 ≤ w ∧ w ≤ 6 ∧ (w = 6 ↔ wix t n q wRul = -1) ∧ (w ≠ 6 → wix t n q wRul = w) := by
      rw [← hw]
      by_cases e : wix t n q wRul = -1
      · rw [if_pos e, if_pos (by
          by_cases e2 : isWb t n q wBar = true
          · exact e2
          · exact absurd ⟨e, e2⟩ h0)]
        exact ⟨by omega, by omega, ⟨fun _ => e, fun _ => rfl⟩, fun h => absurd rfl h⟩
      · rw [if_neg e]
        exact ⟨by omega, by omega, ⟨fun _ => by omega, fun h => absurd h e⟩, fun _ => rfl⟩
    by_cases h20 : k = 20
    · rw [if_pos h20] at h
      cases h
      refine RMr [] [] 90 ?_
      repeat' first | (refine ⟨fun _ => ?_, fun _ => ?_⟩ <;> try omega) | (refine ⟨by first | omega | (simp only [upm_ap, upd1_ap, Nat.reduceEqDiff, ↓reduceIte, eq_self] at * <;> omega) | fail, ?_⟩) | (refine M_isWell (fun e => absurd e g1.x) (fun _ => ?_)) | ((refine C_rw hD.1 ?_; rw [hw])) | (refine P_fail hD.1 (frX.rfl (m := m)) (by decide) (fun m1 g1 g2 => ?_)) | (exact hQ _ (g1.y hY)) | (simp only [upm_ap, upd1_ap, Nat.reduceEqDiff, ↓reduceIte, eq_self] at *) | omega | fail
    · rw [if_neg h20] at h
      have hqlt : q < nx t n q := by
        by_cases e : q < n
        · omega
        · exfalso
          have z : tke t n q = q := by
            unfold tke
            rw [if_neg (fun h => e (sml_lt h).1), if_neg (fun h => e (dgt_lt h).1), if_neg e]
          have nw : ∀ w : List Int, w ≠ [] → ¬ isWb t n q w = true := fun w hw hh => by
            have := (isWb_iff.mp hh).1
            have := List.length_pos_iff.mpr hw
            omega
          apply h0
          refine ⟨?_, nw _ (by decide)⟩
          exact wix_no (fun w hw => nw w (by have : ∀ w ∈ wRul, w ≠ [] := by decide
                                             exact this w hw))
      have aft : ∀ m1, frY m0 m1 → MD t n 13 (nx t n q) pre (k + 1) cs nn m1 → m1 7 (880 + k) = w → m1 10 (880 + k) = pre.length → RM (d + 60) 95 (49, [some (mR 1026), some (mI w), some (mI (880 + k)), x3], [], m1) Q := by
        intro m1 hY1 hD1 h7 h10
        have hr' : 880 ≤ 880 + k ∧ 880 + k < 900 := by omega
        by_cases hw6 : w = 6
        · have e1 := hw1.2.2.1.mp hw6
          rw [if_pos e1] at h
          generalize hv : wix t n (nx t n q) wKin = v at h
          -- the kind is known
          have nxt : ∀ m2, m2 = upm m1 8 (880 + k) v → RM (d + 60) 95 (118, [some (mR 1026), some (mI w), some (mI (880 + k)), x3], [], m2) Q := by
            intro m2 hm2
            have hD2 : MD t n 13 (nx t n q) pre (k + 1) cs nn m2 := by rw [hm2]; exact hD1.row (by omega) (by omega)
            have hY2 : frY m0 m2 := by rw [hm2]; exact hY1.row (by omega) (by omega)
            have e8 : m2 8 (880 + k) = v := by rw [hm2, upm_s, upd1_s]
            have e7 : m2 7 (880 + k) = w := by rw [hm2, upm_n (by decide)]; exact h7
            have e10 : m2 10 (880 + k) = pre.length := by rw [hm2, upm_n (by decide)]; exact h10
            have w2 := hD2.1.wl
            clear hm2 hD1 hY1
            -- a fault
            have flt : ∀ kf pf, x = .inl (kf, pf) → ∀ m3, FY m0 kf pf m3 → RM (d + 60) 95 (151, [some (mR 1026), some (mI w), some (mI (880 + k)), x3], [], m3) Q := by
              intro kf pf hx m3 g
              subst hx
              have g1 := g.row (j := 11) (by omega) (i := 880 + k) (v := m3 5 44) (by omega)
              refine RMr [] [950251] 60 ?_
              repeat' first | (refine ⟨fun _ => ?_, fun _ => ?_⟩ <;> try omega) | (refine ⟨by first | omega | (simp only [upm_ap, upd1_ap, Nat.reduceEqDiff, ↓reduceIte, eq_self] at * <;> omega) | fail, ?_⟩) | (refine X_cond g1.x ?_) | (exact Y_r5 g1 hr' hQ) | (simp only [upm_ap, upd1_ap, Nat.reduceEqDiff, ↓reduceIte, eq_self] at *) | omega | fail
            by_cases hv1 : v = -1
            · rw [if_pos hv1] at h
              cases h
              refine RMr [] [950151] 60 ?_
              repeat' first | (refine ⟨fun _ => ?_, fun _ => ?_⟩ <;> try omega) | (refine ⟨by first | omega | (simp only [upm_ap, upd1_ap, Nat.reduceEqDiff, ↓reduceIte, eq_self] at * <;> omega) | fail, ?_⟩) | (refine M_isWell (fun e => absurd e g1.x) (fun _ => ?_)) | (refine P_fail hD2.1 (frX.rfl (m := m2)) (by decide) (fun m3 g1 g2 => ?_)) | (refine X_wwd g1.x ?_) | (exact flt _ _ rfl _ (g1.y hY2)) | (simp only [upm_ap, upd1_ap, Nat.reduceEqDiff, ↓reduceIte, eq_self] at *) | omega | fail
            · rw [if_neg hv1] at h
              by_cases hi : isWb t n (nx t n (nx t n q)) wIf = true
              · rw [if_pos hi] at h
                have hil := isWb_lt hi (by decide) hnx2.2.1
                have hnx3 := nx_b (t := t) hnx2.2.1
                have mid : ∀ m4, frX m2 m4 → MP t n 13 (nx t n (nx t n (nx t n q))) 0 pre m4 → RM (d + 60) 95 (151, [some (mR 1026), some (mI w), some (mI (880 + k)), x3], [], m4) Q := by
                  intro m4 hx4 hP4
                  have hD4 := (hD2.x hx4 hP4).row (j := 11) (by omega) (i := 880 + k) (v := m4 5 44) (by omega)
                  have hY4 := (hY2.x hx4).row (j := 11) (by omega) (i := 880 + k) (v := m4 5 44) (by omega)
                  have h5 : m4 5 44 = pre.length := hP4.2.2.1.1
                  have f7 : (upm m4 11 (880 + k) (m4 5 44)) 7 (880 + k) = w := by rw [upm_n (by decide), hx4.1 7 (by decide)]; exact e7
                  have f8 : (upm m4 11 (880 + k) (m4 5 44)) 8 (880 + k) = v := by rw [upm_n (by decide), hx4.1 8 (by decide)]; exact e8
                  have f10 : (upm m4 11 (880 + k) (m4 5 44)) 10 (880 + k) = pre.length := by rw [upm_n (by decide), hx4.1 10 (by decide)]; exact e10
                  have f11 : (upm m4 11 (880 + k) (m4 5 44)) 11 (880 + k) = pre.length := by rw [upm_s, upd1_s]; exact h5
                  have go : RM (d + 60) 95 (164, [some (mR 1026), some (mI w), some (mI (880 + k)), x3], [], upm m4 11 (880 + k) (m4 5 44)) Q := by
                    generalize upm m4 11 (880 + k) (m4 5 44) = m5 at hD4 hY4 f7 f8 f10 f11
                    clear h5 hx4 hP4
                    rcases sn h with ⟨⟨kf, pf⟩, hc, rfl⟩ | ⟨c, q1, hc, hk2⟩
                    · rcases pC_some hc with ⟨⟨kf, pf⟩, hp, e⟩ | ⟨c2, l2, q4, hp, hk⟩
                      · cases e
                        refine RMr [] [950251] 60 ?_
                        repeat' first | (refine ⟨fun _ => ?_, fun _ => ?_⟩ <;> try omega) | (refine ⟨by first | omega | (simp only [upm_ap, upd1_ap, Nat.reduceEqDiff, ↓reduceIte, eq_self] at * <;> omega) | fail, ?_⟩) | (refine (gm_all f).2.2.2.2.1 _ _ _ _ m5 _ _ _ hp hD4.1 (by omega) frX.rfl (by omega) (fun m7 g1 => ?_)) | (exact Y_r5 (g1.y hY4) hr' hQ) | (simp only [upm_ap, upd1_ap, Nat.reduceEqDiff, ↓reduceIte, eq_self] at *) | omega | fail
                      · cases hk
                    · rcases pC_some hc with ⟨⟨kf, pf⟩, hp, e⟩ | ⟨c2, l2, q4, hp, hk⟩
                      · cases e
                      · cases hk
                        have f2 := prs_far _ _ _ _ _ _ hnx3.2.1 _ _ _ hp
                        simp at f2
                        refine RMr [] [950251] 60 ?_
                        repeat' first | (refine ⟨fun _ => ?_, fun _ => ?_⟩ <;> try omega) | (refine ⟨by first | omega | (simp only [upm_ap, upd1_ap, Nat.reduceEqDiff, ↓reduceIte, eq_self] at * <;> omega) | fail, ?_⟩) | (refine (gm_all f).2.2.2.2.1 _ _ _ _ m5 _ _ _ hp hD4.1 (by omega) frX.rfl (by omega) (fun m7 hx7 hP7 => ?_)) | (simp only [upm_ap, upd1_ap, Nat.reduceEqDiff, ↓reduceIte, eq_self] at *) | omega | fail
                        refine C_r5 (c := (6, v, 0, [], c2, l2, 0)) (be := pre.length) (hD4.x hx7 hP7) (hY4.x hx7) (by omega) hbe ⟨((congrFun (hx7.1 7 (by decide)) _).trans f7).trans hw6, (congrFun (hx7.1 8 (by decide)) _).trans f8, fun (e : (6 : Int) = 8 ∨ (6 : Int) = 9) => by omega, (congrFun (hx7.1 10 (by decide)) _).trans f10, fun _ => ?_⟩ (by rw [ln_app]; show _ = _ + ((0 : Nat) : Int) + (c2.length : Int); omega) (fun e1 => ?_) (fun e1 => ?_)
                        · show m7 11 (880 + k) = pre.length + ((0 : Nat) : Int)
                          rw [hx7.1 11 (by decide)]
                          omega
                        · rw [if_pos e1] at hk2
                          cases hk2
                          have hQ : ∀ m', frY m0 m' → MD t n 13 (nx t n q1) (pre ++ ([] ++ c2)) (k + 1) (cs ++ [(6, v, 0, [], c2, l2, 0)]) (nn ++ []) m' → Q rV m' := hQ
                          rw [List.append_nil, List.nil_append] at hQ
                          exact hQ
                        · rw [if_neg (by rw [e1]; decide)] at hk2
                          cases hk2
                          exact hQ
                  clear hD4 hY4 f7 f8 f10 f11 h5
                  refine RMr [] [950164] 60 ?_
                  repeat' first | (refine ⟨fun _ => ?_, fun _ => ?_⟩ <;> try omega) | (refine ⟨by first | omega | (simp only [upm_ap, upd1_ap, Nat.reduceEqDiff, ↓reduceIte, eq_self] at * <;> omega) | fail, ?_⟩) | (exact go) | (simp only [upm_ap, upd1_ap, Nat.reduceEqDiff, ↓reduceIte, eq_self] at *) | omega | fail
                refine RMr [] [950151] 60 ?_
                repeat' first | (refine ⟨fun _ => ?_, fun _ => ?_⟩ <;> try omega) | (refine ⟨by first | omega | (simp only [upm_ap, upd1_ap, Nat.reduceEqDiff, ↓reduceIte, eq_self] at * <;> omega) | fail, ?_⟩) | (refine M_isWell (fun _ => ?_) (fun e => absurd w2 e)) | (refine P_next hD2.1 (frX.rfl (m := m2)) (fun m3 hx3 hP3 => ?_)) | (refine P_wwd (w := wIf) rfl hP3 hx3 (by decide) (fun _ m4 hx4 hP4 => ?_) (fun e1 => absurd hi (by rw [e1]; decide))) | (exact mid _ hx4 hP4) | (simp only [upm_ap, upd1_ap, Nat.reduceEqDiff, ↓reduceIte, eq_self] at *) | omega | fail
              · rw [if_neg hi] at h
                cases h
                refine RMr [] [950151] 60 ?_
                repeat' first | (refine ⟨fun _ => ?_, fun _ => ?_⟩ <;> try omega) | (refine ⟨by first | omega | (simp only [upm_ap, upd1_ap, Nat.reduceEqDiff, ↓reduceIte, eq_self] at * <;> omega) | fail, ?_⟩) | (refine M_isWell (fun _ => ?_) (fun e => absurd w2 e)) | (refine P_next hD2.1 (frX.rfl (m := m2)) (fun m3 hx3 hP3 => ?_)) | (refine P_wwd (w := wIf) rfl hP3 hx3 (by decide) (fun e1 => absurd e1 hi) (fun _ m4 g1 g2 => ?_)) | (exact flt _ _ rfl _ (g1.y hY2)) | (simp only [upm_ap, upd1_ap, Nat.reduceEqDiff, ↓reduceIte, eq_self] at *) | omega | fail
          have hv' := hv
          unfold wKin at hv'
          simp only [wix_cons] at hv'
          have w0 : wix t n (nx t n q) [] = -1 := rfl
          refine RMr [] [950118] 60 ?_
          repeat' first | (refine ⟨fun _ => ?_, fun _ => ?_⟩ <;> try omega) | (refine ⟨by first | omega | (simp only [upm_ap, upd1_ap, Nat.reduceEqDiff, ↓reduceIte, eq_self] at * <;> omega) | fail, ?_⟩) | (refine P_isw (a := 153) (w := [110, 101, 97, 114]) rfl hD1.1 (by decide) (fun h153 => ?_) (fun h153 => ?_)) | (refine P_isw (a := 154) (w := [106, 111, 105, 110]) rfl hD1.1 (by decide) (fun h154 => ?_) (fun h154 => ?_)) | (refine P_isw (a := 155) (w := [115, 97, 108, 101]) rfl hD1.1 (by decide) (fun h155 => ?_) (fun h155 => ?_)) | (refine P_isw (a := 156) (w := [115, 116, 114, 105, 107, 101]) rfl hD1.1 (by decide) (fun h156 => ?_) (fun h156 => ?_)) | ((refine nxt _ ?_; simp [*] at hv'; rw [← hv'])) | (simp only [upm_ap, upd1_ap, Nat.reduceEqDiff, ↓reduceIte, eq_self] at *) | omega | fail
        · have e1 := hw1.2.2.2 hw6
          rw [if_neg (by omega), e1] at h
          have hlh : rLo w = (if w = 1 ∨ w = 4 then 0 else 1) ∧ rHi w = (if w = 0 then 50 else if w = 1 then 8 else if w = 2 then 360 else if w = 3 then 720 else if w = 4 then 20 else 40) := ⟨rfl, rfl⟩
          have num : ∀ lo hi x3, lo = rLo w → hi = rHi w → ∀ st, st = [mI hi, mI lo, mR 1026, mI (880 + k), mR 1032] → RM (d + 60) 95 (247, [some (mR 1026), some (mI w), some (mI (880 + k)), x3], st, m1) Q := by
            intro lo hi x3 hlo hhi st hst
            subst hlo hhi hst
            rcases sn h with ⟨⟨kf, pf⟩, hc, rfl⟩ | ⟨c, q1, hc, hk2⟩
            · rcases num_some hc with ⟨h1, e⟩ | ⟨h1, h2, e⟩ | ⟨h1, h2, h3⟩
              · cases e
                refine RMr [] [950251] 60 ?_
                repeat' first | (refine ⟨fun _ => ?_, fun _ => ?_⟩ <;> try omega) | (refine ⟨by first | omega | (simp only [upm_ap, upd1_ap, Nat.reduceEqDiff, ↓reduceIte, eq_self] at * <;> omega) | fail, ?_⟩) | (refine P_num hD1.1 (frX.rfl (m := m1)) (fun e => by omega) (fun e => by omega) (fun _ m2 g1 g2 => ?_)) | (exact Y_r5 ((g1.y hY1).row (by omega) (by omega)) hr' hQ) | (simp only [upm_ap, upd1_ap, Nat.reduceEqDiff, ↓reduceIte, eq_self] at *) | omega | fail
              · cases e
                refine RMr [] [950251] 60 ?_
                repeat' first | (refine ⟨fun _ => ?_, fun _ => ?_⟩ <;> try omega) | (refine ⟨by first | omega | (simp only [upm_ap, upd1_ap, Nat.reduceEqDiff, ↓reduceIte, eq_self] at * <;> omega) | fail, ?_⟩) | (refine P_num hD1.1 (frX.rfl (m := m1)) (fun _ a b => absurd (And.intro a b) h2) (fun _ _ m2 g1 g2 => ?_) (fun e => by omega)) | (exact Y_r5 ((g1.y hY1).row (by omega) (by omega)) hr' hQ) | (simp only [upm_ap, upd1_ap, Nat.reduceEqDiff, ↓reduceIte, eq_self] at *) | omega | fail
              · cases h3
            · rcases num_some hc with ⟨h1, e⟩ | ⟨h1, h2, e⟩ | ⟨h1, h2, h3⟩
              · cases e
              · cases e
              · cases h3
                refine RMr [] [950251] 60 ?_
                repeat' first | (refine ⟨fun _ => ?_, fun _ => ?_⟩ <;> try omega) | (refine ⟨by first | omega | (simp only [upm_ap, upd1_ap, Nat.reduceEqDiff, ↓reduceIte, eq_self] at * <;> omega) | fail, ?_⟩) | (refine P_num hD1.1 (frX.rfl (m := m1)) (fun _ _ _ m2 hx2 hP2 => ?_) (fun _ e => absurd h2 e) (fun e => by omega)) | (simp only [upm_ap, upd1_ap, Nat.reduceEqDiff, ↓reduceIte, eq_self] at *) | omega | fail
                refine C_r5 (c := (w, vlu t n (nx t n q), 0, [], [], [], 0)) (be := pre.length) ((hD1.x hx2 hP2).row (by omega) (by omega)) ((hY1.x hx2).row (by omega) (by omega)) (by omega) hbe ⟨?_, ?_, fun (e : w = 8 ∨ w = 9) => by omega, ?_, fun (e : w = 8 ∨ w = 6) => by omega⟩ (by show _ = _ + ((0 : Nat) : Int) + ((0 : Nat) : Int); omega) (fun e1 => ?_) (fun e1 => ?_)
                · show upm m2 8 (880 + k) _ 7 (880 + k) = w
                  rw [upm_n (by decide), hx2.1 7 (by decide)]; exact h7
                · show upm m2 8 (880 + k) _ 8 (880 + k) = _
                  rw [upm_s, upd1_s]
                · show upm m2 8 (880 + k) _ 10 (880 + k) = _
                  rw [upm_n (by decide), hx2.1 10 (by decide)]; exact h10
                · rw [if_pos e1] at hk2
                  cases hk2
                  have hQ : ∀ m', frY m0 m' → MD t n 13 (nx t n (nx t n (nx t n q))) (pre ++ ([] ++ [])) (k + 1) (cs ++ [(w, vlu t n (nx t n q), 0, [], [], [], 0)]) (nn ++ nms [(w, vlu t n (nx t n q), 0, [], [], [], 0)]) m' → Q rV m' := hQ
                  have ec : nms [((w, vlu t n (nx t n q), 0, [], [], [], 0) : Cl)] = [] := by
                    show (if w = 8 then _ else []) = _
                    rw [if_neg (by omega)]
                  rw [ec, List.append_nil, List.append_nil, List.append_nil] at hQ
                  exact hQ
                · rw [if_neg (by rw [e1]; decide)] at hk2
                  cases hk2
                  exact hQ
          obtain ⟨l1, l2⟩ := hlh
          have hw7 : w = 0 ∨ w = 1 ∨ w = 2 ∨ w = 3 ∨ w = 4 ∨ w = 5 := by omega
          clear h hw1 hw h0 e1 hwb hQ
          rcases hw7 with rfl | rfl | rfl | rfl | rfl | rfl
          all_goals
            refine RMr [] [950247] 60 ?_
            repeat' first | (refine ⟨fun _ => ?_, fun _ => ?_⟩ <;> try omega) | (refine ⟨by omega, ?_⟩) | (exact num _ _ _ (by rw [l1]; rfl) (by rw [l2]; rfl) _ rfl) | fail
      refine RMr [] [950049] 90 ?_
      repeat' first | (refine ⟨fun _ => ?_, fun _ => ?_⟩ <;> try omega) | (refine ⟨by first | omega | (simp only [upm_ap, upd1_ap, Nat.reduceEqDiff, ↓reduceIte, eq_self] at * <;> omega) | fail, ?_⟩) | (refine M_isWell (fun _ => ?_) (fun e => absurd h19 e)) | ((refine C_rw hD.1 ?_; rw [hw])) | (refine C_begin hD hY (by omega) (by omega) (fun m1 hY1 hD1 h7 h10 => ?_)) | (exact aft _ hY1 hD1 h7 h10) | (simp only [upm_ap, upd1_ap, Nat.reduceEqDiff, ↓reduceIte, eq_self] at *) | omega | fail
end
