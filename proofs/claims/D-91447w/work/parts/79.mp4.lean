/-! THE MODEL READS sums and conditions: the rest -/
set_option maxHeartbeats 1600000
set_option maxRecDepth 100000
section
variable {d : Nat} {m m0 : sg} {Q : mQ sg} {t : Int → Int} {n : Int} {nm : Nat} {q o : Int} {pre : List Int}
theorem gm8_s {f : Nat} (S : gm1 t n nm f) (L : gm8 t n nm f) : gm8 t n nm (f + 1) := by
  intro o q c l pre m m0 d Q x x1 h hP hl hF hd hQ
  obtain ⟨d', rfl⟩ : ∃ d', d = d' + 4 := ⟨d - 4, by have := hP.op; omega⟩
  have hqn := hP.qn
  have h19 := hP.wl
  have hnx := nx_b (t := t) hqn.2.1
  rw [prs_8] at h
  by_cases h1 : isWb t n q [43] = true
  · rw [if_pos (by rw [h1]; rfl)] at h
    simp only [if_pos h1] at h
    have hlt := isWb_lt h1 (by decide) hqn.2.1
    rcases pB_some h with ⟨⟨k, p⟩, hr, rfl⟩ | ⟨c1, l1, q1, hr, hk⟩
    · refine RMr [] [1080004] 60 ?_
      repeat' first | (refine ⟨fun _ => ?_, fun _ => ?_⟩ <;> try omega) | (refine ⟨by first | omega | (simp only [upm_ap, upd1_ap, Nat.reduceEqDiff, ↓reduceIte, eq_self] at * <;> omega) | fail, ?_⟩) | (refine M_isWell (fun e => absurd e g1.x) (fun _ => ?_)) | (refine M_isWell (fun _ => ?_) (fun _ => by omega)) | (refine P_sgn (c := 43) hP (by omega) (fun e1 => ?_) (fun e1 => absurd h1 (by rw [e1]; decide))) | (refine P_next hP hF (fun m1 hF1 hP1 => ?_)) | (refine S _ _ _ _ m0 _ _ _ hr hP1 (by omega) hF1 (by omega) (fun m2 g1 => ?_)) | (refine X_emit g1.x ?_) | (simp only [upm_ap, upd1_ap, Nat.reduceEqDiff, ↓reduceIte, eq_self] at *) | omega | fail
      refine RMr [] [] 60 ?_
      repeat' first | (refine ⟨fun _ => ?_, fun _ => ?_⟩ <;> try omega) | (refine ⟨by first | omega | (simp only [upm_ap, upd1_ap, Nat.reduceEqDiff, ↓reduceIte, eq_self] at * <;> omega) | fail, ?_⟩) | (refine M_isWell (fun e => absurd e g1.x) (fun _ => ?_)) | (exact hQ _ g1) | (simp only [upm_ap, upd1_ap, Nat.reduceEqDiff, ↓reduceIte, eq_self] at *) | omega | fail
    · have far := prs_far _ _ _ _ _ _ hnx.2.1 _ _ _ hr
      simp at far
      refine RMr [] [1080004] 60 ?_
      repeat' first | (refine ⟨fun _ => ?_, fun _ => ?_⟩ <;> try omega) | (refine ⟨by first | omega | (simp only [upm_ap, upd1_ap, Nat.reduceEqDiff, ↓reduceIte, eq_self] at * <;> omega) | fail, ?_⟩) | (refine M_isWell (fun e => absurd e g1.x) (fun _ => ?_)) | (refine M_isWell (fun _ => ?_) (fun _ => by omega)) | (refine P_sgn (c := 43) hP (by omega) (fun e1 => ?_) (fun e1 => absurd h1 (by rw [e1]; decide))) | (refine P_next hP hF (fun m1 hF1 hP1 => ?_)) | (refine S _ _ _ _ m0 _ _ _ hr hP1 (by omega) hF1 (by omega) (fun m2 hF2 hP2 => ?_)) | (refine P_emit hP2 hF2 (by rw [ln_app]; omega) (fun m3 hF3 hP3 => ?_)) | (simp only [upm_ap, upd1_ap, Nat.reduceEqDiff, ↓reduceIte, eq_self] at *) | omega | fail
      exact L _ _ _ _ _ _ m0 _ _ _ _ hk (by rw [List.append_assoc, List.append_assoc] at hP3; exact hP3) (by rw [ln_app] at hl; rw [ln_app, ln_app, ln_app]; show _ + (_ + (_ + ((1 : Nat) : Int))) ≤ _; omega) hF3 (by omega) hQ
  · by_cases h2 : isWb t n q [45] = true
    · rw [if_pos (by rw [h2]; simp)] at h
      simp only [if_neg h1] at h
      have hlt := isWb_lt h2 (by decide) hqn.2.1
      rcases pB_some h with ⟨⟨k, p⟩, hr, rfl⟩ | ⟨c1, l1, q1, hr, hk⟩
      · refine RMr [] [1080004] 60 ?_
        repeat' first | (refine ⟨fun _ => ?_, fun _ => ?_⟩ <;> try omega) | (refine ⟨by first | omega | (simp only [upm_ap, upd1_ap, Nat.reduceEqDiff, ↓reduceIte, eq_self] at * <;> omega) | fail, ?_⟩) | (refine M_isWell (fun e => absurd e g1.x) (fun _ => ?_)) | (refine M_isWell (fun _ => ?_) (fun _ => by omega)) | (refine P_sgn (c := 43) hP (by omega) (fun e1 => absurd e1 h1) (fun e1 => ?_)) | (refine P_sgn (c := 45) hP (by omega) (fun e1 => ?_) (fun e1 => absurd h2 (by rw [e1]; decide))) | (refine P_next hP hF (fun m1 hF1 hP1 => ?_)) | (refine S _ _ _ _ m0 _ _ _ hr hP1 (by omega) hF1 (by omega) (fun m2 g1 => ?_)) | (refine X_emit g1.x ?_) | (simp only [upm_ap, upd1_ap, Nat.reduceEqDiff, ↓reduceIte, eq_self] at *) | omega | fail
        refine RMr [] [] 60 ?_
        repeat' first | (refine ⟨fun _ => ?_, fun _ => ?_⟩ <;> try omega) | (refine ⟨by first | omega | (simp only [upm_ap, upd1_ap, Nat.reduceEqDiff, ↓reduceIte, eq_self] at * <;> omega) | fail, ?_⟩) | (refine M_isWell (fun e => absurd e g1.x) (fun _ => ?_)) | (exact hQ _ g1) | (simp only [upm_ap, upd1_ap, Nat.reduceEqDiff, ↓reduceIte, eq_self] at *) | omega | fail
      · have far := prs_far _ _ _ _ _ _ hnx.2.1 _ _ _ hr
        simp at far
        refine RMr [] [1080004] 60 ?_
        repeat' first | (refine ⟨fun _ => ?_, fun _ => ?_⟩ <;> try omega) | (refine ⟨by first | omega | (simp only [upm_ap, upd1_ap, Nat.reduceEqDiff, ↓reduceIte, eq_self] at * <;> omega) | fail, ?_⟩) | (refine M_isWell (fun e => absurd e g1.x) (fun _ => ?_)) | (refine M_isWell (fun _ => ?_) (fun _ => by omega)) | (refine P_sgn (c := 43) hP (by omega) (fun e1 => absurd e1 h1) (fun e1 => ?_)) | (refine P_sgn (c := 45) hP (by omega) (fun e1 => ?_) (fun e1 => absurd h2 (by rw [e1]; decide))) | (refine P_next hP hF (fun m1 hF1 hP1 => ?_)) | (refine S _ _ _ _ m0 _ _ _ hr hP1 (by omega) hF1 (by omega) (fun m2 hF2 hP2 => ?_)) | (refine P_emit hP2 hF2 (by rw [ln_app]; omega) (fun m3 hF3 hP3 => ?_)) | (simp only [upm_ap, upd1_ap, Nat.reduceEqDiff, ↓reduceIte, eq_self] at *) | omega | fail
        exact L _ _ _ _ _ _ m0 _ _ _ _ hk (by rw [List.append_assoc, List.append_assoc] at hP3; exact hP3) (by rw [ln_app] at hl; rw [ln_app, ln_app, ln_app]; show _ + (_ + (_ + ((1 : Nat) : Int))) ≤ _; omega) hF3 (by omega) hQ
    · rw [if_neg (by simp [h1, h2])] at h
      cases h
      refine RMr [] [1080004] 60 ?_
      repeat' first | (refine ⟨fun _ => ?_, fun _ => ?_⟩ <;> try omega) | (refine ⟨by first | omega | (simp only [upm_ap, upd1_ap, Nat.reduceEqDiff, ↓reduceIte, eq_self] at * <;> omega) | fail, ?_⟩) | (refine M_isWell (fun _ => ?_) (fun _ => by omega)) | (refine P_sgn (c := 43) hP (by omega) (fun e1 => absurd e1 h1) (fun e1 => ?_)) | (refine P_sgn (c := 45) hP (by omega) (fun e1 => absurd e1 h2) (fun e1 => ?_)) | (exact hQ _ hF hP) | (simp only [upm_ap, upd1_ap, Nat.reduceEqDiff, ↓reduceIte, eq_self] at *) | omega | fail
theorem gm3_s {f : Nat} (S : gm2 t n nm f) : gm3 t n nm (f + 1) := by
  intro o q pre m m0 d Q x x1 h hP hl hF hd hQ
  obtain ⟨d', rfl⟩ : ∃ d', d = d' + 4 := ⟨d - 4, by have := hP.op; omega⟩
  have hqn := hP.qn
  have h19 := hP.wl
  rw [prs_3] at h
  rcases pB_some h with ⟨⟨k, p⟩, hr, rfl⟩ | ⟨c1, l1, q1, hr, hk⟩
  · refine RMr [] [] 60 ?_
    repeat' first | (refine ⟨fun _ => ?_, fun _ => ?_⟩ <;> try omega) | (refine ⟨by first | omega | (simp only [upm_ap, upd1_ap, Nat.reduceEqDiff, ↓reduceIte, eq_self] at * <;> omega) | fail, ?_⟩) | (refine M_isWell (fun e => absurd e g1.x) (fun _ => ?_)) | (refine S _ _ _ _ m0 _ _ _ _ hr hP (by omega) hF (by omega) (fun m2 g1 => ?_)) | (exact hQ _ g1) | (simp only [upm_ap, upd1_ap, Nat.reduceEqDiff, ↓reduceIte, eq_self] at *) | omega | fail
  · have far := prs_far _ _ _ _ _ _ hqn.2.1 _ _ _ hr
    simp at far
    have hnx1 := nx_b (t := t) (n := n) (q := q1) (by omega)
    by_cases h60 : isWb t n q1 [60] = true
    · have hlt := isWb_lt h60 (by decide) far.2.1
      rw [if_pos (by rw [h60]; rfl)] at hk
      simp only [if_pos h60] at hk
      rcases pB_some hk with ⟨⟨k, p⟩, hr2, rfl⟩ | ⟨c2, l2, q2, hr2, hk2⟩
      · refine RMr [] [] 120 ?_
        repeat' first | (refine ⟨fun _ => ?_, fun _ => ?_⟩ <;> try omega) | (refine ⟨by first | omega | (simp only [upm_ap, upd1_ap, Nat.reduceEqDiff, ↓reduceIte, eq_self] at * <;> omega) | fail, ?_⟩) | (refine M_isWell (fun e => absurd e g1.x) (fun _ => ?_)) | (refine M_isWell (fun _ => ?_) (fun e => absurd hP1.wl e)) | (refine S _ _ _ _ m0 _ _ _ _ hr hP (by omega) hF (by omega) (fun m1 hF1 hP1 => ?_)) | (refine P_sgn (c := 60) hP1 (by omega) (fun e1 => ?_) (fun e1 => absurd h60 (by rw [e1]; decide))) | (refine P_next hP1 hF1 (fun m2 hF2 hP2 => ?_)) | (refine S _ _ _ _ m0 _ _ _ _ hr2 hP2 (by rw [ln_app]; omega) hF2 (by omega) (fun m2 g1 => ?_)) | (refine X_emit g1.x ?_) | (exact hQ _ g1) | (simp only [upm_ap, upd1_ap, Nat.reduceEqDiff, ↓reduceIte, eq_self] at *) | omega | fail
      · cases hk2
        have far2 := prs_far _ _ _ _ _ _ hnx1.2.1 _ _ _ hr2
        simp at far2
        refine RMr [] [] 120 ?_
        repeat' first | (refine ⟨fun _ => ?_, fun _ => ?_⟩ <;> try omega) | (refine ⟨by first | omega | (simp only [upm_ap, upd1_ap, Nat.reduceEqDiff, ↓reduceIte, eq_self] at * <;> omega) | fail, ?_⟩) | (refine M_isWell (fun _ => ?_) (fun e => absurd hP1.wl e)) | (refine S _ _ _ _ m0 _ _ _ _ hr hP (by omega) hF (by omega) (fun m1 hF1 hP1 => ?_)) | (refine P_sgn (c := 60) hP1 (by omega) (fun e1 => ?_) (fun e1 => absurd h60 (by rw [e1]; decide))) | (refine P_next hP1 hF1 (fun m2 hF2 hP2 => ?_)) | (refine S _ _ _ _ m0 _ _ _ _ hr2 hP2 (by rw [ln_app]; omega) hF2 (by omega) (fun m3 hF3 hP3 => ?_)) | (refine P_emit hP3 hF3 (by rw [ln_app, ln_app]; omega) (fun m4 hF4 hP4 => ?_)) | ((rw [List.append_assoc, List.append_assoc] at hP4; exact hQ _ hF4 hP4)) | (simp only [upm_ap, upd1_ap, Nat.reduceEqDiff, ↓reduceIte, eq_self] at *) | omega | fail
    · by_cases h62 : isWb t n q1 [62] = true
      · have hlt := isWb_lt h62 (by decide) far.2.1
        rw [if_pos (by rw [h62]; simp)] at hk
        simp only [if_neg h60, if_pos h62] at hk
        rcases pB_some hk with ⟨⟨k, p⟩, hr2, rfl⟩ | ⟨c2, l2, q2, hr2, hk2⟩
        · refine RMr [] [] 120 ?_
          repeat' first | (refine ⟨fun _ => ?_, fun _ => ?_⟩ <;> try omega) | (refine ⟨by first | omega | (simp only [upm_ap, upd1_ap, Nat.reduceEqDiff, ↓reduceIte, eq_self] at * <;> omega) | fail, ?_⟩) | (refine M_isWell (fun e => absurd e g1.x) (fun _ => ?_)) | (refine M_isWell (fun _ => ?_) (fun e => absurd hP1.wl e)) | (refine S _ _ _ _ m0 _ _ _ _ hr hP (by omega) hF (by omega) (fun m1 hF1 hP1 => ?_)) | (refine P_sgn (c := 60) hP1 (by omega) (fun e1 => absurd e1 h60) (fun e1 => ?_)) | (refine P_sgn (c := 62) hP1 (by omega) (fun e1 => ?_) (fun e1 => absurd h62 (by rw [e1]; decide))) | (refine P_next hP1 hF1 (fun m2 hF2 hP2 => ?_)) | (refine S _ _ _ _ m0 _ _ _ _ hr2 hP2 (by rw [ln_app]; omega) hF2 (by omega) (fun m2 g1 => ?_)) | (refine X_emit g1.x ?_) | (exact hQ _ g1) | (simp only [upm_ap, upd1_ap, Nat.reduceEqDiff, ↓reduceIte, eq_self] at *) | omega | fail
        · cases hk2
          have far2 := prs_far _ _ _ _ _ _ hnx1.2.1 _ _ _ hr2
          simp at far2
          refine RMr [] [] 120 ?_
          repeat' first | (refine ⟨fun _ => ?_, fun _ => ?_⟩ <;> try omega) | (refine ⟨by first | omega | (simp only [upm_ap, upd1_ap, Nat.reduceEqDiff, ↓reduceIte, eq_self] at * <;> omega) | fail, ?_⟩) | (refine M_isWell (fun _ => ?_) (fun e => absurd hP1.wl e)) | (refine S _ _ _ _ m0 _ _ _ _ hr hP (by omega) hF (by omega) (fun m1 hF1 hP1 => ?_)) | (refine P_sgn (c := 60) hP1 (by omega) (fun e1 => absurd e1 h60) (fun e1 => ?_)) | (refine P_sgn (c := 62) hP1 (by omega) (fun e1 => ?_) (fun e1 => absurd h62 (by rw [e1]; decide))) | (refine P_next hP1 hF1 (fun m2 hF2 hP2 => ?_)) | (refine S _ _ _ _ m0 _ _ _ _ hr2 hP2 (by rw [ln_app]; omega) hF2 (by omega) (fun m3 hF3 hP3 => ?_)) | (refine P_emit hP3 hF3 (by rw [ln_app, ln_app]; omega) (fun m4 hF4 hP4 => ?_)) | ((rw [List.append_assoc, List.append_assoc] at hP4; exact hQ _ hF4 hP4)) | (simp only [upm_ap, upd1_ap, Nat.reduceEqDiff, ↓reduceIte, eq_self] at *) | omega | fail
      · by_cases h61 : isWb t n q1 [61] = true
        · have hlt := isWb_lt h61 (by decide) far.2.1
          rw [if_pos (by rw [h61]; simp)] at hk
          simp only [if_neg h60, if_neg h62] at hk
          rcases pB_some hk with ⟨⟨k, p⟩, hr2, rfl⟩ | ⟨c2, l2, q2, hr2, hk2⟩
          · refine RMr [] [] 120 ?_
            repeat' first | (refine ⟨fun _ => ?_, fun _ => ?_⟩ <;> try omega) | (refine ⟨by first | omega | (simp only [upm_ap, upd1_ap, Nat.reduceEqDiff, ↓reduceIte, eq_self] at * <;> omega) | fail, ?_⟩) | (refine M_isWell (fun e => absurd e g1.x) (fun _ => ?_)) | (refine M_isWell (fun _ => ?_) (fun e => absurd hP1.wl e)) | (refine S _ _ _ _ m0 _ _ _ _ hr hP (by omega) hF (by omega) (fun m1 hF1 hP1 => ?_)) | (refine P_sgn (c := 60) hP1 (by omega) (fun e1 => absurd e1 h60) (fun e1 => ?_)) | (refine P_sgn (c := 62) hP1 (by omega) (fun e1 => absurd e1 h62) (fun e1 => ?_)) | (refine P_sgn (c := 61) hP1 (by omega) (fun e1 => ?_) (fun e1 => absurd h61 (by rw [e1]; decide))) | (refine P_next hP1 hF1 (fun m2 hF2 hP2 => ?_)) | (refine S _ _ _ _ m0 _ _ _ _ hr2 hP2 (by rw [ln_app]; omega) hF2 (by omega) (fun m2 g1 => ?_)) | (refine X_emit g1.x ?_) | (exact hQ _ g1) | (simp only [upm_ap, upd1_ap, Nat.reduceEqDiff, ↓reduceIte, eq_self] at *) | omega | fail
          · cases hk2
            have far2 := prs_far _ _ _ _ _ _ hnx1.2.1 _ _ _ hr2
            simp at far2
            refine RMr [] [] 120 ?_
            repeat' first | (refine ⟨fun _ => ?_, fun _ => ?_⟩ <;> try omega) | (refine ⟨by first | omega | (simp only [upm_ap, upd1_ap, Nat.reduceEqDiff, ↓reduceIte, eq_self] at * <;> omega) | fail, ?_⟩) | (refine M_isWell (fun _ => ?_) (fun e => absurd hP1.wl e)) | (refine S _ _ _ _ m0 _ _ _ _ hr hP (by omega) hF (by omega) (fun m1 hF1 hP1 => ?_)) | (refine P_sgn (c := 60) hP1 (by omega) (fun e1 => absurd e1 h60) (fun e1 => ?_)) | (refine P_sgn (c := 62) hP1 (by omega) (fun e1 => absurd e1 h62) (fun e1 => ?_)) | (refine P_sgn (c := 61) hP1 (by omega) (fun e1 => ?_) (fun e1 => absurd h61 (by rw [e1]; decide))) | (refine P_next hP1 hF1 (fun m2 hF2 hP2 => ?_)) | (refine S _ _ _ _ m0 _ _ _ _ hr2 hP2 (by rw [ln_app]; omega) hF2 (by omega) (fun m3 hF3 hP3 => ?_)) | (refine P_emit hP3 hF3 (by rw [ln_app, ln_app]; omega) (fun m4 hF4 hP4 => ?_)) | ((rw [List.append_assoc, List.append_assoc] at hP4; exact hQ _ hF4 hP4)) | (simp only [upm_ap, upd1_ap, Nat.reduceEqDiff, ↓reduceIte, eq_self] at *) | omega | fail
        · rw [if_neg (by simp [h60, h61, h62])] at hk
          cases hk
          refine RMr [] [] 120 ?_
          repeat' first | (refine ⟨fun _ => ?_, fun _ => ?_⟩ <;> try omega) | (refine ⟨by first | omega | (simp only [upm_ap, upd1_ap, Nat.reduceEqDiff, ↓reduceIte, eq_self] at * <;> omega) | fail, ?_⟩) | (refine M_isWell (fun e => absurd e g1.x) (fun _ => ?_)) | (refine M_isWell (fun _ => ?_) (fun e => absurd hP1.wl e)) | (refine S _ _ _ _ m0 _ _ _ _ hr hP (by omega) hF (by omega) (fun m1 hF1 hP1 => ?_)) | (refine P_sgn (c := 60) hP1 (by omega) (fun e1 => absurd e1 h60) (fun e1 => ?_)) | (refine P_sgn (c := 62) hP1 (by omega) (fun e1 => absurd e1 h62) (fun e1 => ?_)) | (refine P_sgn (c := 61) hP1 (by omega) (fun e1 => absurd e1 h61) (fun e1 => ?_)) | (refine P_fail hP1 hF1 (by decide) (fun m2 g1 g2 => ?_)) | (exact hQ _ g1) | (simp only [upm_ap, upd1_ap, Nat.reduceEqDiff, ↓reduceIte, eq_self] at *) | omega | fail
theorem gm4_s {f : Nat} (S : gm3 t n nm f) (S6 : gm6 t n nm f) (L : gm4 t n nm f) : gm4 t n nm (f + 1) := by
  intro o q c pre m m0 d Q x h hP hl hF hd hQ
  obtain ⟨d', rfl⟩ : ∃ d', d = d' + 4 := ⟨d - 4, by have := hP.op; omega⟩
  have hqn := hP.qn
  have h19 := hP.wl
  have hop := hP.op
  have hnx := nx_b (t := t) hqn.2.1
  rw [prs_4] at h
  by_cases h0 : isWb t n q wNot = true
  · rw [if_pos h0] at h
    have hlt := isWb_lt h0 (by decide) hqn.2.1
    by_cases hc : c = []
    · rw [if_pos hc] at h
      rw [if_pos hc]
      refine RMr [] [1030002] 60 ?_
      repeat' first | (refine ⟨fun _ => ?_, fun _ => ?_⟩ <;> try omega) | (refine ⟨by first | omega | (simp only [upm_ap, upd1_ap, Nat.reduceEqDiff, ↓reduceIte, eq_self] at * <;> omega) | fail, ?_⟩) | (refine M_isWell (fun _ => ?_) (fun _ => by omega)) | (refine P_isw (w := wNot) rfl hP (by decide) (fun e1 => ?_) (fun e1 => absurd h0 (by rw [e1]; decide))) | (refine P_next hP hF (fun m1 hF1 hP1 => ?_)) | (exact L _ _ _ _ _ m0 _ _ _ h hP1 (by omega) hF1 (by omega) hQ) | (simp only [upm_ap, upd1_ap, Nat.reduceEqDiff, ↓reduceIte, eq_self] at *) | omega | fail
    · rw [if_neg hc] at h
      rw [if_neg hc]
      refine RMr [] [1030002] 60 ?_
      repeat' first | (refine ⟨fun _ => ?_, fun _ => ?_⟩ <;> try omega) | (refine ⟨by first | omega | (simp only [upm_ap, upd1_ap, Nat.reduceEqDiff, ↓reduceIte, eq_self] at * <;> omega) | fail, ?_⟩) | (refine M_isWell (fun _ => ?_) (fun _ => by omega)) | (refine P_isw (w := wNot) rfl hP (by decide) (fun e1 => ?_) (fun e1 => absurd h0 (by rw [e1]; decide))) | (refine P_next hP hF (fun m1 hF1 hP1 => ?_)) | (exact L _ _ _ _ _ m0 _ _ _ h hP1 (by omega) hF1 (by omega) hQ) | (simp only [upm_ap, upd1_ap, Nat.reduceEqDiff, ↓reduceIte, eq_self] at *) | omega | fail
  · rw [if_neg h0] at h
    generalize htu : (if c = [] then (0 : Int) else 1) = tu
    have htn : ∀ c1, trn c c1 = if c = [] then c1 else c1 ++ [-9] := fun _ => rfl
    by_cases h1 : isWb t n q [91] = true
    · rw [if_pos h1] at h
      have hlt := isWb_lt h1 (by decide) hqn.2.1
      by_cases ho : 4 ≤ o
      · rw [if_pos ho] at h
        cases h
        refine RMr [] [1030002] 90 ?_
        repeat' first | (refine ⟨fun _ => ?_, fun _ => ?_⟩ <;> try omega) | (refine ⟨by first | omega | (simp only [upm_ap, upd1_ap, Nat.reduceEqDiff, ↓reduceIte, eq_self] at * <;> omega) | fail, ?_⟩) | (refine M_isWell (fun e => absurd e g1.x) (fun _ => ?_)) | (refine M_isWell (fun _ => ?_) (fun _ => by omega)) | (refine P_isw (w := wNot) rfl hP (by decide) (fun e1 => absurd e1 h0) (fun e1 => ?_)) | (refine P_sgn (c := 91) hP (by omega) (fun e1 => ?_) (fun e1 => absurd h1 (by rw [e1]; decide))) | (refine P_open hP hF (fun _ => by omega) (fun _ m1 g1 g2 => ?_)) | (refine X_cond g1.x ?_) | (refine X_wsgn g1.x ?_) | ((refine ⟨by have := g1.2.2; omega, ?_⟩)) | (refine X_emit (g1.dn2 g2).x ?_) | (exact hQ _ (g1.dn2 g2)) | (simp only [upm_ap, upd1_ap, Nat.reduceEqDiff, ↓reduceIte, eq_self] at *) | omega | fail
      · rw [if_neg ho] at h
        rcases pB_some h with ⟨⟨k, p⟩, hr, rfl⟩ | ⟨c1, l1, q1, hr, hk⟩
        · refine RMr [] [1030002] 90 ?_
          repeat' first | (refine ⟨fun _ => ?_, fun _ => ?_⟩ <;> try omega) | (refine ⟨by first | omega | (simp only [upm_ap, upd1_ap, Nat.reduceEqDiff, ↓reduceIte, eq_self] at * <;> omega) | fail, ?_⟩) | (refine M_isWell (fun e => absurd e g1.x) (fun _ => ?_)) | (refine M_isWell (fun _ => ?_) (fun _ => by omega)) | (refine P_isw (w := wNot) rfl hP (by decide) (fun e1 => absurd e1 h0) (fun e1 => ?_)) | (refine P_sgn (c := 91) hP (by omega) (fun e1 => ?_) (fun e1 => absurd h1 (by rw [e1]; decide))) | (refine P_open hP hF (fun _ m1 hF1 hP1 => ?_) (fun _ => by omega)) | (refine S6 _ _ _ _ m0 _ _ _ hr hP1 (by omega) hF1 (by omega) (fun m2 g1 => ?_)) | (refine X_wsgn g1.x ?_) | ((refine ⟨by have := g1.2.2; omega, ?_⟩)) | (refine X_emit g1.dn.x ?_) | (exact hQ _ g1.dn) | (simp only [upm_ap, upd1_ap, Nat.reduceEqDiff, ↓reduceIte, eq_self] at *) | omega | fail
        · have far := prs_far _ _ _ _ _ _ hnx.2.1 _ _ _ hr
          simp at far
          by_cases h3 : isWb t n q1 [93] = true
          · rw [if_pos h3] at hk
            have hk := hk.symm
            cases hk
            have hnx1 := nx_b (t := t) (n := n) (q := q1) (by omega)
            refine RMr [] [1030002] 90 ?_
            repeat' first | (refine ⟨fun _ => ?_, fun _ => ?_⟩ <;> try omega) | (refine ⟨by first | omega | (simp only [upm_ap, upd1_ap, Nat.reduceEqDiff, ↓reduceIte, eq_self] at * <;> omega) | fail, ?_⟩) | (refine M_isWell (fun e => absurd e g1.x) (fun _ => ?_)) | (refine M_isWell (fun _ => ?_) (fun _ => by omega)) | (refine P_isw (w := wNot) rfl hP (by decide) (fun e1 => absurd e1 h0) (fun e1 => ?_)) | (refine P_sgn (c := 91) hP (by omega) (fun e1 => ?_) (fun e1 => absurd h1 (by rw [e1]; decide))) | (refine P_open hP hF (fun _ m1 hF1 hP1 => ?_) (fun _ => by omega)) | (refine S6 _ _ _ _ m0 _ _ _ hr hP1 (by omega) hF1 (by omega) (fun m2 hF2 hP2 => ?_)) | (refine P_wsgn hP2 hF2 (by omega) (fun _ m3 hF3 hP3 => ?_) (fun e1 => absurd h3 (by rw [e1]; decide))) | ((refine ⟨by have := hP3.op; omega, ?_⟩)) | (refine P_emit (MP_o hP3 (o' := o) (by omega) (by have := hP3.op; omega)) (hF3.up (by decide)) (by rw [ln_app]; omega) (fun m4 hF4 hP4 => ?_)) | (simp only [upm_ap, upd1_ap, Nat.reduceEqDiff, ↓reduceIte, eq_self] at *) | omega | fail
            · have hc : c = [] := by
                by_cases e : c = []
                · exact e
                · rw [if_neg e] at htu; omega
              have hQ : ∀ m', frX m0 m' → MP t n nm (nx t n q1) o (pre ++ trn c c1) m' → Q rV m' := hQ
              rw [htn, if_pos hc] at hQ
              exact hQ _ (hF3.up (by decide)) (MP_o hP3 (by omega) (by have := hP3.op; omega))
            · have hc : c ≠ [] := fun e => by rw [if_pos e] at htu; omega
              have hQ : ∀ m', frX m0 m' → MP t n nm (nx t n q1) o (pre ++ trn c c1) m' → Q rV m' := hQ
              rw [htn, if_neg hc] at hQ
              rw [List.append_assoc] at hP4
              exact hQ _ hF4 hP4
          · rw [if_neg h3] at hk
            cases hk
            refine RMr [] [1030002] 90 ?_
            repeat' first | (refine ⟨fun _ => ?_, fun _ => ?_⟩ <;> try omega) | (refine ⟨by first | omega | (simp only [upm_ap, upd1_ap, Nat.reduceEqDiff, ↓reduceIte, eq_self] at * <;> omega) | fail, ?_⟩) | (refine M_isWell (fun e => absurd e g1.x) (fun _ => ?_)) | (refine M_isWell (fun _ => ?_) (fun _ => by omega)) | (refine P_isw (w := wNot) rfl hP (by decide) (fun e1 => absurd e1 h0) (fun e1 => ?_)) | (refine P_sgn (c := 91) hP (by omega) (fun e1 => ?_) (fun e1 => absurd h1 (by rw [e1]; decide))) | (refine P_open hP hF (fun _ m1 hF1 hP1 => ?_) (fun _ => by omega)) | (refine S6 _ _ _ _ m0 _ _ _ hr hP1 (by omega) hF1 (by omega) (fun m2 hF2 hP2 => ?_)) | (refine P_wsgn hP2 hF2 (by omega) (fun e1 => absurd e1 h3) (fun _ m3 g1 g2 => ?_)) | ((refine ⟨by have := g1.2.2; omega, ?_⟩)) | (refine X_emit g1.dn.x ?_) | (exact hQ _ g1.dn) | (simp only [upm_ap, upd1_ap, Nat.reduceEqDiff, ↓reduceIte, eq_self] at *) | omega | fail
    · rw [if_neg h1] at h
      rcases pB_some h with ⟨⟨k, p⟩, hr, rfl⟩ | ⟨c1, l1, q1, hr, hk⟩
      · refine RMr [] [1030002] 90 ?_
        repeat' first | (refine ⟨fun _ => ?_, fun _ => ?_⟩ <;> try omega) | (refine ⟨by first | omega | (simp only [upm_ap, upd1_ap, Nat.reduceEqDiff, ↓reduceIte, eq_self] at * <;> omega) | fail, ?_⟩) | (refine M_isWell (fun e => absurd e g1.x) (fun _ => ?_)) | (refine M_isWell (fun _ => ?_) (fun _ => by omega)) | (refine P_isw (w := wNot) rfl hP (by decide) (fun e1 => absurd e1 h0) (fun e1 => ?_)) | (refine P_sgn (c := 91) hP (by omega) (fun e1 => absurd e1 h1) (fun e1 => ?_)) | (refine S _ _ _ _ m0 _ _ _ _ hr hP (by omega) hF (by omega) (fun m2 g1 => ?_)) | (refine X_emit g1.x ?_) | (exact hQ _ g1) | (simp only [upm_ap, upd1_ap, Nat.reduceEqDiff, ↓reduceIte, eq_self] at *) | omega | fail
      · have far := prs_far _ _ _ _ _ _ hqn.2.1 _ _ _ hr
        simp at far
        have hk := hk.symm
        cases hk
        refine RMr [] [1030002] 90 ?_
        repeat' first | (refine ⟨fun _ => ?_, fun _ => ?_⟩ <;> try omega) | (refine ⟨by first | omega | (simp only [upm_ap, upd1_ap, Nat.reduceEqDiff, ↓reduceIte, eq_self] at * <;> omega) | fail, ?_⟩) | (refine M_isWell (fun e => absurd e g1.x) (fun _ => ?_)) | (refine M_isWell (fun _ => ?_) (fun _ => by omega)) | (refine P_isw (w := wNot) rfl hP (by decide) (fun e1 => absurd e1 h0) (fun e1 => ?_)) | (refine P_sgn (c := 91) hP (by omega) (fun e1 => absurd e1 h1) (fun e1 => ?_)) | (refine S _ _ _ _ m0 _ _ _ _ hr hP (by omega) hF (by omega) (fun m3 hF3 hP3 => ?_)) | (refine P_emit hP3 hF3 (by rw [ln_app]; omega) (fun m4 hF4 hP4 => ?_)) | (simp only [upm_ap, upd1_ap, Nat.reduceEqDiff, ↓reduceIte, eq_self] at *) | omega | fail
        · have hc : c = [] := by
            by_cases e : c = []
            · exact e
            · rw [if_neg e] at htu; omega
          have hQ : ∀ m', frX m0 m' → MP t n nm q1 o (pre ++ trn c c1) m' → Q rV m' := hQ
          rw [htn, if_pos hc] at hQ
          exact hQ _ hF3 hP3
        · have hc : c ≠ [] := fun e => by rw [if_pos e] at htu; omega
          have hQ : ∀ m', frX m0 m' → MP t n nm q1 o (pre ++ trn c c1) m' → Q rV m' := hQ
          rw [htn, if_neg hc] at hQ
          rw [List.append_assoc] at hP4
          exact hQ _ hF4 hP4
theorem gm_all : ∀ f : Nat, (gm0 t n nm f ∧ gm1 t n nm f ∧ gm7 t n nm f ∧ gm2 t n nm f ∧ gm8 t n nm f ∧ gm3 t n nm f) ∧ (gm4 t n nm f ∧ gm5 t n nm f ∧ gm9 t n nm f ∧ gm6 t n nm f ∧ gm10 t n nm f)
  | 0 => by
    refine ⟨⟨?_, ?_, ?_, ?_, ?_, ?_⟩, ?_, ?_, ?_, ?_, ?_⟩
    · intro o q pre m m0 d Q x x1 h; cases h
    · intro o q pre m m0 d Q x h; cases h
    · intro o q c l pre m m0 d Q x h; cases h
    · intro o q pre m m0 d Q x x1 h; cases h
    · intro o q c l pre m m0 d Q x x1 h; cases h
    · intro o q pre m m0 d Q x x1 h; cases h
    · intro o q c pre m m0 d Q x h; cases h
    · intro o q pre m m0 d Q x h; cases h
    · intro o q c l pre m m0 d Q x h; cases h
    · intro o q pre m m0 d Q x h; cases h
    · intro o q c l pre m m0 d Q x h; cases h
  | f + 1 => by
    obtain ⟨⟨a0, a1, a7, a2, a8, a3⟩, a4, a5, a9, a6, a10⟩ := gm_all f
    exact ⟨⟨gm0_s a2, gm1_s a0 a7, gm7_s a0 a7, gm2_s a1 a8, gm8_s a1 a8, gm3_s a2⟩, gm4_s a3 a6 a4, gm5_s a4 a9, gm9_s a4 a9, gm6_s a5 a10, gm10_s a5 a10⟩
end
