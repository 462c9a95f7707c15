/-! THE MODEL READS: what is wanted, what is written -/
set_option maxHeartbeats 1600000
set_option maxRecDepth 100000
theorem getD_al {l r : List Int} {i : Nat} (h : i < l.length) : (l ++ r).getD i 0 = l.getD i 0 := by rw [List.getD_eq_getElem?_getD, List.getD_eq_getElem?_getD, List.getElem?_append_left h]
theorem getD_ar {l r : List Int} {i : Nat} (h : l.length ≤ i) : (l ++ r).getD i 0 = r.getD (i - l.length) 0 := by rw [List.getD_eq_getElem?_getD, List.getD_eq_getElem?_getD, List.getElem?_append_right h]
section
variable {d : Nat} {m m0 : sg} {Q : mQ sg} {t : Int → Int} {n : Int} {nm : Nat} {q o : Int} {pre : List Int}
theorem P_wsgn {c : Int} (hP : MP t n nm q o pre m) (hF : frX m0 m) (hc : (c < 48 ∨ 57 < c) ∧ (c < 97 ∨ 122 < c) ∧ c ≠ 0) (h1 : isWb t n q [c] = true → ∀ m', frX m0 m' → MP t n nm (nx t n q) o pre m' → Q rV m') (h0 : isWb t n q [c] = false → ∀ m', FT m0 1 q o m' → m' 22 0 = o → Q rV m') : RM (d + 2) 106 (0, [some (mR 1026), some (mI c)], [], m) Q := by
  have h19 := hP.2.1.1
  refine RMr [] [] 60 ?_
  repeat' first | (refine ⟨fun _ => ?_, fun _ => ?_⟩ <;> try omega) | (refine ⟨by first | omega | (simp only [upm_ap, upd1_ap, Nat.reduceEqDiff, ↓reduceIte, eq_self] at * <;> omega) | fail, ?_⟩) | (refine M_isWell (fun e => absurd e g1.x) (fun _ => ?_)) | (refine M_isWell (fun _ => ?_) (fun _ => ?_)) | (refine P_sgn hP hc (fun e1 => ?_) (fun e0 => ?_)) | (refine P_next hP hF (fun m' hF' hP' => ?_)) | (refine P_fail hP hF (by decide) (fun m' g1 g2 => ?_)) | (exact h1 e1 _ hF' hP') | (exact h0 e0 _ g1 g2) | (simp only [upm_ap, upd1_ap, Nat.reduceEqDiff, ↓reduceIte, eq_self] at *) | omega | fail
theorem X_wsgn {c : Int} (hX : m 19 0 ≠ 0) (hQ : Q rV m) : RM (d + 2) 106 (0, [some (mR 1026), some (mI c)], [], m) Q := by
  refine RMr [] [] 60 ?_
  repeat' first | (refine ⟨fun _ => ?_, fun _ => ?_⟩ <;> try omega) | (refine ⟨by first | omega | (simp only [upm_ap, upd1_ap, Nat.reduceEqDiff, ↓reduceIte, eq_self] at * <;> omega) | fail, ?_⟩) | (refine M_isWell (fun e => absurd e g1.x) (fun _ => ?_)) | (refine M_isWell (fun _ => ?_) (fun _ => ?_)) | (exact hQ) | (simp only [upm_ap, upd1_ap, Nat.reduceEqDiff, ↓reduceIte, eq_self] at *) | omega | fail
theorem P_wwd {a : Int} {w : List Int} (hw : lit a = w) (hP : MP t n nm q o pre m) (hF : frX m0 m) (ha : (100 ≤ a ∧ a < 159) ∧ (97 ≤ w.getD 0 0 ∧ w.getD 0 0 ≤ 122)) (h1 : isWb t n q w = true → ∀ m', frX m0 m' → MP t n nm (nx t n q) o pre m' → Q rV m') (h0 : isWb t n q w = false → ∀ m', FT m0 1 q o m' → m' 22 0 = o → Q rV m') : RM (d + 2) 100 (0, [some (mR 1026), some (mR a)], [], m) Q := by
  have h19 := hP.2.1.1
  refine RMr [] [] 60 ?_
  repeat' first | (refine ⟨fun _ => ?_, fun _ => ?_⟩ <;> try omega) | (refine ⟨by first | omega | (simp only [upm_ap, upd1_ap, Nat.reduceEqDiff, ↓reduceIte, eq_self] at * <;> omega) | fail, ?_⟩) | (refine M_isWell (fun e => absurd e g1.x) (fun _ => ?_)) | (refine M_isWell (fun _ => ?_) (fun _ => ?_)) | (refine P_isw hw hP ha (fun e1 => ?_) (fun e0 => ?_)) | (refine P_next hP hF (fun m' hF' hP' => ?_)) | (refine P_fail hP hF (by decide) (fun m' g1 g2 => ?_)) | (exact h1 e1 _ hF' hP') | (exact h0 e0 _ g1 g2) | (simp only [upm_ap, upd1_ap, Nat.reduceEqDiff, ↓reduceIte, eq_self] at *) | omega | fail
theorem X_wwd {a : Int} (hX : m 19 0 ≠ 0) (hQ : Q rV m) : RM (d + 2) 100 (0, [some (mR 1026), some (mR a)], [], m) Q := by
  refine RMr [] [] 60 ?_
  repeat' first | (refine ⟨fun _ => ?_, fun _ => ?_⟩ <;> try omega) | (refine ⟨by first | omega | (simp only [upm_ap, upd1_ap, Nat.reduceEqDiff, ↓reduceIte, eq_self] at * <;> omega) | fail, ?_⟩) | (refine M_isWell (fun e => absurd e g1.x) (fun _ => ?_)) | (refine M_isWell (fun _ => ?_) (fun _ => ?_)) | (exact hQ) | (simp only [upm_ap, upd1_ap, Nat.reduceEqDiff, ↓reduceIte, eq_self] at *) | omega | fail
theorem X_emit {c : Int} (hX : m 19 0 ≠ 0) (hQ : Q rV m) : RM (d + 1) 111 (0, [some (mR 1026), some (mI c)], [], m) Q := by
  refine RMr [] [] 60 ?_
  repeat' first | (refine ⟨fun _ => ?_, fun _ => ?_⟩ <;> try omega) | (refine ⟨by first | omega | (simp only [upm_ap, upd1_ap, Nat.reduceEqDiff, ↓reduceIte, eq_self] at * <;> omega) | fail, ?_⟩) | (refine M_isWell (fun e => absurd e g1.x) (fun _ => ?_)) | (refine M_isWell (fun _ => ?_) (fun _ => ?_)) | (exact hQ) | (simp only [upm_ap, upd1_ap, Nat.reduceEqDiff, ↓reduceIte, eq_self] at *) | omega | fail
theorem P_emit {c : Int} (hP : MP t n nm q o pre m) (hF : frX m0 m) (hl : (pre.length : Int) < 420) (hQ : ∀ m', frX m0 m' → MP t n nm q o (pre ++ [c]) m' → Q rV m') : RM (d + 1) 111 (0, [some (mR 1026), some (mI c)], [], m) Q := by
  have h19 := hP.2.1.1
  have h5 := hP.2.2.1.1
  have go : Q rV (upm (upm m 4 (18480 + m 5 44) c) 5 44 (m 5 44 + 1)) := by
    obtain ⟨⟨h1, h2, h3⟩, ⟨h4, h5, h6, h6'⟩, ⟨h7, h8⟩, h9, h10⟩ := hP
    refine hQ _ ⟨fun j hj => ?_, fun i hi => ?_, fun i hi => ?_⟩ ⟨⟨h1, h2, h3⟩, ⟨h4, h5, h6, h6'⟩, ⟨?_, fun i hi => ?_⟩, h9, h10⟩
    · rw [upm_n (fun e => by subst e; cases hj), upm_n (fun e => by subst e; cases hj)]
      exact hF.1 j hj
    · rw [upm_n (by decide), upm_s, upd1_n (by omega)]
      exact hF.2.1 i hi
    · rw [upm_s, upd1_n hi, upm_n (by decide)]
      exact hF.2.2 i hi
    · rw [upm_s, upd1_s, h7, List.length_append]
      rfl
    · rw [upm_n (by decide), upm_s, h7]
      rw [List.length_append] at hi
      have hi : i < pre.length + 1 := hi
      by_cases hi2 : i = pre.length
      · rw [hi2, upd1_s, getD_ar (Nat.le_refl _), Nat.sub_self]
        rfl
      · rw [upd1_n (by omega), h8 i (by omega), getD_al (by omega)]
  refine RMr [] [] 60 ?_
  repeat' first | (refine ⟨fun _ => ?_, fun _ => ?_⟩ <;> try omega) | (refine ⟨by first | omega | (simp only [upm_ap, upd1_ap, Nat.reduceEqDiff, ↓reduceIte, eq_self] at * <;> omega) | fail, ?_⟩) | (refine M_isWell (fun e => absurd e g1.x) (fun _ => ?_)) | (refine M_isWell (fun _ => ?_) (fun _ => ?_)) | (exact go) | (simp only [upm_ap, upd1_ap, Nat.reduceEqDiff, ↓reduceIte, eq_self] at *) | omega | fail
theorem X_open (hX : m 19 0 ≠ 0) (hQ : Q rV m) : RM (d + 2) 105 (0, [some (mR 1026)], [], m) Q := by
  refine RMr [] [] 60 ?_
  repeat' first | (refine ⟨fun _ => ?_, fun _ => ?_⟩ <;> try omega) | (refine ⟨by first | omega | (simp only [upm_ap, upd1_ap, Nat.reduceEqDiff, ↓reduceIte, eq_self] at * <;> omega) | fail, ?_⟩) | (refine M_isWell (fun e => absurd e g1.x) (fun _ => ?_)) | (refine M_isWell (fun _ => ?_) (fun _ => ?_)) | (refine M_fails (fun _ => ?_) (fun _ => ?_)) | (exact hQ) | (simp only [upm_ap, upd1_ap, Nat.reduceEqDiff, ↓reduceIte, eq_self] at *) | omega | fail
theorem MP_o {o' : Int} (hP : MP t n nm q o pre m) (ho : 0 ≤ o' ∧ o' ≤ 4) {v : Int} (hv : v = o') : MP t n nm q o' pre (upm m 22 0 v) := by
  subst hv
  obtain ⟨⟨h1, h2, h3⟩, ⟨h4, h5, h6, h6'⟩, ⟨h7, h8⟩, h9, h10⟩ := hP
  exact ⟨⟨h1, h2, h3⟩, ⟨h4, by rw [upm_s, upd1_s], h6, h6'⟩, ⟨h7, h8⟩, h9, ho⟩
theorem P_open (hP : MP t n nm q o pre m) (hF : frX m0 m) (h1 : o < 4 → ∀ m', frX m0 m' → MP t n nm (nx t n q) (o + 1) pre m' → Q rV m') (h0 : 4 ≤ o → ∀ m', FT m0 4 q o m' → m' 22 0 = o → Q rV m') : RM (d + 2) 105 (0, [some (mR 1026)], [], m) Q := by
  have h19 := hP.2.1.1
  have h22 := hP.2.1.2.1
  have hb := hP.2.2.2.2
  by_cases ho : o < 4
  · have hP' := MP_o hP (o' := o + 1) (by omega) (v := m 22 0 + 1) (by omega)
    have hF' := hF.up (j := 22) (by decide) (i := 0) (v := m 22 0 + 1)
    refine RMr [] [] 60 ?_
    repeat' first | (refine ⟨fun _ => ?_, fun _ => ?_⟩ <;> try omega) | (refine ⟨by first | omega | (simp only [upm_ap, upd1_ap, Nat.reduceEqDiff, ↓reduceIte, eq_self] at * <;> omega) | fail, ?_⟩) | (refine M_isWell (fun e => absurd e g1.x) (fun _ => ?_)) | (refine M_isWell (fun _ => ?_) (fun _ => ?_)) | (refine P_next hP' hF' (fun m' hF' hP' => ?_)) | (exact h1 ho _ hF' hP') | (simp only [upm_ap, upd1_ap, Nat.reduceEqDiff, ↓reduceIte, eq_self] at *) | omega | fail
  · refine RMr [] [] 60 ?_
    repeat' first | (refine ⟨fun _ => ?_, fun _ => ?_⟩ <;> try omega) | (refine ⟨by first | omega | (simp only [upm_ap, upd1_ap, Nat.reduceEqDiff, ↓reduceIte, eq_self] at * <;> omega) | fail, ?_⟩) | (refine M_isWell (fun e => absurd e g1.x) (fun _ => ?_)) | (refine M_isWell (fun _ => ?_) (fun _ => ?_)) | (refine P_fail hP hF (by decide) (fun m' g1 g2 => ?_)) | (exact h0 (by omega) _ g1 g2) | (simp only [upm_ap, upd1_ap, Nat.reduceEqDiff, ↓reduceIte, eq_self] at *) | omega | fail
theorem wix_cons (w : List Int) (r : List (List Int)) : wix t n q (w :: r) = if isWb t n q w then 0 else if wix t n q r = -1 then -1 else wix t n q r + 1 := rfl
theorem P_name {x1 : Option mV} (hP : MP t n nm q o pre m) (hQ : Q (rI (wix t n q (wNm.take nm))) m) : RM (d + 2) 112 (0, [some (mR 1026), x1], [], m) Q := by
  have h23 := hP.2.1.2.2.1
  rcases hP.2.1.2.2.2 with hn | hn
  · rw [hn] at hQ h23
    have h23 : m 23 0 = 1 := h23
    have hQ : Q (rI (wix t n q wNm)) m := hQ
    unfold wNm at hQ
    simp only [wix_cons] at hQ
    refine RMr [] [] 200 ?_
    repeat' first | (refine ⟨fun _ => ?_, fun _ => ?_⟩ <;> try omega) | (refine ⟨by first | omega | (simp only [upm_ap, upd1_ap, Nat.reduceEqDiff, ↓reduceIte, eq_self] at * <;> omega) | fail, ?_⟩) | (refine P_isw (a := 124) (w := [112, 111, 111, 114]) rfl hP (by decide) (fun h124 => ?_) (fun h124 => ?_)) | (refine P_isw (a := 125) (w := [109, 97, 105, 100, 115]) rfl hP (by decide) (fun h125 => ?_) (fun h125 => ?_)) | (refine P_isw (a := 126) (w := [98, 111, 121, 115]) rfl hP (by decide) (fun h126 => ?_) (fun h126 => ?_)) | (refine P_isw (a := 127) (w := [115, 105, 99, 107]) rfl hP (by decide) (fun h127 => ?_) (fun h127 => ?_)) | (refine P_isw (a := 128) (w := [98, 114, 101, 97, 100]) rfl hP (by decide) (fun h128 => ?_) (fun h128 => ?_)) | (refine P_isw (a := 129) (w := [99, 111, 97, 108]) rfl hP (by decide) (fun h129 => ?_) (fun h129 => ?_)) | (refine P_isw (a := 130) (w := [114, 101, 110, 116]) rfl hP (by decide) (fun h130 => ?_) (fun h130 => ?_)) | (refine P_isw (a := 131) (w := [108, 97, 107, 101]) rfl hP (by decide) (fun h131 => ?_) (fun h131 => ?_)) | (refine P_isw (a := 132) (w := [105, 110, 99, 111, 109, 101]) rfl hP (by decide) (fun h132 => ?_) (fun h132 => ?_)) | (refine P_isw (a := 133) (w := [99, 111, 105, 110]) rfl hP (by decide) (fun h133 => ?_) (fun h133 => ?_)) | (refine P_isw (a := 134) (w := [108, 105, 118, 105, 110, 103]) rfl hP (by decide) (fun h134 => ?_) (fun h134 => ?_)) | (refine P_isw (a := 135) (w := [100, 101, 97, 100]) rfl hP (by decide) (fun h135 => ?_) (fun h135 => ?_)) | (refine P_isw (a := 136) (w := [109, 97, 114, 107, 115]) rfl hP (by decide) (fun h136 => ?_) (fun h136 => ?_)) | ((simp only [*, ↓reduceIte] at hQ; exact hQ)) | (simp only [upm_ap, upd1_ap, Nat.reduceEqDiff, ↓reduceIte, eq_self] at *) | omega | fail
  · rw [hn] at hQ h23
    have h23 : m 23 0 = 0 := h23
    unfold wNm at hQ
    simp only [List.take, wix_cons] at hQ
    refine RMr [] [] 200 ?_
    repeat' first | (refine ⟨fun _ => ?_, fun _ => ?_⟩ <;> try omega) | (refine ⟨by first | omega | (simp only [upm_ap, upd1_ap, Nat.reduceEqDiff, ↓reduceIte, eq_self] at * <;> omega) | fail, ?_⟩) | (refine P_isw (a := 124) (w := [112, 111, 111, 114]) rfl hP (by decide) (fun h124 => ?_) (fun h124 => ?_)) | (refine P_isw (a := 125) (w := [109, 97, 105, 100, 115]) rfl hP (by decide) (fun h125 => ?_) (fun h125 => ?_)) | (refine P_isw (a := 126) (w := [98, 111, 121, 115]) rfl hP (by decide) (fun h126 => ?_) (fun h126 => ?_)) | (refine P_isw (a := 127) (w := [115, 105, 99, 107]) rfl hP (by decide) (fun h127 => ?_) (fun h127 => ?_)) | (refine P_isw (a := 128) (w := [98, 114, 101, 97, 100]) rfl hP (by decide) (fun h128 => ?_) (fun h128 => ?_)) | (refine P_isw (a := 129) (w := [99, 111, 97, 108]) rfl hP (by decide) (fun h129 => ?_) (fun h129 => ?_)) | (refine P_isw (a := 130) (w := [114, 101, 110, 116]) rfl hP (by decide) (fun h130 => ?_) (fun h130 => ?_)) | (refine P_isw (a := 131) (w := [108, 97, 107, 101]) rfl hP (by decide) (fun h131 => ?_) (fun h131 => ?_)) | (refine P_isw (a := 132) (w := [105, 110, 99, 111, 109, 101]) rfl hP (by decide) (fun h132 => ?_) (fun h132 => ?_)) | (refine P_isw (a := 133) (w := [99, 111, 105, 110]) rfl hP (by decide) (fun h133 => ?_) (fun h133 => ?_)) | (refine P_isw (a := 134) (w := [108, 105, 118, 105, 110, 103]) rfl hP (by decide) (fun h134 => ?_) (fun h134 => ?_)) | (refine P_isw (a := 135) (w := [100, 101, 97, 100]) rfl hP (by decide) (fun h135 => ?_) (fun h135 => ?_)) | (refine P_isw (a := 136) (w := [109, 97, 114, 107, 115]) rfl hP (by decide) (fun h136 => ?_) (fun h136 => ?_)) | ((simp only [*, ↓reduceIte] at hQ; exact hQ)) | (simp only [upm_ap, upd1_ap, Nat.reduceEqDiff, ↓reduceIte, eq_self] at *) | omega | fail
theorem X_num {lo hi : Int} {x3 : Option mV} (hX : m 19 0 ≠ 0) (hQ : Q (rI 0) m) : RM (d + 2) 113 (0, [some (mR 1026), some (mI lo), some (mI hi), x3], [], m) Q := by
  refine RMr [] [] 60 ?_
  repeat' first | (refine ⟨fun _ => ?_, fun _ => ?_⟩ <;> try omega) | (refine ⟨by first | omega | (simp only [upm_ap, upd1_ap, Nat.reduceEqDiff, ↓reduceIte, eq_self] at * <;> omega) | fail, ?_⟩) | (refine M_isWell (fun e => absurd e g1.x) (fun _ => ?_)) | (refine M_isWell (fun _ => ?_) (fun _ => ?_)) | (exact hQ) | (simp only [upm_ap, upd1_ap, Nat.reduceEqDiff, ↓reduceIte, eq_self] at *) | omega | fail
theorem P_num {lo hi : Int} {x3 : Option mV} (hP : MP t n nm q o pre m) (hF : frX m0 m) (h2 : srt t n q = 2 → lo ≤ vlu t n q → vlu t n q ≤ hi → ∀ m', frX m0 m' → MP t n nm (nx t n q) o pre m' → Q (rI (vlu t n q)) m')
    (h1 : srt t n q = 2 → ¬ (lo ≤ vlu t n q ∧ vlu t n q ≤ hi) → ∀ m', FT m0 2 q o m' → m' 22 0 = o → Q (rI 0) m') (h0 : srt t n q ≠ 2 → ∀ m', FT m0 1 q o m' → m' 22 0 = o → Q (rI 0) m') : RM (d + 2) 113 (0, [some (mR 1026), some (mI lo), some (mI hi), x3], [], m) Q := by
  have h19 := hP.2.1.1
  have h17 := hP.1.2.2.2.2.1
  by_cases hs : srt t n q = 2
  · have h18 := hP.1.2.2.2.2.2.1 hs
    have h2 := h2 hs
    rw [← h18] at h1 h2
    refine RMr [] [] 90 ?_
    repeat' first | (refine ⟨fun _ => ?_, fun _ => ?_⟩ <;> try omega) | (refine ⟨by first | omega | (simp only [upm_ap, upd1_ap, Nat.reduceEqDiff, ↓reduceIte, eq_self] at * <;> omega) | fail, ?_⟩) | (refine M_isWell (fun e => absurd e g1.x) (fun _ => ?_)) | (refine M_isWell (fun _ => ?_) (fun _ => ?_)) | (refine M_within (fun _ _ => ?_) (fun _ => ?_)) | (refine P_next hP hF (fun m' hF' hP' => ?_)) | (refine P_fail hP hF (by decide) (fun m' g1 g2 => ?_)) | (exact h2 (by omega) (by omega) _ hF' hP') | (exact h1 hs (by omega) _ g1 g2) | (simp only [upm_ap, upd1_ap, Nat.reduceEqDiff, ↓reduceIte, eq_self] at *) | omega | fail
  · have h0 := h0 hs
    refine RMr [] [] 90 ?_
    repeat' first | (refine ⟨fun _ => ?_, fun _ => ?_⟩ <;> try omega) | (refine ⟨by first | omega | (simp only [upm_ap, upd1_ap, Nat.reduceEqDiff, ↓reduceIte, eq_self] at * <;> omega) | fail, ?_⟩) | (refine M_isWell (fun e => absurd e g1.x) (fun _ => ?_)) | (refine M_isWell (fun _ => ?_) (fun _ => ?_)) | (refine P_fail hP hF (by decide) (fun m' g1 g2 => ?_)) | (exact h0 _ g1 g2) | (simp only [upm_ap, upd1_ap, Nat.reduceEqDiff, ↓reduceIte, eq_self] at *) | omega | fail
end
