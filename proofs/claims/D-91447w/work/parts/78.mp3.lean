/-! THE MODEL READS sums and conditions -/
set_option maxHeartbeats 1600000
set_option maxRecDepth 100000
/-- what comes of reading -/
abbrev mPost (t : Int → Int) (n : Int) (nm : Nat) (o : Int) (pre : List Int) (m0 : sg) (x : (Int × Int) ⊕ (List Int × List (List Int) × Int)) (Q : mQ sg) : Prop := match x with
  | .inl (k, p) => ∀ m', FT m0 k p o m' → Q rV m'
  | .inr (c', _, q') => ∀ m', frX m0 m' → MP t n nm q' o (pre ++ c') m' → Q rV m'
def gm0 (t : Int → Int) (n : Int) (nm f : Nat) : Prop := ∀ (o q : Int) (pre : List Int) (m m0 : sg) (d : Nat) (Q : mQ sg) (x : (Int × Int) ⊕ (List Int × List (List Int) × Int)) (x1 : Option mV), prs t n nm f 0 o q [] [] = some x → MP t n nm q o pre m → (pre.length : Int) ≤ q → frX m0 m → 10 * (4 - o) + 5 ≤ (d : Int) → mPost t n nm o pre m0 x Q → RM d 110 (0, [some (mR 1026), x1], [], m) Q
def gm1 (t : Int → Int) (n : Int) (nm f : Nat) : Prop := ∀ (o q : Int) (pre : List Int) (m m0 : sg) (d : Nat) (Q : mQ sg) (x : (Int × Int) ⊕ (List Int × List (List Int) × Int)), prs t n nm f 1 o q [] [] = some x → MP t n nm q o pre m → (pre.length : Int) ≤ q → frX m0 m → 10 * (4 - o) + 6 ≤ (d : Int) → mPost t n nm o pre m0 x Q → RM d 109 (0, [some (mR 1026)], [], m) Q
def gm7 (t : Int → Int) (n : Int) (nm f : Nat) : Prop := ∀ (o q : Int) (c : List Int) (l : List (List Int)) (pre : List Int) (m m0 : sg) (d : Nat) (Q : mQ sg) (x : (Int × Int) ⊕ (List Int × List (List Int) × Int)), prs t n nm f 7 o q c l = some x → MP t n nm q o (pre ++ c) m → ((pre ++ c).length : Int) ≤ q → frX m0 m → 10 * (4 - o) + 6 ≤ (d : Int) → mPost t n nm o pre m0 x Q → RM d 109 (4, [some (mR 1026)], [], m) Q
def gm2 (t : Int → Int) (n : Int) (nm f : Nat) : Prop := ∀ (o q : Int) (pre : List Int) (m m0 : sg) (d : Nat) (Q : mQ sg) (x : (Int × Int) ⊕ (List Int × List (List Int) × Int)) (x1 : Option mV), prs t n nm f 2 o q [] [] = some x → MP t n nm q o pre m → (pre.length : Int) ≤ q → frX m0 m → 10 * (4 - o) + 7 ≤ (d : Int) → mPost t n nm o pre m0 x Q → RM d 108 (0, [some (mR 1026), x1], [], m) Q
def gm8 (t : Int → Int) (n : Int) (nm f : Nat) : Prop := ∀ (o q : Int) (c : List Int) (l : List (List Int)) (pre : List Int) (m m0 : sg) (d : Nat) (Q : mQ sg) (x : (Int × Int) ⊕ (List Int × List (List Int) × Int)) (x1 : Option mV), prs t n nm f 8 o q c l = some x → MP t n nm q o (pre ++ c) m → ((pre ++ c).length : Int) ≤ q → frX m0 m → 10 * (4 - o) + 7 ≤ (d : Int) → mPost t n nm o pre m0 x Q → RM d 108 (4, [some (mR 1026), x1], [], m) Q
def gm3 (t : Int → Int) (n : Int) (nm f : Nat) : Prop := ∀ (o q : Int) (pre : List Int) (m m0 : sg) (d : Nat) (Q : mQ sg) (x : (Int × Int) ⊕ (List Int × List (List Int) × Int)) (x1 : Option mV), prs t n nm f 3 o q [] [] = some x → MP t n nm q o pre m → (pre.length : Int) ≤ q → frX m0 m → 10 * (4 - o) + 8 ≤ (d : Int) → mPost t n nm o pre m0 x Q → RM d 107 (0, [some (mR 1026), x1], [], m) Q
def gm4 (t : Int → Int) (n : Int) (nm f : Nat) : Prop := ∀ (o q : Int) (c : List Int) (pre : List Int) (m m0 : sg) (d : Nat) (Q : mQ sg) (x : (Int × Int) ⊕ (List Int × List (List Int) × Int)), prs t n nm f 4 o q c [] = some x → MP t n nm q o pre m → (pre.length : Int) ≤ q → frX m0 m → 10 * (4 - o) + 9 ≤ (d : Int) → mPost t n nm o pre m0 x Q → RM d 103 (2, [some (mR 1026), some (mI (if c = [] then 0 else 1))], [], m) Q
def gm5 (t : Int → Int) (n : Int) (nm f : Nat) : Prop := ∀ (o q : Int) (pre : List Int) (m m0 : sg) (d : Nat) (Q : mQ sg) (x : (Int × Int) ⊕ (List Int × List (List Int) × Int)), prs t n nm f 5 o q [] [] = some x → MP t n nm q o pre m → (pre.length : Int) ≤ q → frX m0 m → 10 * (4 - o) + 10 ≤ (d : Int) → mPost t n nm o pre m0 x Q → RM d 102 (0, [some (mR 1026)], [], m) Q
def gm9 (t : Int → Int) (n : Int) (nm f : Nat) : Prop := ∀ (o q : Int) (c : List Int) (l : List (List Int)) (pre : List Int) (m m0 : sg) (d : Nat) (Q : mQ sg) (x : (Int × Int) ⊕ (List Int × List (List Int) × Int)), prs t n nm f 9 o q c l = some x → MP t n nm q o (pre ++ c) m → ((pre ++ c).length : Int) ≤ q → frX m0 m → 10 * (4 - o) + 10 ≤ (d : Int) → mPost t n nm o pre m0 x Q → RM d 102 (4, [some (mR 1026)], [], m) Q
def gm6 (t : Int → Int) (n : Int) (nm f : Nat) : Prop := ∀ (o q : Int) (pre : List Int) (m m0 : sg) (d : Nat) (Q : mQ sg) (x : (Int × Int) ⊕ (List Int × List (List Int) × Int)), prs t n nm f 6 o q [] [] = some x → MP t n nm q o pre m → (pre.length : Int) ≤ q → frX m0 m → 10 * (4 - o) + 11 ≤ (d : Int) → mPost t n nm o pre m0 x Q → RM d 101 (0, [some (mR 1026)], [], m) Q
def gm10 (t : Int → Int) (n : Int) (nm f : Nat) : Prop := ∀ (o q : Int) (c : List Int) (l : List (List Int)) (pre : List Int) (m m0 : sg) (d : Nat) (Q : mQ sg) (x : (Int × Int) ⊕ (List Int × List (List Int) × Int)), prs t n nm f 10 o q c l = some x → MP t n nm q o (pre ++ c) m → ((pre ++ c).length : Int) ≤ q → frX m0 m → 10 * (4 - o) + 11 ≤ (d : Int) → mPost t n nm o pre m0 x Q → RM d 101 (4, [some (mR 1026)], [], m) Q
section
variable {d : Nat} {m m0 : sg} {Q : mQ sg} {t : Int → Int} {n : Int} {nm : Nat} {q o : Int} {pre : List Int}
theorem X_fac {x1 : Option mV} (hX : m 19 0 ≠ 0) (hQ : Q rV m) : RM (d + 1) 110 (0, [some (mR 1026), x1], [], m) Q := by
  refine RMr [] [] 60 ?_
  repeat' first | (refine ⟨fun _ => ?_, fun _ => ?_⟩ <;> try omega) | (refine ⟨by first | omega | (simp only [upm_ap, upd1_ap, Nat.reduceEqDiff, ↓reduceIte, eq_self] at * <;> omega) | fail, ?_⟩) | (refine M_isWell (fun e => absurd e g1.x) (fun _ => ?_)) | (refine M_isWell (fun _ => ?_) (fun _ => ?_)) | (exact hQ) | (simp only [upm_ap, upd1_ap, Nat.reduceEqDiff, ↓reduceIte, eq_self] at *) | omega | fail
theorem X_prd (hX : m 19 0 ≠ 0) (hQ : Q rV m) : RM (d + 2) 109 (0, [some (mR 1026)], [], m) Q := by
  refine RMr [] [] 60 ?_
  repeat' first | (refine ⟨fun _ => ?_, fun _ => ?_⟩ <;> try omega) | (refine ⟨by first | omega | (simp only [upm_ap, upd1_ap, Nat.reduceEqDiff, ↓reduceIte, eq_self] at * <;> omega) | fail, ?_⟩) | (refine X_fac hX ?_) | (refine M_isWell (fun _ => ?_) (fun _ => ?_)) | (exact hQ) | (simp only [upm_ap, upd1_ap, Nat.reduceEqDiff, ↓reduceIte, eq_self] at *) | omega | fail
theorem X_sum {x1 : Option mV} (hX : m 19 0 ≠ 0) (hQ : Q rV m) : RM (d + 3) 108 (0, [some (mR 1026), x1], [], m) Q := by
  refine RMr [] [] 60 ?_
  repeat' first | (refine ⟨fun _ => ?_, fun _ => ?_⟩ <;> try omega) | (refine ⟨by first | omega | (simp only [upm_ap, upd1_ap, Nat.reduceEqDiff, ↓reduceIte, eq_self] at * <;> omega) | fail, ?_⟩) | (refine X_prd hX ?_) | (refine M_isWell (fun _ => ?_) (fun _ => ?_)) | (exact hQ) | (simp only [upm_ap, upd1_ap, Nat.reduceEqDiff, ↓reduceIte, eq_self] at *) | omega | fail
theorem X_cmp {x1 : Option mV} (hX : m 19 0 ≠ 0) (hQ : Q rV m) : RM (d + 4) 107 (0, [some (mR 1026), x1], [], m) Q := by
  refine RMr [] [] 60 ?_
  repeat' first | (refine ⟨fun _ => ?_, fun _ => ?_⟩ <;> try omega) | (refine ⟨by first | omega | (simp only [upm_ap, upd1_ap, Nat.reduceEqDiff, ↓reduceIte, eq_self] at * <;> omega) | fail, ?_⟩) | (refine X_sum hX ?_) | (refine M_isWell (fun _ => ?_) (fun _ => ?_)) | (exact hQ) | (simp only [upm_ap, upd1_ap, Nat.reduceEqDiff, ↓reduceIte, eq_self] at *) | omega | fail
theorem X_part {x1 : Option mV} (hX : m 19 0 ≠ 0) (hQ : Q rV m) : RM (d + 1) 103 (0, [some (mR 1026), x1], [], m) Q := by
  refine RMr [] [] 60 ?_
  repeat' first | (refine ⟨fun _ => ?_, fun _ => ?_⟩ <;> try omega) | (refine ⟨by first | omega | (simp only [upm_ap, upd1_ap, Nat.reduceEqDiff, ↓reduceIte, eq_self] at * <;> omega) | fail, ?_⟩) | (refine M_isWell (fun e => absurd e g1.x) (fun _ => ?_)) | (refine M_isWell (fun _ => ?_) (fun _ => ?_)) | (exact hQ) | (simp only [upm_ap, upd1_ap, Nat.reduceEqDiff, ↓reduceIte, eq_self] at *) | omega | fail
theorem X_both (hX : m 19 0 ≠ 0) (hQ : Q rV m) : RM (d + 2) 102 (0, [some (mR 1026)], [], m) Q := by
  refine RMr [] [] 60 ?_
  repeat' first | (refine ⟨fun _ => ?_, fun _ => ?_⟩ <;> try omega) | (refine ⟨by first | omega | (simp only [upm_ap, upd1_ap, Nat.reduceEqDiff, ↓reduceIte, eq_self] at * <;> omega) | fail, ?_⟩) | (refine X_part hX ?_) | (refine M_isWell (fun _ => ?_) (fun _ => ?_)) | (exact hQ) | (simp only [upm_ap, upd1_ap, Nat.reduceEqDiff, ↓reduceIte, eq_self] at *) | omega | fail
theorem X_cond (hX : m 19 0 ≠ 0) (hQ : Q rV m) : RM (d + 3) 101 (0, [some (mR 1026)], [], m) Q := by
  refine RMr [] [] 60 ?_
  repeat' first | (refine ⟨fun _ => ?_, fun _ => ?_⟩ <;> try omega) | (refine ⟨by first | omega | (simp only [upm_ap, upd1_ap, Nat.reduceEqDiff, ↓reduceIte, eq_self] at * <;> omega) | fail, ?_⟩) | (refine X_both hX ?_) | (refine M_isWell (fun _ => ?_) (fun _ => ?_)) | (exact hQ) | (simp only [upm_ap, upd1_ap, Nat.reduceEqDiff, ↓reduceIte, eq_self] at *) | omega | fail
theorem MP.wl (hP : MP t n nm q o pre m) : m 19 0 = 0 := hP.2.1.1
theorem MP.so (hP : MP t n nm q o pre m) : m 17 0 = srt t n q := hP.1.2.2.2.2.1
theorem MP.qn (hP : MP t n nm q o pre m) : 0 ≤ q ∧ q ≤ n ∧ n ≤ 400 := hP.2.2.2.1
theorem MP.op (hP : MP t n nm q o pre m) : m 22 0 = o ∧ 0 ≤ o ∧ o ≤ 4 := ⟨hP.2.1.2.1, hP.2.2.2.2⟩
theorem ln_app {a b : List Int} : ((a ++ b).length : Int) = a.length + b.length := by rw [List.length_append]; omega
/-- a bracket's end: the fault stays -/
theorem gm0_s {f : Nat} (S : gm2 t n nm f) : gm0 t n nm (f + 1) := by
  intro o q pre m m0 d Q x x1 h hP hl hF hd hQ
  obtain ⟨d', rfl⟩ : ∃ d', d = d' + 4 := ⟨d - 4, by have := hP.op; omega⟩
  have h19 := hP.wl
  have h17 := hP.so
  have hqn := hP.qn
  have hop := hP.op
  have hnx := nx_b (t := t) hqn.2.1
  rw [prs_0] at h
  by_cases h1 : isWb t n q [40] = true
  · rw [if_pos h1] at h
    have hs4 := ((sgn_iff (by omega)).mp h1).1
    have hlt := isWb_lt h1 (by decide) hqn.2.1
    by_cases ho : 4 ≤ o
    · rw [if_pos ho] at h
      cases h
      refine RMr [] [] 90 ?_
      repeat' first | (refine ⟨fun _ => ?_, fun _ => ?_⟩ <;> try omega) | (refine ⟨by first | omega | (simp only [upm_ap, upd1_ap, Nat.reduceEqDiff, ↓reduceIte, eq_self] at * <;> omega) | fail, ?_⟩) | (refine M_isWell (fun e => absurd e g1.x) (fun _ => ?_)) | (refine M_isWell (fun _ => ?_) (fun _ => ?_)) | (refine P_sgn hP (by omega) (fun e1 => ?_) (fun e1 => absurd h1 (by rw [e1]; decide))) | (refine P_open hP hF (fun _ => by omega) (fun _ m1 g1 g2 => ?_)) | (refine X_sum g1.x ?_) | (refine X_wsgn g1.x ?_) | (exact hQ _ (g1.dn2 g2)) | (simp only [upm_ap, upd1_ap, Nat.reduceEqDiff, ↓reduceIte, eq_self] at *) | omega | fail
    · rw [if_neg ho] at h
      rcases pB_some h with ⟨⟨k, p⟩, hr, rfl⟩ | ⟨c1, l1, q1, hr, hk⟩
      · refine RMr [] [] 90 ?_
        repeat' first | (refine ⟨fun _ => ?_, fun _ => ?_⟩ <;> try omega) | (refine ⟨by first | omega | (simp only [upm_ap, upd1_ap, Nat.reduceEqDiff, ↓reduceIte, eq_self] at * <;> omega) | fail, ?_⟩) | (refine M_isWell (fun e => absurd e g1.x) (fun _ => ?_)) | (refine M_isWell (fun _ => ?_) (fun _ => ?_)) | (refine P_sgn hP (by omega) (fun e1 => ?_) (fun e1 => absurd h1 (by rw [e1]; decide))) | (refine P_open hP hF (fun _ m1 hF1 hP1 => ?_) (fun _ => by omega)) | (refine S _ _ _ _ m0 _ _ _ _ hr hP1 (by omega) hF1 (by omega) (fun m2 g1 => ?_)) | (refine X_wsgn g1.x ?_) | ((refine ⟨by have := g1.2.2; omega, ?_⟩)) | (exact hQ _ g1.dn) | (simp only [upm_ap, upd1_ap, Nat.reduceEqDiff, ↓reduceIte, eq_self] at *) | omega | fail
      · have far := prs_far _ _ _ _ _ _ hnx.2.1 _ _ _ hr
        by_cases h3 : isWb t n q1 [41] = true
        · rw [if_pos h3] at hk
          cases hk
          refine RMr [] [] 90 ?_
          repeat' first | (refine ⟨fun _ => ?_, fun _ => ?_⟩ <;> try omega) | (refine ⟨by first | omega | (simp only [upm_ap, upd1_ap, Nat.reduceEqDiff, ↓reduceIte, eq_self] at * <;> omega) | fail, ?_⟩) | (refine M_isWell (fun e => absurd e g1.x) (fun _ => ?_)) | (refine M_isWell (fun _ => ?_) (fun _ => ?_)) | (refine P_sgn hP (by omega) (fun e1 => ?_) (fun e1 => absurd h1 (by rw [e1]; decide))) | (refine P_open hP hF (fun _ m1 hF1 hP1 => ?_) (fun _ => by omega)) | (refine S _ _ _ _ m0 _ _ _ _ hr hP1 (by omega) hF1 (by omega) (fun m2 hF2 hP2 => ?_)) | (refine P_wsgn hP2 hF2 (by omega) (fun _ m3 hF3 hP3 => ?_) (fun e1 => absurd h3 (by rw [e1]; decide))) | ((refine ⟨by have := hP3.op; omega, ?_⟩)) | (exact hQ _ (hF3.up (by decide)) (MP_o hP3 (by omega) (by have := hP3.op; omega))) | (simp only [upm_ap, upd1_ap, Nat.reduceEqDiff, ↓reduceIte, eq_self] at *) | omega | fail
        · rw [if_neg h3] at hk
          cases hk
          refine RMr [] [] 90 ?_
          repeat' first | (refine ⟨fun _ => ?_, fun _ => ?_⟩ <;> try omega) | (refine ⟨by first | omega | (simp only [upm_ap, upd1_ap, Nat.reduceEqDiff, ↓reduceIte, eq_self] at * <;> omega) | fail, ?_⟩) | (refine M_isWell (fun e => absurd e g1.x) (fun _ => ?_)) | (refine M_isWell (fun _ => ?_) (fun _ => ?_)) | (refine P_sgn hP (by omega) (fun e1 => ?_) (fun e1 => absurd h1 (by rw [e1]; decide))) | (refine P_open hP hF (fun _ m1 hF1 hP1 => ?_) (fun _ => by omega)) | (refine S _ _ _ _ m0 _ _ _ _ hr hP1 (by omega) hF1 (by omega) (fun m2 hF2 hP2 => ?_)) | (refine P_wsgn hP2 hF2 (by omega) (fun e1 => absurd e1 h3) (fun _ m3 g1 g2 => ?_)) | ((refine ⟨by have := g1.2.2; omega, ?_⟩)) | (exact hQ _ g1.dn) | (simp only [upm_ap, upd1_ap, Nat.reduceEqDiff, ↓reduceIte, eq_self] at *) | omega | fail
  · rw [if_neg h1] at h
    by_cases hs3 : srt t n q = 3
    · rw [if_pos hs3] at h
      by_cases hw : wix t n q (wNm.take nm) = -1
      · rw [if_pos hw] at h
        cases h
        refine RMr [] [] 90 ?_
        repeat' first | (refine ⟨fun _ => ?_, fun _ => ?_⟩ <;> try omega) | (refine ⟨by first | omega | (simp only [upm_ap, upd1_ap, Nat.reduceEqDiff, ↓reduceIte, eq_self] at * <;> omega) | fail, ?_⟩) | (refine M_isWell (fun e => absurd e g1.x) (fun _ => ?_)) | (refine M_isWell (fun _ => ?_) (fun _ => ?_)) | (refine P_name hP ?_) | (refine P_fail hP hF (by decide) (fun m1 g1 g2 => ?_)) | (refine X_emit g1.x ?_) | (refine M_isWell (fun e => absurd e g1.x) (fun _ => ?_)) | (exact hQ _ g1) | (simp only [upm_ap, upd1_ap, Nat.reduceEqDiff, ↓reduceIte, eq_self] at *) | omega | fail
      · rw [if_neg hw] at h
        cases h
        have hwb := wix_b (t := t) (n := n) (q := q) (wNm.take nm)
        have hwl : ((wNm.take nm).length : Int) ≤ 13 := by
          have : (wNm.take nm).length ≤ wNm.length := by rw [List.length_take]; omega
          have e : wNm.length = 13 := rfl
          omega
        refine RMr [] [] 90 ?_
        repeat' first | (refine ⟨fun _ => ?_, fun _ => ?_⟩ <;> try omega) | (refine ⟨by first | omega | (simp only [upm_ap, upd1_ap, Nat.reduceEqDiff, ↓reduceIte, eq_self] at * <;> omega) | fail, ?_⟩) | (refine M_isWell (fun e => absurd e g1.x) (fun _ => ?_)) | (refine M_isWell (fun _ => ?_) (fun e1 => absurd hP1.wl e1)) | (refine M_isWell (fun _ => ?_) (fun _ => ?_)) | (refine P_name hP ?_) | (refine P_emit hP hF (by omega) (fun m1 hF1 hP1 => ?_)) | (refine M_isWell (fun _ => ?_) (fun e1 => absurd hP1.wl e1)) | (refine P_next hP1 hF1 (fun m2 hF2 hP2 => ?_)) | (exact hQ _ hF2 hP2) | (simp only [upm_ap, upd1_ap, Nat.reduceEqDiff, ↓reduceIte, eq_self] at *) | omega | fail
    · rw [if_neg hs3] at h
      by_cases hs2 : srt t n q = 2
      · rw [if_pos hs2] at h
        cases h
        have h18 := hP.1.2.2.2.2.2.1 hs2
        refine RMr [] [] 90 ?_
        repeat' first | (refine ⟨fun _ => ?_, fun _ => ?_⟩ <;> try omega) | (refine ⟨by first | omega | (simp only [upm_ap, upd1_ap, Nat.reduceEqDiff, ↓reduceIte, eq_self] at * <;> omega) | fail, ?_⟩) | (refine M_isWell (fun e => absurd e g1.x) (fun _ => ?_)) | (refine M_isWell (fun _ => ?_) (fun _ => ?_)) | (refine P_emit hP hF (by omega) (fun m1 hF1 hP1 => ?_)) | (refine P_next hP1 hF1 (fun m2 hF2 hP2 => ?_)) | (exact hQ _ hF2 (by rw [← h18]; exact hP2)) | (simp only [upm_ap, upd1_ap, Nat.reduceEqDiff, ↓reduceIte, eq_self] at *) | omega | fail
      · rw [if_neg hs2] at h
        cases h
        refine RMr [] [] 90 ?_
        repeat' first | (refine ⟨fun _ => ?_, fun _ => ?_⟩ <;> try omega) | (refine ⟨by first | omega | (simp only [upm_ap, upd1_ap, Nat.reduceEqDiff, ↓reduceIte, eq_self] at * <;> omega) | fail, ?_⟩) | (refine M_isWell (fun e => absurd e g1.x) (fun _ => ?_)) | (refine M_isWell (fun _ => ?_) (fun _ => ?_)) | (refine P_sgn hP (by omega) (fun e1 => absurd e1 h1) (fun e1 => ?_)) | (refine P_fail hP hF (by decide) (fun m1 g1 g2 => ?_)) | (exact hQ _ g1) | (simp only [upm_ap, upd1_ap, Nat.reduceEqDiff, ↓reduceIte, eq_self] at *) | omega | fail
theorem P_part {f : Nat} (S : gm4 t n nm f) (o q : Int) (pre : List Int) (m m0 : sg) (d : Nat) (Q : mQ sg) (x : (Int × Int) ⊕ (List Int × List (List Int) × Int)) (x1 : Option mV) (h : prs t n nm f 4 o q [] [] = some x) (hP : MP t n nm q o pre m) (hl : (pre.length : Int) ≤ q) (hF : frX m0 m) (hd : 10 * (4 - o) + 9 ≤ (d : Int)) (hQ : mPost t n nm o pre m0 x Q) : RM d 103 (0, [some (mR 1026), x1], [], m) Q := by
  refine RMr [] [1030002] 10 ?_
  exact S _ _ [] _ _ m0 _ _ _ h hP hl hF hd hQ
theorem gm1_s {f : Nat} (S : gm0 t n nm f) (L : gm7 t n nm f) : gm1 t n nm (f + 1) := by
  intro o q pre m m0 d Q x h hP hl hF hd hQ
  obtain ⟨d', rfl⟩ : ∃ d', d = d' + 2 := ⟨d - 2, by have := hP.op; omega⟩
  have hqn := hP.qn
  rw [prs_1] at h
  rcases pB_some h with ⟨⟨k, p⟩, hr, rfl⟩ | ⟨c1, l1, q1, hr, hk⟩
  · refine RMr [] [] 60 ?_
    repeat' first | (refine ⟨fun _ => ?_, fun _ => ?_⟩ <;> try omega) | (refine ⟨by first | omega | (simp only [upm_ap, upd1_ap, Nat.reduceEqDiff, ↓reduceIte, eq_self] at * <;> omega) | fail, ?_⟩) | (refine S _ _ _ _ m0 _ _ _ _ hr hP (by omega) hF (by omega) (fun m2 g1 => ?_)) | (refine M_isWell (fun e => absurd e g1.x) (fun _ => ?_)) | (exact hQ _ g1) | (simp only [upm_ap, upd1_ap, Nat.reduceEqDiff, ↓reduceIte, eq_self] at *) | omega | fail
  · have far := prs_far _ _ _ _ _ _ hqn.2.1 _ _ _ hr
    refine RMr [] [1090004] 60 ?_
    repeat' first | (refine ⟨fun _ => ?_, fun _ => ?_⟩ <;> try omega) | (refine ⟨by first | omega | (simp only [upm_ap, upd1_ap, Nat.reduceEqDiff, ↓reduceIte, eq_self] at * <;> omega) | fail, ?_⟩) | (refine S _ _ _ _ m0 _ _ _ _ hr hP (by omega) hF (by omega) (fun m2 hF2 hP2 => ?_)) | (exact L _ _ _ _ _ _ m0 _ _ _ hk hP2 (by rw [ln_app]; simp at far; omega) hF2 (by omega) hQ) | (simp only [upm_ap, upd1_ap, Nat.reduceEqDiff, ↓reduceIte, eq_self] at *) | omega | fail
theorem gm2_s {f : Nat} (S : gm1 t n nm f) (L : gm8 t n nm f) : gm2 t n nm (f + 1) := by
  intro o q pre m m0 d Q x x1 h hP hl hF hd hQ
  obtain ⟨d', rfl⟩ : ∃ d', d = d' + 2 := ⟨d - 2, by have := hP.op; omega⟩
  have hqn := hP.qn
  rw [prs_2] at h
  rcases pB_some h with ⟨⟨k, p⟩, hr, rfl⟩ | ⟨c1, l1, q1, hr, hk⟩
  · refine RMr [] [] 60 ?_
    repeat' first | (refine ⟨fun _ => ?_, fun _ => ?_⟩ <;> try omega) | (refine ⟨by first | omega | (simp only [upm_ap, upd1_ap, Nat.reduceEqDiff, ↓reduceIte, eq_self] at * <;> omega) | fail, ?_⟩) | (refine S _ _ _ _ m0 _ _ _ hr hP (by omega) hF (by omega) (fun m2 g1 => ?_)) | (refine M_isWell (fun e => absurd e g1.x) (fun _ => ?_)) | (exact hQ _ g1) | (simp only [upm_ap, upd1_ap, Nat.reduceEqDiff, ↓reduceIte, eq_self] at *) | omega | fail
  · have far := prs_far _ _ _ _ _ _ hqn.2.1 _ _ _ hr
    refine RMr [] [1080004] 60 ?_
    repeat' first | (refine ⟨fun _ => ?_, fun _ => ?_⟩ <;> try omega) | (refine ⟨by first | omega | (simp only [upm_ap, upd1_ap, Nat.reduceEqDiff, ↓reduceIte, eq_self] at * <;> omega) | fail, ?_⟩) | (refine S _ _ _ _ m0 _ _ _ hr hP (by omega) hF (by omega) (fun m2 hF2 hP2 => ?_)) | (exact L _ _ _ _ _ _ m0 _ _ _ _ hk hP2 (by rw [ln_app]; simp at far; omega) hF2 (by omega) hQ) | (simp only [upm_ap, upd1_ap, Nat.reduceEqDiff, ↓reduceIte, eq_self] at *) | omega | fail
theorem gm5_s {f : Nat} (S : gm4 t n nm f) (L : gm9 t n nm f) : gm5 t n nm (f + 1) := by
  intro o q pre m m0 d Q x h hP hl hF hd hQ
  obtain ⟨d', rfl⟩ : ∃ d', d = d' + 2 := ⟨d - 2, by have := hP.op; omega⟩
  have hqn := hP.qn
  rw [prs_5] at h
  rcases pB_some h with ⟨⟨k, p⟩, hr, rfl⟩ | ⟨c1, l1, q1, hr, hk⟩
  · refine RMr [] [] 60 ?_
    repeat' first | (refine ⟨fun _ => ?_, fun _ => ?_⟩ <;> try omega) | (refine ⟨by first | omega | (simp only [upm_ap, upd1_ap, Nat.reduceEqDiff, ↓reduceIte, eq_self] at * <;> omega) | fail, ?_⟩) | (refine P_part S _ _ _ _ m0 _ _ _ _ hr hP (by omega) hF (by omega) (fun m2 g1 => ?_)) | (refine M_isWell (fun e => absurd e g1.x) (fun _ => ?_)) | (exact hQ _ g1) | (simp only [upm_ap, upd1_ap, Nat.reduceEqDiff, ↓reduceIte, eq_self] at *) | omega | fail
  · have far := prs_far _ _ _ _ _ _ hqn.2.1 _ _ _ hr
    refine RMr [] [1020004] 60 ?_
    repeat' first | (refine ⟨fun _ => ?_, fun _ => ?_⟩ <;> try omega) | (refine ⟨by first | omega | (simp only [upm_ap, upd1_ap, Nat.reduceEqDiff, ↓reduceIte, eq_self] at * <;> omega) | fail, ?_⟩) | (refine P_part S _ _ _ _ m0 _ _ _ _ hr hP (by omega) hF (by omega) (fun m2 hF2 hP2 => ?_)) | (exact L _ _ _ _ _ _ m0 _ _ _ hk hP2 (by rw [ln_app]; simp at far; omega) hF2 (by omega) hQ) | (simp only [upm_ap, upd1_ap, Nat.reduceEqDiff, ↓reduceIte, eq_self] at *) | omega | fail
theorem gm6_s {f : Nat} (S : gm5 t n nm f) (L : gm10 t n nm f) : gm6 t n nm (f + 1) := by
  intro o q pre m m0 d Q x h hP hl hF hd hQ
  obtain ⟨d', rfl⟩ : ∃ d', d = d' + 2 := ⟨d - 2, by have := hP.op; omega⟩
  have hqn := hP.qn
  rw [prs_6] at h
  rcases pB_some h with ⟨⟨k, p⟩, hr, rfl⟩ | ⟨c1, l1, q1, hr, hk⟩
  · refine RMr [] [] 60 ?_
    repeat' first | (refine ⟨fun _ => ?_, fun _ => ?_⟩ <;> try omega) | (refine ⟨by first | omega | (simp only [upm_ap, upd1_ap, Nat.reduceEqDiff, ↓reduceIte, eq_self] at * <;> omega) | fail, ?_⟩) | (refine S _ _ _ _ m0 _ _ _ hr hP (by omega) hF (by omega) (fun m2 g1 => ?_)) | (refine M_isWell (fun e => absurd e g1.x) (fun _ => ?_)) | (exact hQ _ g1) | (simp only [upm_ap, upd1_ap, Nat.reduceEqDiff, ↓reduceIte, eq_self] at *) | omega | fail
  · have far := prs_far _ _ _ _ _ _ hqn.2.1 _ _ _ hr
    refine RMr [] [1010004] 60 ?_
    repeat' first | (refine ⟨fun _ => ?_, fun _ => ?_⟩ <;> try omega) | (refine ⟨by first | omega | (simp only [upm_ap, upd1_ap, Nat.reduceEqDiff, ↓reduceIte, eq_self] at * <;> omega) | fail, ?_⟩) | (refine S _ _ _ _ m0 _ _ _ hr hP (by omega) hF (by omega) (fun m2 hF2 hP2 => ?_)) | (exact L _ _ _ _ _ _ m0 _ _ _ hk hP2 (by rw [ln_app]; simp at far; omega) hF2 (by omega) hQ) | (simp only [upm_ap, upd1_ap, Nat.reduceEqDiff, ↓reduceIte, eq_self] at *) | omega | fail
theorem gm7_s {f : Nat} (S : gm0 t n nm f) (L : gm7 t n nm f) : gm7 t n nm (f + 1) := by
  intro o q c l pre m m0 d Q x h hP hl hF hd hQ
  obtain ⟨d', rfl⟩ : ∃ d', d = d' + 4 := ⟨d - 4, by have := hP.op; omega⟩
  have hqn := hP.qn
  have h19 := hP.wl
  have hnx := nx_b (t := t) hqn.2.1
  rw [prs_7] at h
  by_cases h1 : isWb t n q [42] = true
  · rw [if_pos h1] at h
    have hlt := isWb_lt h1 (by decide) hqn.2.1
    rcases pB_some h with ⟨⟨k, p⟩, hr, rfl⟩ | ⟨c1, l1, q1, hr, hk⟩
    · refine RMr [] [1090004] 60 ?_
      repeat' first | (refine ⟨fun _ => ?_, fun _ => ?_⟩ <;> try omega) | (refine ⟨by first | omega | (simp only [upm_ap, upd1_ap, Nat.reduceEqDiff, ↓reduceIte, eq_self] at * <;> omega) | fail, ?_⟩) | (refine M_isWell (fun e => absurd e g1.x) (fun _ => ?_)) | (refine M_isWell (fun _ => ?_) (fun _ => by omega)) | (refine P_sgn hP (by omega) (fun e1 => ?_) (fun e1 => absurd h1 (by rw [e1]; decide))) | (refine P_next hP hF (fun m1 hF1 hP1 => ?_)) | (refine S _ _ _ _ m0 _ _ _ _ hr hP1 (by omega) hF1 (by omega) (fun m2 g1 => ?_)) | (refine X_emit g1.x ?_) | (simp only [upm_ap, upd1_ap, Nat.reduceEqDiff, ↓reduceIte, eq_self] at *) | omega | fail
      refine RMr [] [] 60 ?_
      repeat' first | (refine ⟨fun _ => ?_, fun _ => ?_⟩ <;> try omega) | (refine ⟨by first | omega | (simp only [upm_ap, upd1_ap, Nat.reduceEqDiff, ↓reduceIte, eq_self] at * <;> omega) | fail, ?_⟩) | (refine M_isWell (fun e => absurd e g1.x) (fun _ => ?_)) | (exact hQ _ g1) | (simp only [upm_ap, upd1_ap, Nat.reduceEqDiff, ↓reduceIte, eq_self] at *) | omega | fail
    · have far := prs_far _ _ _ _ _ _ hnx.2.1 _ _ _ hr
      simp at far
      refine RMr [] [1090004] 60 ?_
      repeat' first | (refine ⟨fun _ => ?_, fun _ => ?_⟩ <;> try omega) | (refine ⟨by first | omega | (simp only [upm_ap, upd1_ap, Nat.reduceEqDiff, ↓reduceIte, eq_self] at * <;> omega) | fail, ?_⟩) | (refine M_isWell (fun e => absurd e g1.x) (fun _ => ?_)) | (refine M_isWell (fun _ => ?_) (fun _ => by omega)) | (refine P_sgn hP (by omega) (fun e1 => ?_) (fun e1 => absurd h1 (by rw [e1]; decide))) | (refine P_next hP hF (fun m1 hF1 hP1 => ?_)) | (refine S _ _ _ _ m0 _ _ _ _ hr hP1 (by omega) hF1 (by omega) (fun m2 hF2 hP2 => ?_)) | (refine P_emit hP2 hF2 (by rw [ln_app]; omega) (fun m3 hF3 hP3 => ?_)) | (simp only [upm_ap, upd1_ap, Nat.reduceEqDiff, ↓reduceIte, eq_self] at *) | omega | fail
      exact L _ _ _ _ _ _ m0 _ _ _ hk (by rw [List.append_assoc, List.append_assoc] at hP3; exact hP3) (by rw [ln_app] at hl; rw [ln_app, ln_app, ln_app]; show _ + (_ + (_ + ((1 : Nat) : Int))) ≤ _; omega) hF3 (by omega) hQ
  · rw [if_neg h1] at h
    cases h
    refine RMr [] [1090004] 60 ?_
    repeat' first | (refine ⟨fun _ => ?_, fun _ => ?_⟩ <;> try omega) | (refine ⟨by first | omega | (simp only [upm_ap, upd1_ap, Nat.reduceEqDiff, ↓reduceIte, eq_self] at * <;> omega) | fail, ?_⟩) | (refine M_isWell (fun e => absurd e g1.x) (fun _ => ?_)) | (refine M_isWell (fun _ => ?_) (fun _ => by omega)) | (refine P_sgn hP (by omega) (fun e1 => absurd e1 h1) (fun e1 => ?_)) | (exact hQ _ hF hP) | (simp only [upm_ap, upd1_ap, Nat.reduceEqDiff, ↓reduceIte, eq_self] at *) | omega | fail
theorem gm9_s {f : Nat} (S : gm4 t n nm f) (L : gm9 t n nm f) : gm9 t n nm (f + 1) := by
  intro o q c l pre m m0 d Q x h hP hl hF hd hQ
  obtain ⟨d', rfl⟩ : ∃ d', d = d' + 4 := ⟨d - 4, by have := hP.op; omega⟩
  have hqn := hP.qn
  have h19 := hP.wl
  have hnx := nx_b (t := t) hqn.2.1
  rw [prs_9] at h
  by_cases h1 : isWb t n q wAnd = true
  · rw [if_pos h1] at h
    have hlt := isWb_lt h1 (by decide) hqn.2.1
    rcases pB_some h with ⟨⟨k, p⟩, hr, rfl⟩ | ⟨c1, l1, q1, hr, hk⟩
    · refine RMr [] [1020004] 60 ?_
      repeat' first | (refine ⟨fun _ => ?_, fun _ => ?_⟩ <;> try omega) | (refine ⟨by first | omega | (simp only [upm_ap, upd1_ap, Nat.reduceEqDiff, ↓reduceIte, eq_self] at * <;> omega) | fail, ?_⟩) | (refine M_isWell (fun e => absurd e g1.x) (fun _ => ?_)) | (refine M_isWell (fun _ => ?_) (fun _ => by omega)) | (refine P_isw (w := wAnd) rfl hP (by decide) (fun e1 => ?_) (fun e1 => absurd h1 (by rw [e1]; decide))) | (refine P_next hP hF (fun m1 hF1 hP1 => ?_)) | (refine P_part S _ _ _ _ m0 _ _ _ _ hr hP1 (by omega) hF1 (by omega) (fun m2 g1 => ?_)) | (refine X_emit g1.x ?_) | (simp only [upm_ap, upd1_ap, Nat.reduceEqDiff, ↓reduceIte, eq_self] at *) | omega | fail
      refine RMr [] [] 60 ?_
      repeat' first | (refine ⟨fun _ => ?_, fun _ => ?_⟩ <;> try omega) | (refine ⟨by first | omega | (simp only [upm_ap, upd1_ap, Nat.reduceEqDiff, ↓reduceIte, eq_self] at * <;> omega) | fail, ?_⟩) | (refine M_isWell (fun e => absurd e g1.x) (fun _ => ?_)) | (exact hQ _ g1) | (simp only [upm_ap, upd1_ap, Nat.reduceEqDiff, ↓reduceIte, eq_self] at *) | omega | fail
    · have far := prs_far _ _ _ _ _ _ hnx.2.1 _ _ _ hr
      simp at far
      refine RMr [] [1020004] 60 ?_
      repeat' first | (refine ⟨fun _ => ?_, fun _ => ?_⟩ <;> try omega) | (refine ⟨by first | omega | (simp only [upm_ap, upd1_ap, Nat.reduceEqDiff, ↓reduceIte, eq_self] at * <;> omega) | fail, ?_⟩) | (refine M_isWell (fun e => absurd e g1.x) (fun _ => ?_)) | (refine M_isWell (fun _ => ?_) (fun _ => by omega)) | (refine P_isw (w := wAnd) rfl hP (by decide) (fun e1 => ?_) (fun e1 => absurd h1 (by rw [e1]; decide))) | (refine P_next hP hF (fun m1 hF1 hP1 => ?_)) | (refine P_part S _ _ _ _ m0 _ _ _ _ hr hP1 (by omega) hF1 (by omega) (fun m2 hF2 hP2 => ?_)) | (refine P_emit hP2 hF2 (by rw [ln_app]; omega) (fun m3 hF3 hP3 => ?_)) | (simp only [upm_ap, upd1_ap, Nat.reduceEqDiff, ↓reduceIte, eq_self] at *) | omega | fail
      exact L _ _ _ _ _ _ m0 _ _ _ hk (by rw [List.append_assoc, List.append_assoc] at hP3; exact hP3) (by rw [ln_app] at hl; rw [ln_app, ln_app, ln_app]; show _ + (_ + (_ + ((1 : Nat) : Int))) ≤ _; omega) hF3 (by omega) hQ
  · rw [if_neg h1] at h
    cases h
    refine RMr [] [1020004] 60 ?_
    repeat' first | (refine ⟨fun _ => ?_, fun _ => ?_⟩ <;> try omega) | (refine ⟨by first | omega | (simp only [upm_ap, upd1_ap, Nat.reduceEqDiff, ↓reduceIte, eq_self] at * <;> omega) | fail, ?_⟩) | (refine M_isWell (fun e => absurd e g1.x) (fun _ => ?_)) | (refine M_isWell (fun _ => ?_) (fun _ => by omega)) | (refine P_isw (w := wAnd) rfl hP (by decide) (fun e1 => absurd e1 h1) (fun e1 => ?_)) | (exact hQ _ hF hP) | (simp only [upm_ap, upd1_ap, Nat.reduceEqDiff, ↓reduceIte, eq_self] at *) | omega | fail
theorem gm10_s {f : Nat} (S : gm5 t n nm f) (L : gm10 t n nm f) : gm10 t n nm (f + 1) := by
  intro o q c l pre m m0 d Q x h hP hl hF hd hQ
  obtain ⟨d', rfl⟩ : ∃ d', d = d' + 4 := ⟨d - 4, by have := hP.op; omega⟩
  have hqn := hP.qn
  have h19 := hP.wl
  have hnx := nx_b (t := t) hqn.2.1
  rw [prs_10] at h
  by_cases h1 : isWb t n q wOr = true
  · rw [if_pos h1] at h
    have hlt := isWb_lt h1 (by decide) hqn.2.1
    rcases pB_some h with ⟨⟨k, p⟩, hr, rfl⟩ | ⟨c1, l1, q1, hr, hk⟩
    · refine RMr [] [1010004] 60 ?_
      repeat' first | (refine ⟨fun _ => ?_, fun _ => ?_⟩ <;> try omega) | (refine ⟨by first | omega | (simp only [upm_ap, upd1_ap, Nat.reduceEqDiff, ↓reduceIte, eq_self] at * <;> omega) | fail, ?_⟩) | (refine M_isWell (fun e => absurd e g1.x) (fun _ => ?_)) | (refine M_isWell (fun _ => ?_) (fun _ => by omega)) | (refine P_isw (w := wOr) rfl hP (by decide) (fun e1 => ?_) (fun e1 => absurd h1 (by rw [e1]; decide))) | (refine P_next hP hF (fun m1 hF1 hP1 => ?_)) | (refine S _ _ _ _ m0 _ _ _ hr hP1 (by omega) hF1 (by omega) (fun m2 g1 => ?_)) | (refine X_emit g1.x ?_) | (simp only [upm_ap, upd1_ap, Nat.reduceEqDiff, ↓reduceIte, eq_self] at *) | omega | fail
      refine RMr [] [] 60 ?_
      repeat' first | (refine ⟨fun _ => ?_, fun _ => ?_⟩ <;> try omega) | (refine ⟨by first | omega | (simp only [upm_ap, upd1_ap, Nat.reduceEqDiff, ↓reduceIte, eq_self] at * <;> omega) | fail, ?_⟩) | (refine M_isWell (fun e => absurd e g1.x) (fun _ => ?_)) | (exact hQ _ g1) | (simp only [upm_ap, upd1_ap, Nat.reduceEqDiff, ↓reduceIte, eq_self] at *) | omega | fail
    · have far := prs_far _ _ _ _ _ _ hnx.2.1 _ _ _ hr
      simp at far
      refine RMr [] [1010004] 60 ?_
      repeat' first | (refine ⟨fun _ => ?_, fun _ => ?_⟩ <;> try omega) | (refine ⟨by first | omega | (simp only [upm_ap, upd1_ap, Nat.reduceEqDiff, ↓reduceIte, eq_self] at * <;> omega) | fail, ?_⟩) | (refine M_isWell (fun e => absurd e g1.x) (fun _ => ?_)) | (refine M_isWell (fun _ => ?_) (fun _ => by omega)) | (refine P_isw (w := wOr) rfl hP (by decide) (fun e1 => ?_) (fun e1 => absurd h1 (by rw [e1]; decide))) | (refine P_next hP hF (fun m1 hF1 hP1 => ?_)) | (refine S _ _ _ _ m0 _ _ _ hr hP1 (by omega) hF1 (by omega) (fun m2 hF2 hP2 => ?_)) | (refine P_emit hP2 hF2 (by rw [ln_app]; omega) (fun m3 hF3 hP3 => ?_)) | (simp only [upm_ap, upd1_ap, Nat.reduceEqDiff, ↓reduceIte, eq_self] at *) | omega | fail
      exact L _ _ _ _ _ _ m0 _ _ _ hk (by rw [List.append_assoc, List.append_assoc] at hP3; exact hP3) (by rw [ln_app] at hl; rw [ln_app, ln_app, ln_app]; show _ + (_ + (_ + ((1 : Nat) : Int))) ≤ _; omega) hF3 (by omega) hQ
  · rw [if_neg h1] at h
    cases h
    refine RMr [] [1010004] 60 ?_
    repeat' first | (refine ⟨fun _ => ?_, fun _ => ?_⟩ <;> try omega) | (refine ⟨by first | omega | (simp only [upm_ap, upd1_ap, Nat.reduceEqDiff, ↓reduceIte, eq_self] at * <;> omega) | fail, ?_⟩) | (refine M_isWell (fun e => absurd e g1.x) (fun _ => ?_)) | (refine M_isWell (fun _ => ?_) (fun _ => by omega)) | (refine P_isw (w := wOr) rfl hP (by decide) (fun e1 => absurd e1 h1) (fun e1 => ?_)) | (exact hQ _ hF hP) | (simp only [upm_ap, upd1_ap, Nat.reduceEqDiff, ↓reduceIte, eq_self] at *) | omega | fail
end
