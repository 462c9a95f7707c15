/-! THE MODEL READS clauses -/
set_option maxHeartbeats 1600000
set_option maxRecDepth 100000
/-- the row that is made, but where it ends -/
def RF (m : sg) (r be : Int) (c : Cl) : Prop := m 7 r = c.1 ∧ m 8 r = c.2.1 ∧ (c.1 = 8 ∨ c.1 = 9 → m 9 r = c.2.2.1) ∧ m 10 r = be ∧ (c.1 = 8 ∨ c.1 = 6 → m 11 r = be + c.2.2.2.1.length)
theorem RF.x {m m' : sg} {r be : Int} {c : Cl} (h : RF m r be c) (hx : frX m m') : RF m' r be c := ⟨by rw [hx.1 7 (by decide)]; exact h.1, by rw [hx.1 8 (by decide)]; exact h.2.1, by rw [hx.1 9 (by decide)]; exact h.2.2.1, by rw [hx.1 10 (by decide)]; exact h.2.2.2.1, by rw [hx.1 11 (by decide)]; exact h.2.2.2.2⟩
section
variable {d : Nat} {m m0 m' : sg} {Q : mQ sg} {t : Int → Int} {n : Int} {nm : Nat} {q q' : Int} {pre pre' : List Int} {k : Int} {cs : List Cl} {nn : List (Int × Int)}
/-- the semicolon: the row is whole -/
theorem MD.fin {r be : Int} {c : Cl} (hD : MD t n nm q pre (k + 1) cs nn m) (hr : r = 880 + (cs.length : Int)) (hbe : be = (cat cs).length) (hR : RF m r be c) (hl : (pre.length : Int) = be + c.2.2.2.1.length + c.2.2.2.2.1.length) : MD t n nm q pre (k + 1) (cs ++ [c]) nn (upm m 12 r (m 5 44)) := by
  have hD1 := hD.row (j := 12) (by omega) (i := r) (v := m 5 44) (by omega)
  refine ⟨hD1.1, hD1.2.1, rowsR_app cs _ _ hD1.2.2.1 ?_, hD1.2.2.2⟩
  rw [Int.zero_add, ← hbe, ← hr]
  have h5 := hD.1.2.2.1.1
  exact ⟨by rw [upm_n (by decide)]; exact hR.1, by rw [upm_n (by decide)]; exact hR.2.1, by rw [upm_n (by decide)]; exact hR.2.2.1, by rw [upm_n (by decide)]; exact hR.2.2.2.1, by rw [upm_n (by decide)]; exact hR.2.2.2.2, by rw [upm_s, upd1_s]; omega⟩
theorem C_c5 {r be : Int} {c : Cl} {x1 x2 : Option mV} (hD : MD t n nm q pre (k + 1) cs nn m) (hY : frY m0 m) (hr : r = 880 + (cs.length : Int) ∧ r < 900) (hbe : be = (cat cs).length) (hR : RF m r be c) (hl : (pre.length : Int) = be + c.2.2.2.1.length + c.2.2.2.2.1.length)
    (h1 : isWb t n q [59] = true → ∀ m', frY m0 m' → MD t n nm (nx t n q) pre (k + 1) (cs ++ [c]) nn m' → Q rV m') (h0 : isWb t n q [59] = false → ∀ m', FY m0 1 q m' → Q rV m') : RM (d + 4) 119 (165, [some (mR 1026), x1, x2, some (mI r)], [], m) Q := by
  have hr' : 880 ≤ r ∧ r < 900 := by omega
  refine RMr [] [] 60 ?_
  repeat' first | (refine ⟨fun _ => ?_, fun _ => ?_⟩ <;> try omega) | (refine ⟨by first | omega | (simp only [upm_ap, upd1_ap, Nat.reduceEqDiff, ↓reduceIte, eq_self] at * <;> omega) | fail, ?_⟩) | (refine P_wsgn hD.1 (frX.rfl (m := m)) (by omega) (fun e1 m1 hx1 hP1 => ?_) (fun e1 m1 g1 g2 => ?_)) | (exact h1 e1 _ ((hY.x hx1).row (by omega) (by omega)) (MD.fin (hD.x hx1 hP1) hr.1 hbe (hR.x hx1) hl)) | (exact h0 e1 _ ((g1.y hY).row (by omega) (by omega))) | (simp only [upm_ap, upd1_ap, Nat.reduceEqDiff, ↓reduceIte, eq_self] at *) | omega | fail
theorem Y_c5 {r kf pf : Int} {x1 x2 : Option mV} (hX : FY m0 kf pf m) (hr' : 880 ≤ r ∧ r < 900) (hQ : ∀ m', FY m0 kf pf m' → Q rV m') : RM (d + 4) 119 (165, [some (mR 1026), x1, x2, some (mI r)], [], m) Q := by
  refine RMr [] [] 60 ?_
  repeat' first | (refine ⟨fun _ => ?_, fun _ => ?_⟩ <;> try omega) | (refine ⟨by first | omega | (simp only [upm_ap, upd1_ap, Nat.reduceEqDiff, ↓reduceIte, eq_self] at * <;> omega) | fail, ?_⟩) | (refine X_wsgn hX.x ?_) | (exact hQ _ (hX.row (by omega) (by omega))) | (simp only [upm_ap, upd1_ap, Nat.reduceEqDiff, ↓reduceIte, eq_self] at *) | omega | fail
theorem C_r5 {r be : Int} {c : Cl} {x1 x3 : Option mV} (hD : MD t n nm q pre (k + 1) cs nn m) (hY : frY m0 m) (hr : r = 880 + (cs.length : Int) ∧ r < 900) (hbe : be = (cat cs).length) (hR : RF m r be c) (hl : (pre.length : Int) = be + c.2.2.2.1.length + c.2.2.2.2.1.length)
    (h1 : isWb t n q [59] = true → ∀ m', frY m0 m' → MD t n nm (nx t n q) pre (k + 1) (cs ++ [c]) nn m' → Q rV m') (h0 : isWb t n q [59] = false → ∀ m', FY m0 1 q m' → Q rV m') : RM (d + 4) 95 (251, [some (mR 1026), x1, some (mI r), x3], [], m) Q := by
  have hr' : 880 ≤ r ∧ r < 900 := by omega
  refine RMr [] [] 60 ?_
  repeat' first | (refine ⟨fun _ => ?_, fun _ => ?_⟩ <;> try omega) | (refine ⟨by first | omega | (simp only [upm_ap, upd1_ap, Nat.reduceEqDiff, ↓reduceIte, eq_self] at * <;> omega) | fail, ?_⟩) | (refine P_wsgn hD.1 (frX.rfl (m := m)) (by omega) (fun e1 m1 hx1 hP1 => ?_) (fun e1 m1 g1 g2 => ?_)) | (exact h1 e1 _ ((hY.x hx1).row (by omega) (by omega)) (MD.fin (hD.x hx1 hP1) hr.1 hbe (hR.x hx1) hl)) | (exact h0 e1 _ ((g1.y hY).row (by omega) (by omega))) | (simp only [upm_ap, upd1_ap, Nat.reduceEqDiff, ↓reduceIte, eq_self] at *) | omega | fail
theorem Y_r5 {r kf pf : Int} {x1 x3 : Option mV} (hX : FY m0 kf pf m) (hr' : 880 ≤ r ∧ r < 900) (hQ : ∀ m', FY m0 kf pf m' → Q rV m') : RM (d + 4) 95 (251, [some (mR 1026), x1, some (mI r), x3], [], m) Q := by
  refine RMr [] [] 60 ?_
  repeat' first | (refine ⟨fun _ => ?_, fun _ => ?_⟩ <;> try omega) | (refine ⟨by first | omega | (simp only [upm_ap, upd1_ap, Nat.reduceEqDiff, ↓reduceIte, eq_self] at * <;> omega) | fail, ?_⟩) | (refine X_wsgn hX.x ?_) | (exact hQ _ (hX.row (by omega) (by omega))) | (simp only [upm_ap, upd1_ap, Nat.reduceEqDiff, ↓reduceIte, eq_self] at *) | omega | fail
/-- marks -/
abbrev kPost (t : Int → Int) (n : Int) (pre : List Int) (k : Int) (cs : List Cl) (nn : List (Int × Int)) (m0 : sg) (r be : Int) (x : (Int × Int) ⊕ (Cl × Int)) (Q : mQ sg) : Prop := match x with
  | .inl (kf, pf) => ∀ m', FY m0 kf pf m' → Q rV m'
  | .inr (c, q') => ∀ m', frY m0 m' → MD t n 10 q' pre k cs nn m' → RF m' r be c → Q rV m'
theorem C_mrk {r be : Int} (hr : 880 + (cs.length : Int) ≤ r ∧ r < 900) : ∀ (g : Nat) (q b : Int) (m : sg) (x : (Int × Int) ⊕ (Cl × Int)), mrkC t n g q b = some x → MD t n 10 q pre k cs nn m → frY m0 m → m 7 r = 7 → m 10 r = be → kPost t n pre k cs nn m0 r be x Q → RM (d + 4) 122 (10, [some (mR 1026), some (mI r), some (mI b)], [], m) Q
  | 0, q, b, m, x, h, _, _, _, _, _ => by cases h
  | g + 1, q, b, m, x, h, hD, hY, h7, h10, hQ => by
    have hr' : 880 ≤ r ∧ r < 900 := by omega
    have h19 := hD.1.wl
    have h17 := hD.1.so
    unfold mrkC at h
    by_cases h2 : srt t n q = 2
    · rw [if_pos h2] at h
      have hv0 : 0 ≤ vlu t n q := by
        have := hD.1.qn
        have hd : dgt t n q = true := by
          unfold srt at h2
          rw [if_neg (by have := srt2_lt (t := t) (n := n) (q := q) (Or.inl (by unfold srt; exact h2)); omega)] at h2
          by_cases hs : sml t n q = true
          · rw [if_pos hs] at h2; omega
          · rw [if_neg hs] at h2
            by_cases hg : dgt t n q = true
            · exact hg
            · rw [if_neg hg] at h2; omega
        have sp := past_spec (dgt t n) (n := n) (k := q) (by omega)
        have te := tke_dg hd
        exact (dgv_b _ (by omega) (fun i hi => sp.1 _ (by omega) (by rw [← te]; omega))).1
      by_cases h3 : vlu t n q ≤ 7
      · rw [if_pos h3] at h
        refine RMr [] [1220010] 60 ?_
        repeat' first | (refine ⟨fun _ => ?_, fun _ => ?_⟩ <;> try omega) | (refine ⟨by first | omega | (simp only [upm_ap, upd1_ap, Nat.reduceEqDiff, ↓reduceIte, eq_self] at * <;> omega) | fail, ?_⟩) | (refine M_isWell (fun _ => ?_) (fun e => absurd h19 e)) | (refine P_num hD.1 (frX.rfl (m := m)) (fun _ _ _ m1 hx1 hP1 => ?_) (fun _ e => by omega) (fun e => by omega)) | (simp only [upm_ap, upd1_ap, Nat.reduceEqDiff, ↓reduceIte, eq_self] at *) | omega | fail
        exact C_mrk hr g _ _ _ _ h (hD.x hx1 hP1) (hY.x hx1) ((congrFun (hx1.1 7 (by decide)) r).trans h7) ((congrFun (hx1.1 10 (by decide)) r).trans h10) hQ
      · rw [if_neg h3] at h
        cases h
        refine RMr [] [1220010] 60 ?_
        repeat' first | (refine ⟨fun _ => ?_, fun _ => ?_⟩ <;> try omega) | (refine ⟨by first | omega | (simp only [upm_ap, upd1_ap, Nat.reduceEqDiff, ↓reduceIte, eq_self] at * <;> omega) | fail, ?_⟩) | (refine M_isWell (fun _ => ?_) (fun e => absurd h19 e)) | (refine P_num hD.1 (frX.rfl (m := m)) (fun _ _ e => by omega) (fun _ _ m1 g1 g2 => ?_) (fun e => by omega)) | (simp only [upm_ap, upd1_ap, Nat.reduceEqDiff, ↓reduceIte, eq_self] at *) | omega | fail
        have hY1 := (g1.y hY)
        refine RMr [] [] 60 ?_
        repeat' first | (refine ⟨fun _ => ?_, fun _ => ?_⟩ <;> try omega) | (refine ⟨by first | omega | (simp only [upm_ap, upd1_ap, Nat.reduceEqDiff, ↓reduceIte, eq_self] at * <;> omega) | fail, ?_⟩) | (refine M_isWell (fun e => absurd e hY1.x) (fun _ => ?_)) | (exact hQ _ (hY1.row (by omega) (by omega))) | (simp only [upm_ap, upd1_ap, Nat.reduceEqDiff, ↓reduceIte, eq_self] at *) | omega | fail
    · rw [if_neg h2] at h
      cases h
      have fin : Q rV (upm m 8 r b) := hQ _ (hY.row (by omega) (by omega)) (hD.row (by omega) (by omega)) ⟨by rw [upm_n (by decide)]; exact h7, by rw [upm_s, upd1_s], (fun (e : (7 : Int) = 8 ∨ (7 : Int) = 9) => by omega), by rw [upm_n (by decide)]; exact h10, (fun (e : (7 : Int) = 8 ∨ (7 : Int) = 6) => by omega)⟩
      refine RMr [] [] 60 ?_
      repeat' first | (refine ⟨fun _ => ?_, fun _ => ?_⟩ <;> try omega) | (refine ⟨by first | omega | (simp only [upm_ap, upd1_ap, Nat.reduceEqDiff, ↓reduceIte, eq_self] at * <;> omega) | fail, ?_⟩) | (refine M_isWell (fun _ => ?_) (fun e => absurd h19 e)) | (exact fin) | (simp only [upm_ap, upd1_ap, Nat.reduceEqDiff, ↓reduceIte, eq_self] at *) | omega | fail
theorem C_marks {f : Nat} {r be : Int} {x2 : Option mV} {x : (Int × Int) ⊕ (Cl × Int)} (h : numC t n q 0 7 (fun v => mrkC t n f (nx t n q) (zshl 1 v)) = some x) (hD : MD t n 10 q pre k cs nn m) (hY : frY m0 m) (hr : 880 + (cs.length : Int) ≤ r ∧ r < 900) (h7 : m 7 r = 7) (h10 : m 10 r = be) (hQ : kPost t n pre k cs nn m0 r be x Q) : RM (d + 4) 122 (0, [some (mR 1026), some (mI r), x2], [], m) Q := by
  have hr' : 880 ≤ r ∧ r < 900 := by omega
  rcases num_some h with ⟨h1, rfl⟩ | ⟨h1, h2, rfl⟩ | ⟨h1, h2, h3⟩
  · refine RMr [] [1220010] 60 ?_
    repeat' first | (refine ⟨fun _ => ?_, fun _ => ?_⟩ <;> try omega) | (refine ⟨by first | omega | (simp only [upm_ap, upd1_ap, Nat.reduceEqDiff, ↓reduceIte, eq_self] at * <;> omega) | fail, ?_⟩) | (refine P_num hD.1 (frX.rfl (m := m)) (fun e => by omega) (fun e => by omega) (fun _ m1 g1 g2 => ?_)) | (simp only [upm_ap, upd1_ap, Nat.reduceEqDiff, ↓reduceIte, eq_self] at *) | omega | fail
    have hY1 := (g1.y hY)
    refine RMr [] [] 60 ?_
    repeat' first | (refine ⟨fun _ => ?_, fun _ => ?_⟩ <;> try omega) | (refine ⟨by first | omega | (simp only [upm_ap, upd1_ap, Nat.reduceEqDiff, ↓reduceIte, eq_self] at * <;> omega) | fail, ?_⟩) | (refine M_isWell (fun e => absurd e hY1.x) (fun _ => ?_)) | (exact hQ _ (hY1.row (by omega) (by omega))) | (simp only [upm_ap, upd1_ap, Nat.reduceEqDiff, ↓reduceIte, eq_self] at *) | omega | fail
  · refine RMr [] [1220010] 60 ?_
    repeat' first | (refine ⟨fun _ => ?_, fun _ => ?_⟩ <;> try omega) | (refine ⟨by first | omega | (simp only [upm_ap, upd1_ap, Nat.reduceEqDiff, ↓reduceIte, eq_self] at * <;> omega) | fail, ?_⟩) | (refine P_num hD.1 (frX.rfl (m := m)) (fun _ _ e => by omega) (fun _ _ m1 g1 g2 => ?_) (fun e => by omega)) | (simp only [upm_ap, upd1_ap, Nat.reduceEqDiff, ↓reduceIte, eq_self] at *) | omega | fail
    have hY1 := (g1.y hY)
    refine RMr [] [] 60 ?_
    repeat' first | (refine ⟨fun _ => ?_, fun _ => ?_⟩ <;> try omega) | (refine ⟨by first | omega | (simp only [upm_ap, upd1_ap, Nat.reduceEqDiff, ↓reduceIte, eq_self] at * <;> omega) | fail, ?_⟩) | (refine M_isWell (fun e => absurd e hY1.x) (fun _ => ?_)) | (exact hQ _ (hY1.row (by omega) (by omega))) | (simp only [upm_ap, upd1_ap, Nat.reduceEqDiff, ↓reduceIte, eq_self] at *) | omega | fail
  · refine RMr [] [1220010] 60 ?_
    repeat' first | (refine ⟨fun _ => ?_, fun _ => ?_⟩ <;> try omega) | (refine ⟨by first | omega | (simp only [upm_ap, upd1_ap, Nat.reduceEqDiff, ↓reduceIte, eq_self] at * <;> omega) | fail, ?_⟩) | (refine P_num hD.1 (frX.rfl (m := m)) (fun _ _ _ m1 hx1 hP1 => ?_) (fun _ e => by omega) (fun e => by omega)) | (simp only [upm_ap, upd1_ap, Nat.reduceEqDiff, ↓reduceIte, eq_self] at *) | omega | fail
    exact C_mrk hr f _ _ _ _ h3 (hD.x hx1 hP1) (hY.x hx1) ((congrFun (hx1.1 7 (by decide)) r).trans h7) ((congrFun (hx1.1 10 (by decide)) r).trans h10) hQ
end
