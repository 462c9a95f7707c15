/-! the Desk: small methods, facts, days -/
set_option maxHeartbeats 400000
section
variable {d : Nat} {m : mD} {Q : mQ mD}
theorem D_in {v lo hi : Int} (h1 : lo ≤ v → v ≤ hi → Q (rI 1) m) (h0 : ¬ (lo ≤ v ∧ v ≤ hi) → Q (rI 0) m) : RD d 2 (0, [some (mI v), some (mI lo), some (mI hi)], [], m) Q := by
  refine RDr [] [] 40 ?_
  repeat' first | (refine ⟨fun _ => ?_, fun _ => ?_⟩ <;> try omega) | (refine ⟨by first | omega | rfl | assumption | (simp only [dst_1, dst_2, up3_ap, upd1_ap, Nat.reduceEqDiff, ↓reduceIte, eq_self] at * <;> omega) | fail, ?_⟩) | (exact h0 (by omega)) | (exact h1 (by omega) (by omega)) | (simp only [dst_1, dst_2, up3_ap, upd1_ap, Nat.reduceEqDiff, ↓reduceIte, eq_self] at *) | omega | fail
theorem D_isYear {v : Int} (h1 : 0 ≤ v → v ≤ 100 → Q (rI 1) m) (h0 : ¬ (0 ≤ v ∧ v ≤ 100) → Q (rI 0) m) : RD (d + 1) 3 (0, [some (mI v)], [], m) Q := by
  refine RDr [] [] 40 ?_
  repeat' first | (refine ⟨fun _ => ?_, fun _ => ?_⟩ <;> try omega) | (refine ⟨by first | omega | rfl | assumption | (simp only [dst_1, dst_2, up3_ap, upd1_ap, Nat.reduceEqDiff, ↓reduceIte, eq_self] at * <;> omega) | fail, ?_⟩) | (refine D_in (fun _ _ => ?_) (fun _ => ?_)) | (exact h0 (by omega)) | (exact h1 (by omega) (by omega)) | (simp only [dst_1, dst_2, up3_ap, upd1_ap, Nat.reduceEqDiff, ↓reduceIte, eq_self] at *) | omega | fail
theorem D_isKnown {v : Int} (h1 : 0 ≤ v → v ≤ m.1 105 1000 0 → Q (rI 1) m) (h0 : ¬ (0 ≤ v ∧ v ≤ m.1 105 1000 0) → Q (rI 0) m) : RD (d + 1) 5 (0, [some (mR 1000), some (mI v)], [], m) Q := by
  refine RDr [] [] 40 ?_
  repeat' first | (refine ⟨fun _ => ?_, fun _ => ?_⟩ <;> try omega) | (refine ⟨by first | omega | rfl | assumption | (simp only [dst_1, dst_2, up3_ap, upd1_ap, Nat.reduceEqDiff, ↓reduceIte, eq_self] at * <;> omega) | fail, ?_⟩) | (refine D_in (fun _ _ => ?_) (fun _ => ?_)) | (exact h0 (by omega)) | (exact h1 (by omega) (by omega)) | (simp only [dst_1, dst_2, up3_ap, upd1_ap, Nat.reduceEqDiff, ↓reduceIte, eq_self] at *) | omega | fail
theorem D_yearNow (h : 0 ≤ m.1 105 1000 0) (hQ : Q (rI (m.1 105 1000 0 / 360)) m) : RD d 19 (0, [some (mR 1000)], [], m) Q := by
  refine RDr [] [] 40 ?_
  repeat' first | (refine ⟨fun _ => ?_, fun _ => ?_⟩ <;> try omega) | (refine ⟨by first | omega | rfl | assumption | (simp only [dst_1, dst_2, up3_ap, upd1_ap, Nat.reduceEqDiff, ↓reduceIte, eq_self] at * <;> omega) | fail, ?_⟩) | (exact hQ) | (simp only [dst_1, dst_2, up3_ap, upd1_ap, Nat.reduceEqDiff, ↓reduceIte, eq_self] at *) | omega | fail
theorem D_lastDay {y : Int} (h : 0 ≤ y ∧ y ≤ 1000) (hQ : ∀ v, v = 360 * y + 359 → Q (rI v) m) : RD d 21 (0, [some (mI y)], [], m) Q := by
  refine RDr [] [] 40 ?_
  repeat' first | (refine ⟨fun _ => ?_, fun _ => ?_⟩ <;> try omega) | (refine ⟨by first | omega | rfl | assumption | (simp only [dst_1, dst_2, up3_ap, upd1_ap, Nat.reduceEqDiff, ↓reduceIte, eq_self] at * <;> omega) | fail, ?_⟩) | (exact hQ _ (by omega)) | (simp only [dst_1, dst_2, up3_ap, upd1_ap, Nat.reduceEqDiff, ↓reduceIte, eq_self] at *) | omega | fail
theorem D_held {v : Int} (hQ : Q (rJ (bd v)) m) : RD (d + 1) 25 (0, [some (mJ v), none], [], m) Q := by
  refine RDr [] [] 40 ?_
  repeat' first | (refine ⟨fun _ => ?_, fun _ => ?_⟩ <;> try omega) | (refine ⟨by first | omega | rfl | assumption | (simp only [dst_1, dst_2, up3_ap, upd1_ap, Nat.reduceEqDiff, ↓reduceIte, eq_self] at * <;> omega) | fail, ?_⟩) | (exact hQ) | (simp only [dst_1, dst_2, up3_ap, upd1_ap, Nat.reduceEqDiff, ↓reduceIte, eq_self] at *) | omega | fail
def dfA (m : mD) (which year known : Int) : Int := fval (m.1 10100 1001) (m.1 10101 1002) (m.1 10102 1003) (m.1 10103 1004) which year known (m.1 104 1000 0)
theorem D_factAt {which year known : Int} {x4 x5 : Option mV} (hn : 0 ≤ m.1 104 1000 0 ∧ m.1 104 1000 0 ≤ 300) (hQ : Q (rI (dfA m which year known)) m) : RD d 6 (0, [some (mR 1000), some (mI which), some (mI year), some (mI known), x4, x5], [], m) Q := by
  unfold dfA fval at hQ
  have hF := fbest_b (m.1 10100 1001) (m.1 10101 1002) (m.1 10102 1003) which year known
  refine RDr [] [60006] 20 ?_
  refine up_ind (n := m.1 104 1000 0) (P := fun k => ∀ v, v = fbest (m.1 10100 1001) (m.1 10101 1002) (m.1 10102 1003) which year known k.toNat → RD d 6 (6, [some (mR 1000), some (mI which), some (mI year), some (mI known), some (mI v), some (mI k)], [], m) Q) ?_ ?_ 0 (by omega) (by omega) (-1) rfl
  · intro v hv
    have hb := hF (m.1 104 1000 0).toNat
    rw [← hv] at hQ hb
    refine RDr [] [60006] 60 ?_
    repeat' first | (refine ⟨fun _ => ?_, fun _ => ?_⟩ <;> try omega) | (refine ⟨by first | omega | rfl | assumption | (simp only [dst_1, dst_2, up3_ap, upd1_ap, Nat.reduceEqDiff, ↓reduceIte, eq_self] at * <;> omega) | fail, ?_⟩) | (simp only [dst_1, dst_2, up3_ap, upd1_ap, Nat.reduceEqDiff, ↓reduceIte, eq_self] at *) | omega | fail
    · rw [if_neg (by assumption)] at hQ
      exact hQ
    · rw [if_pos (by assumption)] at hQ
      exact hQ
  · intro k h0 h1 ih v hv
    have hb := hF k.toNat
    have hs := fbest_s (m.1 10100 1001) (m.1 10101 1002) (m.1 10102 1003) which year known h0
    rw [← hv] at hs hb
    have f1 : (m.1 10100 1001 k = which ∧ m.1 10101 1002 k ≤ year ∧ m.1 10102 1003 k ≤ known ∧ (v = -1 ∨ m.1 10101 1002 v ≤ m.1 10101 1002 k)) → RD d 6 (6, [some (mR 1000), some (mI which), some (mI year), some (mI known), some (mI k), some (mI (k + 1))], [], m) Q := fun h => ih k (by rw [hs, if_pos h])
    have f2 : ¬ (m.1 10100 1001 k = which ∧ m.1 10101 1002 k ≤ year ∧ m.1 10102 1003 k ≤ known ∧ (v = -1 ∨ m.1 10101 1002 v ≤ m.1 10101 1002 k)) → RD d 6 (6, [some (mR 1000), some (mI which), some (mI year), some (mI known), some (mI v), some (mI (k + 1))], [], m) Q := fun h => ih v (by rw [hs, if_neg h])
    clear ih hs hF
    refine RDr [] [60006] 60 ?_
    repeat' first | (refine ⟨fun _ => ?_, fun _ => ?_⟩ <;> try omega) | (refine ⟨by first | omega | rfl | assumption | (simp only [dst_1, dst_2, up3_ap, upd1_ap, Nat.reduceEqDiff, ↓reduceIte, eq_self] at * <;> omega) | fail, ?_⟩) | (exact f1 (by omega)) | (exact f2 (by omega)) | (simp only [dst_1, dst_2, up3_ap, upd1_ap, Nat.reduceEqDiff, ↓reduceIte, eq_self] at *) | omega | fail
theorem D_factAtE {which year known v : Int} {x4 x5 : Option mV} (hn : 0 ≤ m.1 104 1000 0 ∧ m.1 104 1000 0 ≤ 300) (hv : dfA m which year known = v) (hQ : Q (rI v) m) : RD d 6 (0, [some (mR 1000), some (mI which), some (mI year), some (mI known), x4, x5], [], m) Q := D_factAt hn (by rw [hv]; exact hQ)
theorem D_factOf {which year known : Int} (hn : 0 ≤ m.1 104 1000 0 ∧ m.1 104 1000 0 ≤ 300) 
    (h1 : 0 ≤ which ∧ which ≤ 7 → 0 ≤ year ∧ year ≤ 100 → 0 ≤ known ∧ known ≤ m.1 105 1000 0 → Q (rI (dfA m which year known)) m)
    (h0 : ¬ ((0 ≤ which ∧ which ≤ 7) ∧ (0 ≤ year ∧ year ≤ 100) ∧ (0 ≤ known ∧ known ≤ m.1 105 1000 0)) → Q (rI (-1)) m) : RD (d + 2) 4 (0, [some (mR 1000), some (mI which), some (mI year), some (mI known)], [], m) Q := by
  refine RDr [] [] 200 ?_
  repeat' first | (refine ⟨fun _ => ?_, fun _ => ?_⟩ <;> try omega) | (refine ⟨by first | omega | rfl | assumption | (simp only [dst_1, dst_2, up3_ap, upd1_ap, Nat.reduceEqDiff, ↓reduceIte, eq_self] at * <;> omega) | fail, ?_⟩) | (refine D_in (fun _ _ => ?_) (fun _ => ?_)) | (refine D_isYear (fun _ _ => ?_) (fun _ => ?_)) | (refine D_isKnown (fun _ _ => ?_) (fun _ => ?_)) | (refine D_factAt hn ?_) | (exact h0 (by omega)) | (exact h1 (by omega) (by omega) (by omega)) | (simp only [dst_1, dst_2, up3_ap, upd1_ap, Nat.reduceEqDiff, ↓reduceIte, eq_self] at *) | omega | fail
theorem D_fact {which year v : Int} (hn : 0 ≤ m.1 104 1000 0 ∧ m.1 104 1000 0 ≤ 300) 
    (h1 : 0 ≤ which ∧ which ≤ 7 → 0 ≤ year ∧ year ≤ 100 → 0 ≤ v ∧ v ≤ 9999 → m.1 104 1000 0 < 300 → Q (rI 1) (dst (dst (dst (dst (dst m 10100 1001 (m.1 104 1000 0) which) 10101 1002 (m.1 104 1000 0) year) 10102 1003 (m.1 104 1000 0) (m.1 105 1000 0)) 10103 1004 (m.1 104 1000 0) v) 104 1000 0 (m.1 104 1000 0 + 1)))
    (h0 : ¬ ((0 ≤ which ∧ which ≤ 7) ∧ (0 ≤ year ∧ year ≤ 100) ∧ (0 ≤ v ∧ v ≤ 9999) ∧ m.1 104 1000 0 < 300) → Q (rI 0) m) : RD (d + 2) 1 (0, [some (mR 1000), some (mI which), some (mI year), some (mI v)], [], m) Q := by
  refine RDr [] [] 200 ?_
  repeat' first | (refine ⟨fun _ => ?_, fun _ => ?_⟩ <;> try omega) | (refine ⟨by first | omega | rfl | assumption | (simp only [dst_1, dst_2, up3_ap, upd1_ap, Nat.reduceEqDiff, ↓reduceIte, eq_self] at * <;> omega) | fail, ?_⟩) | (refine D_in (fun _ _ => ?_) (fun _ => ?_)) | (refine D_isYear (fun _ _ => ?_) (fun _ => ?_)) | (exact h0 (by omega)) | (exact h1 (by omega) (by omega) (by omega) (by omega)) | (simp only [dst_1, dst_2, up3_ap, upd1_ap, Nat.reduceEqDiff, ↓reduceIte, eq_self] at *) | omega | fail
theorem D_end {n : Int} (h1 : 0 ≤ n → n ≤ m.1 107 1000 0 → Q (rI n) (dst m 107 1000 0 n)) (h0 : ¬ (0 ≤ n ∧ n ≤ m.1 107 1000 0) → Q (rI (-1)) m) : RD (d + 1) 8 (0, [some (mR 1000), some (mI n)], [], m) Q := by
  refine RDr [] [] 200 ?_
  repeat' first | (refine ⟨fun _ => ?_, fun _ => ?_⟩ <;> try omega) | (refine ⟨by first | omega | rfl | assumption | (simp only [dst_1, dst_2, up3_ap, upd1_ap, Nat.reduceEqDiff, ↓reduceIte, eq_self] at * <;> omega) | fail, ?_⟩) | (refine D_in (fun _ _ => ?_) (fun _ => ?_)) | (exact h0 (by omega)) | (exact h1 (by omega) (by omega)) | (simp only [dst_1, dst_2, up3_ap, upd1_ap, Nat.reduceEqDiff, ↓reduceIte, eq_self] at *) | omega | fail
theorem D_place (hQ : Q (rI (m.1 108 1000 0)) m) : RD d 17 (0, [some (mR 1000)], [], m) Q := by
  refine RDr [] [] 40 ?_
  repeat' first | (refine ⟨fun _ => ?_, fun _ => ?_⟩ <;> try omega) | (refine ⟨by first | omega | rfl | assumption | (simp only [dst_1, dst_2, up3_ap, upd1_ap, Nat.reduceEqDiff, ↓reduceIte, eq_self] at * <;> omega) | fail, ?_⟩) | (exact hQ) | (simp only [dst_1, dst_2, up3_ap, upd1_ap, Nat.reduceEqDiff, ↓reduceIte, eq_self] at *) | omega | fail
def dAOn (m : mD) (day : Int) : Int := if abest (fun k => m.1 302 ((m.1 10109 1006 k)) 0) day (m.1 20109 1006 0).toNat = -1 then 1008 else (m.1 10109 1006 (abest (fun k => m.1 302 ((m.1 10109 1006 k)) 0) day (m.1 20109 1006 0).toNat))
theorem D_actOn {day : Int} {x2 x3 x4 : Option mV} (hk : m.2.1 1006 = 10109) (hn : 0 ≤ m.1 20109 1006 0 ∧ m.1 20109 1006 0 ≤ 20) (hA : ∀ k, 0 ≤ k → k < m.1 20109 1006 0 → m.2.1 ((m.1 10109 1006 k)) = 3 ∧ 1008 < (m.1 10109 1006 k)) (hQ : Q (rR (dAOn m day)) m) : RD (d + 1) 13 (0, [some (mR 1000), some (mI day), x2, x3, x4], [], m) Q := by
  unfold dAOn at hQ
  have hF := abest_b (fun k => m.1 302 ((m.1 10109 1006 k)) 0) day
  refine RDr [] [130007] 20 ?_
  refine up_ind (n := m.1 20109 1006 0) (P := fun k => ∀ b x4, b = (if abest (fun k => m.1 302 ((m.1 10109 1006 k)) 0) day k.toNat = -1 then 1008 else (m.1 10109 1006 (abest (fun k => m.1 302 ((m.1 10109 1006 k)) 0) day k.toNat))) → RD (d + 1) 13 (7, [some (mR 1000), some (mI day), some (mR b), some (mI k), x4], [], m) Q) ?_ ?_ 0 (by omega) (by omega) 1008 x4 rfl
  · intro b x4 hb
    rw [← hb] at hQ
    refine RDr [] [130007] 60 ?_
    repeat' first | (refine ⟨fun _ => ?_, fun _ => ?_⟩ <;> try omega) | (refine ⟨by first | omega | rfl | assumption | (simp only [dst_1, dst_2, up3_ap, upd1_ap, Nat.reduceEqDiff, ↓reduceIte, eq_self] at * <;> omega) | fail, ?_⟩) | (exact hQ) | (simp only [dst_1, dst_2, up3_ap, upd1_ap, Nat.reduceEqDiff, ↓reduceIte, eq_self] at *) | omega | fail
  · intro k h0 h1 ih b x4 hb
    have hbb := hF k.toNat
    have hs := abest_s (fun k => m.1 302 ((m.1 10109 1006 k)) 0) day h0
    have hAk : m.2.1 (m.1 10109 1006 k) = 3 ∧ 1008 < m.1 10109 1006 k := hA k h0 h1
    generalize abest (fun k => m.1 302 ((m.1 10109 1006 k)) 0) day k.toNat = p at *
    have f1 : (m.1 302 ((m.1 10109 1006 k)) 0 ≤ day ∧ (p = -1 ∨ m.1 302 ((m.1 10109 1006 p)) 0 ≤ m.1 302 ((m.1 10109 1006 k)) 0)) → RD (d + 1) 13 (7, [some (mR 1000), some (mI day), some (mR ((m.1 10109 1006 k))), some (mI (k + 1)), some (mR ((m.1 10109 1006 k)))], [], m) Q := fun h => ih _ _ (by rw [hs, if_pos h, if_neg (by omega)])
    have f2 : ¬ (m.1 302 ((m.1 10109 1006 k)) 0 ≤ day ∧ (p = -1 ∨ m.1 302 ((m.1 10109 1006 p)) 0 ≤ m.1 302 ((m.1 10109 1006 k)) 0)) → RD (d + 1) 13 (7, [some (mR 1000), some (mI day), some (mR b), some (mI (k + 1)), some (mR ((m.1 10109 1006 k)))], [], m) Q := fun h => ih _ _ (by rw [hs, if_neg h, hb])
    clear ih hs hF
    by_cases hp : p = -1
    · rw [if_pos hp] at hb
      subst hb
      have f1 : (m.1 302 (m.1 10109 1006 k) 0 ≤ day ∧ (p = -1 ∨ m.1 302 (m.1 10109 1006 p) 0 ≤ m.1 302 (m.1 10109 1006 k) 0)) → _ := f1
      have f2 : ¬ (m.1 302 (m.1 10109 1006 k) 0 ≤ day ∧ (p = -1 ∨ m.1 302 (m.1 10109 1006 p) 0 ≤ m.1 302 (m.1 10109 1006 k) 0)) → _ := f2
      refine RDr [] [130007] 60 ?_
      repeat' first | (refine ⟨fun _ => ?_, fun _ => ?_⟩ <;> try omega) | (refine ⟨by first | omega | rfl | assumption | (simp only [dst_1, dst_2, up3_ap, upd1_ap, Nat.reduceEqDiff, ↓reduceIte, eq_self] at * <;> omega) | fail, ?_⟩) | (exact f1 (by omega)) | (exact f2 (by omega)) | (simp only [dst_1, dst_2, up3_ap, upd1_ap, Nat.reduceEqDiff, ↓reduceIte, eq_self] at *) | omega | fail
    · rw [if_neg hp] at hb
      have hAp : m.2.1 (m.1 10109 1006 p) = 3 ∧ 1008 < m.1 10109 1006 p := hA p (by omega) (by omega)
      have hb : b = m.1 10109 1006 p := hb
      rw [← hb] at hAp
      have f1 : (m.1 302 (m.1 10109 1006 k) 0 ≤ day ∧ (p = -1 ∨ m.1 302 (m.1 10109 1006 p) 0 ≤ m.1 302 (m.1 10109 1006 k) 0)) → _ := f1
      have f2 : ¬ (m.1 302 (m.1 10109 1006 k) 0 ≤ day ∧ (p = -1 ∨ m.1 302 (m.1 10109 1006 p) 0 ≤ m.1 302 (m.1 10109 1006 k) 0)) → _ := f2
      rw [← hb] at f1 f2
      refine RDr [] [130007] 60 ?_
      repeat' first | (refine ⟨fun _ => ?_, fun _ => ?_⟩ <;> try omega) | (refine ⟨by first | omega | rfl | assumption | (simp only [dst_1, dst_2, up3_ap, upd1_ap, Nat.reduceEqDiff, ↓reduceIte, eq_self] at * <;> omega) | fail, ?_⟩) | (exact f1 (by omega)) | (exact f2 (by omega)) | (simp only [dst_1, dst_2, up3_ap, upd1_ap, Nat.reduceEqDiff, ↓reduceIte, eq_self] at *) | omega | fail
end
