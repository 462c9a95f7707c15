/-! BOTH: looks at funds -/
set_option maxHeartbeats 3200000
set_option maxRecDepth 100000
/-- the Model answers the same, and what they hold agrees -/
def JM (y : Nat) (L : mL) (m : sg) (c : Int) : mQ mD := fun o h' => ∀ d : Nat, RM (d + 100) y (0, L, [], m) (fun o' m' => o' = o ∧ Rc c h' m')
section
variable {d : Nat} {h h' : mD} {m m' : sg} {Q : mQ mD} {c : Int}
theorem RL.fnd (hR : RL h m) : fnd h := ⟨hR.fl.1.1, by rw [hR.fl.1.2.1]; exact hR.fl.1.2.2, fun k k0 k1 => (hR.fl.2 k k0 (by rw [← hR.fl.1.2.1]; exact k1)).1⟩
theorem J_place (hR : Rc (c + 1) h m) (hc : 0 ≤ c) : RD (d + 100) 17 (0, [some (mR 1000)], [], h) (JM 87 [some (mR 1026)] m c) := by
  refine D_place (fun d' => M_place ⟨?_, hR.s0 hc⟩)
  rw [hR.1.tp.2.1]
theorem J_factOf {w y k : Int} (hR : Rc (c + 1) h m) (hc : 0 ≤ c) : RD (d + 100) 4 (0, [some (mR 1000), some (mI w), some (mI y), some (mI k)], [], h) (JM 82 [some (mR 1026), some (mI w), some (mI y), some (mI k)] m c) := by
  have hL := hR.1
  have h2 := hL.fc.1
  have h5 := hL.now.1
  refine D_factOf (d := d + 98) (by omega) (fun a1 a2 a3 d' => M_factOf (d := d' + 99) h2.2 (fun _ _ _ => ⟨by rw [hL.fc.fq], hR.s0 hc⟩) (fun hh => absurd ⟨a1, a2, by omega⟩ hh)) (fun hh d' => M_factOf (d := d' + 99) h2.2 (fun a1 a2 a3 => absurd ⟨a1, a2, by omega⟩ hh) (fun _ => ⟨rfl, hR.s0 hc⟩))
theorem J_coin {f : Int} (hR : Rc (c + 1) h m) (hc : 0 ≤ c) : RD (d + 100) 38 (0, [some (mR 1000), some (mI f)], [], h) (JM 179 [some (mR 1026), some (mI f)] m c) := by
  have hL := hR.1
  have hs := hR.s0 hc
  have n32 := hL.fl.1
  have hf := hL.fnd
  by_cases f1 : 0 ≤ f ∧ f < (h.1 20111 1012 0)
  · have fin : JM 179 [some (mR 1026), some (mI f)] m c (rJ (h.1 1410 ((h.1 10111 1012 f)) 0)) h := fun d' => M_coin (by omega) (fun _ _ => ⟨by rw [(hL.fv f (by omega) (by omega)).1.2.2.2.2.2.2], hs⟩) (fun hh => absurd hh (by omega))
    have kF := hf.2.2 f f1.1 f1.2
    have k0 := hf.1
    refine RDr [] [] 40 ?_
    repeat' first | (refine D_fundAt hf (fun _ _ => ?_) (fun _ => ?_)) | (refine ⟨fun _ => ?_, fun _ => ?_⟩ <;> try omega) | (refine ⟨by first | omega | rfl | assumption | (simp only [dst_1, dst_2, up3_ap, upd1_ap, Nat.reduceEqDiff, ↓reduceIte, eq_self] at * <;> omega) | fail, ?_⟩) | (exact fin) | (simp only [dst_1, dst_2, up3_ap, upd1_ap, Nat.reduceEqDiff, ↓reduceIte, eq_self] at *) | omega | fail
  · have fin : JM 179 [some (mR 1026), some (mI f)] m c (rJ (-1)) h := fun d' => M_coin (by omega) (fun _ _ => absurd f1 (by omega)) (fun hh => ⟨rfl, hs⟩)
    refine RDr [] [] 40 ?_
    repeat' first | (refine D_fundAt hf (fun _ _ => ?_) (fun _ => ?_)) | (refine ⟨fun _ => ?_, fun _ => ?_⟩ <;> try omega) | (refine ⟨by first | omega | rfl | assumption | (simp only [dst_1, dst_2, up3_ap, upd1_ap, Nat.reduceEqDiff, ↓reduceIte, eq_self] at * <;> omega) | fail, ?_⟩) | (exact fin) | (simp only [dst_1, dst_2, up3_ap, upd1_ap, Nat.reduceEqDiff, ↓reduceIte, eq_self] at *) | omega | fail
theorem J_paid {f : Int} (hR : Rc (c + 1) h m) (hc : 0 ≤ c) : RD (d + 100) 41 (0, [some (mR 1000), some (mI f)], [], h) (JM 182 [some (mR 1026), some (mI f)] m c) := by
  have hL := hR.1
  have hs := hR.s0 hc
  have n32 := hL.fl.1
  have k0 := n32.1
  by_cases f1 : 0 ≤ f ∧ f < (h.1 20111 1012 0)
  · have fin : JM 182 [some (mR 1026), some (mI f)] m c (rJ (h.1 10113 1016 f)) h := fun d' => M_paid (by omega) (fun _ _ => ⟨by rw [(hL.pd f (by omega) (by omega)).1], hs⟩) (fun hh => absurd hh (by omega))
    refine RDr [] [] 40 ?_
    repeat' first | (refine D_in (fun _ _ => ?_) (fun _ => ?_)) | (refine ⟨fun _ => ?_, fun _ => ?_⟩ <;> try omega) | (refine ⟨by first | omega | rfl | assumption | (simp only [dst_1, dst_2, up3_ap, upd1_ap, Nat.reduceEqDiff, ↓reduceIte, eq_self] at * <;> omega) | fail, ?_⟩) | (exact fin) | (simp only [dst_1, dst_2, up3_ap, upd1_ap, Nat.reduceEqDiff, ↓reduceIte, eq_self] at *) | omega | fail
  · have fin : JM 182 [some (mR 1026), some (mI f)] m c (rJ (-1)) h := fun d' => M_paid (by omega) (fun _ _ => absurd f1 (by omega)) (fun hh => ⟨rfl, hs⟩)
    refine RDr [] [] 40 ?_
    repeat' first | (refine D_in (fun _ _ => ?_) (fun _ => ?_)) | (refine ⟨fun _ => ?_, fun _ => ?_⟩ <;> try omega) | (refine ⟨by first | omega | rfl | assumption | (simp only [dst_1, dst_2, up3_ap, upd1_ap, Nat.reduceEqDiff, ↓reduceIte, eq_self] at * <;> omega) | fail, ?_⟩) | (exact fin) | (simp only [dst_1, dst_2, up3_ap, upd1_ap, Nat.reduceEqDiff, ↓reduceIte, eq_self] at *) | omega | fail
theorem J_part {f k : Int} (hR : Rc (c + 1) h m) (hc : 0 ≤ c) : RD (d + 100) 40 (0, [some (mR 1000), some (mI f), some (mI k)], [], h) (JM 181 [some (mR 1026), some (mI f), some (mI k)] m c) := by
  have hL := hR.1
  have hs := hR.s0 hc
  have n32 := hL.fl.1
  have hf := hL.fnd
  have k0 := n32.1
  by_cases f1 : (0 ≤ f ∧ f < (h.1 20111 1012 0)) ∧ 0 ≤ k ∧ k < (h.1 20111 1012 0)
  · have fin : JM 181 [some (mR 1026), some (mI f), some (mI k)] m c (rI (h.1 11405 (h.1 1405 ((h.1 10111 1012 f)) 0) k)) h := fun d' => M_part (by omega) (fun _ _ _ _ => ⟨by rw [((hL.fp f (by omega) (by omega)).1 k (by omega) (by omega)).1], hs⟩) (fun hh => absurd hh (by omega))
    have kF := hf.2.2 f f1.1.1 f1.1.2
    have kp := (hL.fl.2 f (by omega) (by omega)).2.2.2.2.1.1
    refine RDr [] [] 40 ?_
    repeat' first | (refine D_fundAt hf (fun _ _ => ?_) (fun _ => ?_)) | (refine D_in (fun _ _ => ?_) (fun _ => ?_)) | ((refine ⟨kp, ⟨by omega, by omega⟩, ?_⟩)) | (refine ⟨fun _ => ?_, fun _ => ?_⟩ <;> try omega) | (refine ⟨by first | omega | rfl | assumption | (simp only [dst_1, dst_2, up3_ap, upd1_ap, Nat.reduceEqDiff, ↓reduceIte, eq_self] at * <;> omega) | fail, ?_⟩) | (exact fin) | (simp only [dst_1, dst_2, up3_ap, upd1_ap, Nat.reduceEqDiff, ↓reduceIte, eq_self] at *) | omega | fail
  · have fin : JM 181 [some (mR 1026), some (mI f), some (mI k)] m c (rI (-1)) h := fun d' => M_part (by omega) (fun _ _ _ _ => absurd f1 (by omega)) (fun hh => ⟨rfl, hs⟩)
    by_cases f2 : 0 ≤ f ∧ f < (h.1 20111 1012 0)
    · have kF := hf.2.2 f f2.1 f2.2
      refine RDr [] [] 40 ?_
      repeat' first | (refine D_fundAt hf (fun _ _ => ?_) (fun _ => ?_)) | (refine D_in (fun _ _ => ?_) (fun _ => ?_)) | (refine ⟨fun _ => ?_, fun _ => ?_⟩ <;> try omega) | (refine ⟨by first | omega | rfl | assumption | (simp only [dst_1, dst_2, up3_ap, upd1_ap, Nat.reduceEqDiff, ↓reduceIte, eq_self] at * <;> omega) | fail, ?_⟩) | (exact fin) | (simp only [dst_1, dst_2, up3_ap, upd1_ap, Nat.reduceEqDiff, ↓reduceIte, eq_self] at *) | omega | fail
    · refine RDr [] [] 40 ?_
      repeat' first | (refine D_fundAt hf (fun _ _ => ?_) (fun _ => ?_)) | (refine D_in (fun _ _ => ?_) (fun _ => ?_)) | (refine ⟨fun _ => ?_, fun _ => ?_⟩ <;> try omega) | (refine ⟨by first | omega | rfl | assumption | (simp only [dst_1, dst_2, up3_ap, upd1_ap, Nat.reduceEqDiff, ↓reduceIte, eq_self] at * <;> omega) | fail, ?_⟩) | (exact fin) | (simp only [dst_1, dst_2, up3_ap, upd1_ap, Nat.reduceEqDiff, ↓reduceIte, eq_self] at *) | omega | fail
theorem inc_b (hL : RL h m) {f : Int} (hf : 0 ≤ f ∧ f < m 32 0) (year day : Int) : i32 (m 33 f * fA m 6 year day) ∧ i32 (m 33 f * fA m 6 year day + m 34 f) ∧ (0 ≤ m 33 f * fA m 6 year day + m 34 f ∧ m 33 f * fA m 6 year day + m 34 f ≤ 10089000) := by
  have h1 := (hL.fv f hf.1 hf.2).2.2.2
  have h2 := hL.fc.b 6 year day
  have h3 : 0 ≤ m 33 f * fA m 6 year day := Int.mul_nonneg h1.1.1 h2.1
  have h4 : m 33 f * fA m 6 year day ≤ 999 * 9999 := by
    refine Int.le_trans (Int.mul_le_mul_of_nonneg_right h1.1.2 h2.1) (Int.mul_le_mul_of_nonneg_left h2.2 (by omega))
  unfold i32
  have h5 := h1.2.1
  omega
theorem D_incomeOf (hL : RL h m) {f year day : Int} (hf : 0 ≤ f ∧ f < m 32 0) (hQ : Q (rI (m 33 f * fA m 6 year day + m 34 f)) h) : RD (d + 1) 22 (0, [some (mR 1000), some (mR ((h.1 10111 1012 f))), some (mI year), some (mI day)], [], h) Q := by
  have hb := inc_b hL hf year day
  have hv := (hL.fv f hf.1 hf.2).1
  have h3 : h.1 1406 ((h.1 10111 1012 f)) 0 = m 33 f := hv.2.2.1
  have h4 : h.1 1407 ((h.1 10111 1012 f)) 0 = m 34 f := hv.2.2.2.1
  have kF := (hL.fl.2 f hf.1 hf.2).1
  have hA := hL.fc.fq 6 year day
  rw [← h3, ← h4] at hQ hb
  have h2 := hL.fc.1
  refine RDr [] [] 40 ?_
  repeat' first | (refine D_factAtE (by omega) hA ?_) | ((refine ⟨hb.1, ?_⟩)) | ((refine ⟨hb.2.1, ?_⟩)) | (refine ⟨fun _ => ?_, fun _ => ?_⟩ <;> try omega) | (refine ⟨by first | omega | rfl | assumption | (simp only [dst_1, dst_2, up3_ap, upd1_ap, Nat.reduceEqDiff, ↓reduceIte, eq_self] at * <;> omega) | fail, ?_⟩) | (exact hQ) | (simp only [dst_1, dst_2, up3_ap, upd1_ap, Nat.reduceEqDiff, ↓reduceIte, eq_self] at *) | omega | fail
theorem J_income {f year day : Int} (hR : Rc (c + 1) h m) (hc : 0 ≤ c) : RD (d + 100) 39 (0, [some (mR 1000), some (mI f), some (mI year), some (mI day)], [], h) (JM 180 [some (mR 1026), some (mI f), some (mI year), some (mI day)] m c) := by
  have hL := hR.1
  have hs := hR.s0 hc
  have n32 := hL.fl.1
  have hf := hL.fnd
  have h5 := hL.now
  have h5' := h5.1
  have hi : 0 ≤ f → f < m 32 0 → i32 (m 33 f * fA m 6 year day) ∧ i32 (m 33 f * fA m 6 year day + m 34 f) := fun a b => ⟨(inc_b hL ⟨a, b⟩ year day).1, (inc_b hL ⟨a, b⟩ year day).2.1⟩
  by_cases f1 : (0 ≤ f ∧ f < (h.1 20111 1012 0)) ∧ (0 ≤ year ∧ year ≤ 100) ∧ 0 ≤ day ∧ day ≤ m 1 0
  · have fin : JM 180 [some (mR 1026), some (mI f), some (mI year), some (mI day)] m c (rI (m 33 f * fA m 6 year day + m 34 f)) h := fun d' => M_income (d := d' + 98) (by omega) hL.fc.1.2 hi (fun _ _ _ _ => ⟨rfl, hs⟩) (fun hh => absurd hh (by omega))
    have kF := hf.2.2 f f1.1.1 f1.1.2
    have k0 := n32.1
    clear hi
    refine RDr [] [] 40 ?_
    repeat' first | (refine D_fundAt hf (fun _ _ => ?_) (fun _ => ?_)) | (refine D_isYear (fun _ _ => ?_) (fun _ => ?_)) | (refine D_isKnown (fun _ _ => ?_) (fun _ => ?_)) | (refine D_incomeOf hL (by omega) ?_) | (refine ⟨fun _ => ?_, fun _ => ?_⟩ <;> try omega) | (refine ⟨by first | omega | rfl | assumption | (simp only [dst_1, dst_2, up3_ap, upd1_ap, Nat.reduceEqDiff, ↓reduceIte, eq_self] at * <;> omega) | fail, ?_⟩) | (exact fin) | (simp only [dst_1, dst_2, up3_ap, upd1_ap, Nat.reduceEqDiff, ↓reduceIte, eq_self] at *) | omega | fail
  · have fin : JM 180 [some (mR 1026), some (mI f), some (mI year), some (mI day)] m c (rI (-1)) h := fun d' => M_income (d := d' + 98) (by omega) hL.fc.1.2 hi (fun _ _ _ _ => absurd f1 (by omega)) (fun hh => ⟨rfl, hs⟩)
    have k0 := n32.1
    clear hi
    by_cases f2 : 0 ≤ f ∧ f < (h.1 20111 1012 0)
    · have kF := hf.2.2 f f2.1 f2.2
      refine RDr [] [] 40 ?_
      repeat' first | (refine D_fundAt hf (fun _ _ => ?_) (fun _ => ?_)) | (refine D_isYear (fun _ _ => ?_) (fun _ => ?_)) | (refine D_isKnown (fun _ _ => ?_) (fun _ => ?_)) | (refine ⟨fun _ => ?_, fun _ => ?_⟩ <;> try omega) | (refine ⟨by first | omega | rfl | assumption | (simp only [dst_1, dst_2, up3_ap, upd1_ap, Nat.reduceEqDiff, ↓reduceIte, eq_self] at * <;> omega) | fail, ?_⟩) | (exact fin) | (simp only [dst_1, dst_2, up3_ap, upd1_ap, Nat.reduceEqDiff, ↓reduceIte, eq_self] at *) | omega | fail
    · refine RDr [] [] 40 ?_
      repeat' first | (refine D_fundAt hf (fun _ _ => ?_) (fun _ => ?_)) | (refine ⟨fun _ => ?_, fun _ => ?_⟩ <;> try omega) | (refine ⟨by first | omega | rfl | assumption | (simp only [dst_1, dst_2, up3_ap, upd1_ap, Nat.reduceEqDiff, ↓reduceIte, eq_self] at * <;> omega) | fail, ?_⟩) | (exact fin) | (simp only [dst_1, dst_2, up3_ap, upd1_ap, Nat.reduceEqDiff, ↓reduceIte, eq_self] at *) | omega | fail
theorem J_entry {k w : Int} (hR : Rc (c + 1) h m) (hc : 0 ≤ c) : RD (d + 100) 46 (0, [some (mR 1000), some (mI k), some (mI w)], [], h) (JM 184 [some (mR 1026), some (mI k), some (mI w)] m c) := by
  have hL := hR.1
  have hs := hR.s0 hc
  have n51 := hL.en.1
  by_cases f1 : (0 ≤ k ∧ k < m 51 0) ∧ 0 ≤ w ∧ w ≤ 3
  · have fin : ∀ v, v = m 52 (4 * k + w) → JM 184 [some (mR 1026), some (mI k), some (mI w)] m c (rI v) h := fun v hv d' => M_entry n51.2 (fun _ _ _ _ => ⟨by rw [hv], hs⟩) (fun hh => absurd hh (by omega))
    have ek := hL.en.2 k f1.1.1 f1.1.2
    have : w = 0 ∨ w = 1 ∨ w = 2 ∨ w = 3 := by omega
    rcases this with e | e | e | e <;> subst e
    · have fin := fin (h.1 10114 1017 k) (by rw [ek.1]; congr 1; omega)
      refine RDr [] [] 40 ?_
      repeat' first | (refine D_in (fun _ _ => ?_) (fun _ => ?_)) | (refine ⟨fun _ => ?_, fun _ => ?_⟩ <;> try omega) | (refine ⟨by first | omega | rfl | assumption | (simp only [dst_1, dst_2, up3_ap, upd1_ap, Nat.reduceEqDiff, ↓reduceIte, eq_self] at * <;> omega) | fail, ?_⟩) | (exact fin) | (simp only [dst_1, dst_2, up3_ap, upd1_ap, Nat.reduceEqDiff, ↓reduceIte, eq_self] at *) | omega | fail
    · have fin := fin (h.1 10115 1018 k) (by rw [ek.2.1])
      refine RDr [] [] 40 ?_
      repeat' first | (refine D_in (fun _ _ => ?_) (fun _ => ?_)) | (refine ⟨fun _ => ?_, fun _ => ?_⟩ <;> try omega) | (refine ⟨by first | omega | rfl | assumption | (simp only [dst_1, dst_2, up3_ap, upd1_ap, Nat.reduceEqDiff, ↓reduceIte, eq_self] at * <;> omega) | fail, ?_⟩) | (exact fin) | (simp only [dst_1, dst_2, up3_ap, upd1_ap, Nat.reduceEqDiff, ↓reduceIte, eq_self] at *) | omega | fail
    · have fin := fin (h.1 10116 1019 k) (by rw [ek.2.2.1])
      refine RDr [] [] 40 ?_
      repeat' first | (refine D_in (fun _ _ => ?_) (fun _ => ?_)) | (refine ⟨fun _ => ?_, fun _ => ?_⟩ <;> try omega) | (refine ⟨by first | omega | rfl | assumption | (simp only [dst_1, dst_2, up3_ap, upd1_ap, Nat.reduceEqDiff, ↓reduceIte, eq_self] at * <;> omega) | fail, ?_⟩) | (exact fin) | (simp only [dst_1, dst_2, up3_ap, upd1_ap, Nat.reduceEqDiff, ↓reduceIte, eq_self] at *) | omega | fail
    · have fin := fin (h.1 10117 1020 k) (by rw [ek.2.2.2])
      refine RDr [] [] 40 ?_
      repeat' first | (refine D_in (fun _ _ => ?_) (fun _ => ?_)) | (refine ⟨fun _ => ?_, fun _ => ?_⟩ <;> try omega) | (refine ⟨by first | omega | rfl | assumption | (simp only [dst_1, dst_2, up3_ap, upd1_ap, Nat.reduceEqDiff, ↓reduceIte, eq_self] at * <;> omega) | fail, ?_⟩) | (exact fin) | (simp only [dst_1, dst_2, up3_ap, upd1_ap, Nat.reduceEqDiff, ↓reduceIte, eq_self] at *) | omega | fail
  · have fin : JM 184 [some (mR 1026), some (mI k), some (mI w)] m c (rI (-1)) h := fun d' => M_entry n51.2 (fun _ _ _ _ => absurd f1 (by omega)) (fun hh => ⟨rfl, hs⟩)
    refine RDr [] [] 40 ?_
    repeat' first | (refine D_in (fun _ _ => ?_) (fun _ => ?_)) | (refine ⟨fun _ => ?_, fun _ => ?_⟩ <;> try omega) | (refine ⟨by first | omega | rfl | assumption | (simp only [dst_1, dst_2, up3_ap, upd1_ap, Nat.reduceEqDiff, ↓reduceIte, eq_self] at * <;> omega) | fail, ?_⟩) | (exact fin) | (simp only [dst_1, dst_2, up3_ap, upd1_ap, Nat.reduceEqDiff, ↓reduceIte, eq_self] at *) | omega | fail
theorem J_holds {day w : Int} (hR : Rc (c + 1) h m) (hc : 0 ≤ c) : RD (d + 100) 12 (0, [some (mR 1000), some (mI day), some (mI w)], [], h) (JM 115 [some (mR 1026), some (mI day), some (mI w)] m c) := by
  have hL := hR.1
  have hs := hR.s0 hc
  have a1 := hL.ac.1.2.2
  have hn := hL.nx
  by_cases f1 : (0 ≤ day ∧ day ≤ 36000) ∧ 0 ≤ w ∧ w ≤ 5
  · have fin : JM 115 [some (mR 1026), some (mI day), some (mI w)] m c (rI (tOf m (aOn m day) w)) h := fun d' => M_holds (d := d' + 98) a1 hL.ac.m6 (fun _ _ => ⟨rfl, hs⟩) (fun hh => absurd hh (by omega))
    obtain ⟨cs, hA⟩ := hL.ac.on hn day
    obtain ⟨b1, b2, b3, -, -⟩ := hA.hold (w := w) (by omega)
    rw [← b3] at fin
    have hac := hL.ac
    clear hA hL hR
    refine RDr [] [] 40 ?_
    repeat' first | (refine D_in (fun _ _ => ?_) (fun _ => ?_)) | ((refine D_actOnR hac hn (fun cs _ => ?_))) | ((refine ⟨b2, ⟨by omega, by omega⟩, ?_⟩)) | (refine ⟨fun _ => ?_, fun _ => ?_⟩ <;> try omega) | (refine ⟨by first | omega | rfl | assumption | (simp only [dst_1, dst_2, up3_ap, upd1_ap, Nat.reduceEqDiff, ↓reduceIte, eq_self] at * <;> omega) | fail, ?_⟩) | (exact fin) | (simp only [dst_1, dst_2, up3_ap, upd1_ap, Nat.reduceEqDiff, ↓reduceIte, eq_self] at *) | omega | fail
  · have fin : JM 115 [some (mR 1026), some (mI day), some (mI w)] m c (rI (-1)) h := fun d' => M_holds (d := d' + 98) a1 hL.ac.m6 (fun _ _ => absurd f1 (by omega)) (fun hh => ⟨rfl, hs⟩)
    clear hL hR
    refine RDr [] [] 40 ?_
    repeat' first | (refine D_in (fun _ _ => ?_) (fun _ => ?_)) | (refine ⟨fun _ => ?_, fun _ => ?_⟩ <;> try omega) | (refine ⟨by first | omega | rfl | assumption | (simp only [dst_1, dst_2, up3_ap, upd1_ap, Nat.reduceEqDiff, ↓reduceIte, eq_self] at * <;> omega) | fail, ?_⟩) | (exact fin) | (simp only [dst_1, dst_2, up3_ap, upd1_ap, Nat.reduceEqDiff, ↓reduceIte, eq_self] at *) | omega | fail
end
