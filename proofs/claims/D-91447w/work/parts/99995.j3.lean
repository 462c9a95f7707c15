/-! BOTH: looks at funds, counts -/
set_option maxHeartbeats 3200000
set_option maxRecDepth 100000
section
variable {d : Nat} {h h' : mD} {m m' : sg} {Q : mQ mD} {c : Int}
theorem dal_e {a : Int} {k : Nat} {cost : Int} (ha : h.2.2.1 ≤ a) : Ex h (dal h a k cost) cost := by
  have dx := dal_x (m := h) (r := 0) (L := 0) (k := k) (c := cost) ha
  refine ⟨dx.1.1, fun g b hb => ?_, dx.1.2.1, by show h.2.2.2 - cost ≤ h.2.2.2 - cost; omega⟩
  show (if b = a then (fun _ => 0) else h.1 g b) = _
  rw [if_neg (by omega)]
theorem RL.eds (hL : RL h m) {f : Int} (hf : 0 ≤ f ∧ f < m 32 0) : eds h ((h.1 10111 1012 f)) := by
  obtain ⟨a1, a2, a3, -⟩ := hL.fl.2 f hf.1 hf.2
  obtain ⟨⟨b1, b2, b3⟩, b4⟩ := hL.fe f hf.1 hf.2
  exact ⟨a1.1, a3.1, by omega, fun e e0 e1 => (b4 e e0 (by omega)).1⟩
theorem RL.cntS (hL : RL h m) {f st : Int} (hf : 0 ≤ f ∧ f < m 32 0) : cnt (fun e => decide (h.1 1701 ((h.1 11403 (h.1 1403 (h.1 10111 1012 f) 0) e)) 0 = st)) ((h.1 21403 (h.1 1403 (h.1 10111 1012 f) 0) 0)) = cnt (fun e => decide (m 46 (80 * f + e) = st)) (m 43 f) := by
  obtain ⟨⟨b1, b2, b3⟩, b4⟩ := hL.fe f hf.1 hf.2
  rw [b1]
  refine cnt_cgz b2 (fun e e0 e1 => ?_)
  rw [(b4 e e0 e1).2.1.1]
theorem RL.tsz (hL : RL h m) {f : Int} (hf : 0 ≤ f ∧ f < m 32 0) : h.1 21404 (h.1 1404 ((h.1 10111 1012 f)) 0) 0 = cnt (fun p => decide (m 40 (100 * f + p) ≠ 0)) 100 := (hL.ft f hf.1 hf.2).1.size _ (fun p _ _ => by rw [decide_eq_true_iff])
/-- fundOf: an answer, or it throws -/
def JF (L : mL) (m : sg) (c : Int) : mQ mD := fun o h' => (∃ v, o = rI v ∧ ∀ d : Nat, RM (d + 100) 178 (0, L, [], m) (fun o' m' => o' = rI v ∧ m' 0 0 = 0 ∧ Rc c h' m')) ∨ (∃ e, o = Sum.inr e ∧ h'.2.1 e = 6 ∧ ∀ d : Nat, RM (d + 100) 178 (0, L, [], m) (fun o' m' => (∃ v, o' = rI v) ∧ m' 0 0 = 1 ∧ Rc c h' m'))
theorem J_fundOf {f w : Int} {x3 : Option mV} (hR : Rc (c + 1) h m) (hc : 0 ≤ c) : RD (d + 100) 57 (0, [some (mR 1000), some (mI f), some (mI w), x3], [], h) (JF [some (mR 1026), some (mI f), some (mI w)] m c) := by
  have hL := hR.1
  have hs := hR.s0 hc
  have n32 := hL.fl.1
  have hf := hL.fnd
  have k0 := n32.1
  have hm : 0 ≤ f → f < m 32 0 → 0 ≤ m 43 f ∧ m 43 f ≤ 80 := fun a b => by have := (hL.fe f a b).1.2; omega
  have bud : 70000 ≤ h.2.2.2 := by have := hR.2.2; have := hL.tp.1.2.1; omega
  have hnx := hL.nx
  have thr : ¬ ((0 ≤ f ∧ f < m 32 0) ∧ 0 ≤ w ∧ w ≤ 9) → ∀ a, h.2.2.1 ≤ a → JF [some (mR 1026), some (mI f), some (mI w)] m c (Sum.inr a) (dal h a 6 10) := by
    intro hh a ha
    have de := dal_e (h := h) (k := 6) (cost := 10) ha
    refine Or.inr ⟨a, rfl, ?_, fun d' => M_fundOf (by omega) hm (fun a1 a2 a3 a4 => absurd ⟨⟨a1, a2⟩, a3, a4⟩ hh) (fun _ => ⟨⟨0, rfl⟩, by rw [upm_s, upd1_s], hR.same hc (Fr.ex de) (by have := de.2.2.2; omega) ((FrJ.rf.up (by decide)).up (by decide))⟩)⟩
    show (if a = a then 6 else _) = 6
    rw [if_pos rfl]
  by_cases f1 : 0 ≤ f ∧ f < (h.1 20111 1012 0)
  · have fr : 0 ≤ f ∧ f < m 32 0 := by omega
    have kF := hf.2.2 f f1.1 f1.2
    have fin : ∀ v, 0 ≤ w ∧ w ≤ 9 → v = wFund m f w → JF [some (mR 1026), some (mI f), some (mI w)] m c (rI v) h := fun v hw hv => Or.inl ⟨v, rfl, fun d' => M_fundOf (by omega) hm (fun _ _ _ _ => ⟨by rw [hv], by rw [upm_s, upd1_s], hs⟩) (fun hh => absurd ⟨fr, hw⟩ hh)⟩
    have hv := (hL.fv f fr.1 fr.2).1
    have he := hL.eds fr
    have hl := hL.fl.2 f fr.1 fr.2
    have kl : h.2.1 (h.1 1403 ((h.1 10111 1012 f)) 0) = 11403 := hl.2.2.1.1
    have kt : h.2.1 (h.1 1404 ((h.1 10111 1012 f)) 0) = 11404 := hl.2.2.2.1.1
    by_cases hw : 0 ≤ w ∧ w ≤ 9
    · have fin := fun v => fin v hw
      clear thr
      have : w = 0 ∨ w = 1 ∨ w = 2 ∨ w = 3 ∨ w = 4 ∨ w = 5 ∨ w = 6 ∨ w = 7 ∨ w = 8 ∨ w = 9 := by omega
      rcases this with e | e | e | e | e | e | e | e | e | e <;> subst e
      · have fin := fin (h.1 1406 ((h.1 10111 1012 f)) 0) (by rw [hv.2.2.1]; rfl)
        refine RDr [] [] 40 ?_
        repeat' first | (refine D_fundAt hf (fun _ _ => ?_) (fun _ => ?_)) | (refine ⟨fun _ => ?_, fun _ => ?_⟩ <;> try omega) | (refine ⟨by first | omega | rfl | assumption | (simp only [dst_1, dst_2, up3_ap, upd1_ap, Nat.reduceEqDiff, ↓reduceIte, eq_self] at * <;> omega) | fail, ?_⟩) | (exact fin) | (simp only [dst_1, dst_2, up3_ap, upd1_ap, Nat.reduceEqDiff, ↓reduceIte, eq_self] at *) | omega | fail
      · have fin := fin (h.1 1407 ((h.1 10111 1012 f)) 0) (by rw [hv.2.2.2.1]; rfl)
        refine RDr [] [] 40 ?_
        repeat' first | (refine D_fundAt hf (fun _ _ => ?_) (fun _ => ?_)) | (refine ⟨fun _ => ?_, fun _ => ?_⟩ <;> try omega) | (refine ⟨by first | omega | rfl | assumption | (simp only [dst_1, dst_2, up3_ap, upd1_ap, Nat.reduceEqDiff, ↓reduceIte, eq_self] at * <;> omega) | fail, ?_⟩) | (exact fin) | (simp only [dst_1, dst_2, up3_ap, upd1_ap, Nat.reduceEqDiff, ↓reduceIte, eq_self] at *) | omega | fail
      · have fin := fin (h.1 1408 ((h.1 10111 1012 f)) 0) (by rw [hv.2.2.2.2.1]; rfl)
        refine RDr [] [] 40 ?_
        repeat' first | (refine D_fundAt hf (fun _ _ => ?_) (fun _ => ?_)) | (refine ⟨fun _ => ?_, fun _ => ?_⟩ <;> try omega) | (refine ⟨by first | omega | rfl | assumption | (simp only [dst_1, dst_2, up3_ap, upd1_ap, Nat.reduceEqDiff, ↓reduceIte, eq_self] at * <;> omega) | fail, ?_⟩) | (exact fin) | (simp only [dst_1, dst_2, up3_ap, upd1_ap, Nat.reduceEqDiff, ↓reduceIte, eq_self] at *) | omega | fail
      · have fin := fin ((h.1 21403 (h.1 1403 (h.1 10111 1012 f) 0) 0)) (by rw [(hL.fe f fr.1 fr.2).1.1]; rfl)
        refine RDr [] [] 40 ?_
        repeat' first | (refine D_fundAt hf (fun _ _ => ?_) (fun _ => ?_)) | (refine ⟨fun _ => ?_, fun _ => ?_⟩ <;> try omega) | (refine ⟨by first | omega | rfl | assumption | (simp only [dst_1, dst_2, up3_ap, upd1_ap, Nat.reduceEqDiff, ↓reduceIte, eq_self] at * <;> omega) | fail, ?_⟩) | (exact fin) | (simp only [dst_1, dst_2, up3_ap, upd1_ap, Nat.reduceEqDiff, ↓reduceIte, eq_self] at *) | omega | fail
      · have fin := fin (cnt (fun e => decide (h.1 1701 ((h.1 11403 (h.1 1403 (h.1 10111 1012 f) 0) e)) 0 = 0)) ((h.1 21403 (h.1 1403 (h.1 10111 1012 f) 0) 0))) (by rw [hL.cntS fr]; rfl)
        refine RDr [] [] 40 ?_
        repeat' first | (refine D_fundAt hf (fun _ _ => ?_) (fun _ => ?_)) | (refine hub_i (by dsimp only [kdD]; omega) (D_many he ?_)) | (refine ⟨fun _ => ?_, fun _ => ?_⟩ <;> try omega) | (refine ⟨by first | omega | rfl | assumption | (simp only [dst_1, dst_2, up3_ap, upd1_ap, Nat.reduceEqDiff, ↓reduceIte, eq_self] at * <;> omega) | fail, ?_⟩) | (exact fin) | (simp only [dst_1, dst_2, up3_ap, upd1_ap, Nat.reduceEqDiff, ↓reduceIte, eq_self] at *) | omega | fail
      · have fin := fin (cnt (fun e => decide (h.1 1701 ((h.1 11403 (h.1 1403 (h.1 10111 1012 f) 0) e)) 0 = 1)) ((h.1 21403 (h.1 1403 (h.1 10111 1012 f) 0) 0))) (by rw [hL.cntS fr]; rfl)
        refine RDr [] [] 40 ?_
        repeat' first | (refine D_fundAt hf (fun _ _ => ?_) (fun _ => ?_)) | (refine hub_i (by dsimp only [kdD]; omega) (D_many he ?_)) | (refine ⟨fun _ => ?_, fun _ => ?_⟩ <;> try omega) | (refine ⟨by first | omega | rfl | assumption | (simp only [dst_1, dst_2, up3_ap, upd1_ap, Nat.reduceEqDiff, ↓reduceIte, eq_self] at * <;> omega) | fail, ?_⟩) | (exact fin) | (simp only [dst_1, dst_2, up3_ap, upd1_ap, Nat.reduceEqDiff, ↓reduceIte, eq_self] at *) | omega | fail
      · rcases hL.fj f fr.1 fr.2 with ⟨j1, j2⟩ | ⟨j1, j2, j3⟩
        · have fin := fin (-1) (by show _ = m 37 f; omega)
          have j2 : h.1 1411 ((h.1 10111 1012 f)) 0 = 0 := j2
          refine RDr [] [] 40 ?_
          repeat' first | (refine D_fundAt hf (fun _ _ => ?_) (fun _ => ?_)) | (refine hub_i (by dsimp only [kdD]; omega) (D_isThere kF.1 (fun _ => ?_) (fun _ => ?_))) | (refine ⟨fun _ => ?_, fun _ => ?_⟩ <;> try omega) | (refine ⟨by first | omega | rfl | assumption | (simp only [dst_1, dst_2, up3_ap, upd1_ap, Nat.reduceEqDiff, ↓reduceIte, eq_self] at * <;> omega) | fail, ?_⟩) | (exact fin) | (simp only [dst_1, dst_2, up3_ap, upd1_ap, Nat.reduceEqDiff, ↓reduceIte, eq_self] at *) | omega | fail
        · have hg := hL.fl.2 (m 37 f) j1 j2
          have fin := fin (h.1 1400 (h.1 1411 ((h.1 10111 1012 f)) 0) 0) (by rw [j3, hg.2.1]; rfl)
          have kj : h.2.1 (h.1 1411 ((h.1 10111 1012 f)) 0) = 14 := by rw [j3]; exact hg.1.1
          have kj2 : h.1 1411 ((h.1 10111 1012 f)) 0 ≠ 0 := by rw [j3]; have := hg.1.2.1; omega
          clear hg
          refine RDr [] [] 40 ?_
          repeat' first | (refine D_fundAt hf (fun _ _ => ?_) (fun _ => ?_)) | (refine hub_i (by dsimp only [kdD]; omega) (D_isThere kF.1 (fun _ => ?_) (fun _ => ?_))) | (refine ⟨fun _ => ?_, fun _ => ?_⟩ <;> try omega) | (refine ⟨by first | omega | rfl | assumption | (simp only [dst_1, dst_2, up3_ap, upd1_ap, Nat.reduceEqDiff, ↓reduceIte, eq_self] at * <;> omega) | fail, ?_⟩) | (exact fin) | (simp only [dst_1, dst_2, up3_ap, upd1_ap, Nat.reduceEqDiff, ↓reduceIte, eq_self] at *) | omega | fail
      · have fin := fin (h.1 21404 (h.1 1404 ((h.1 10111 1012 f)) 0) 0) (by rw [hL.tsz fr]; rfl)
        refine RDr [] [] 40 ?_
        repeat' first | (refine D_fundAt hf (fun _ _ => ?_) (fun _ => ?_)) | (refine ⟨fun _ => ?_, fun _ => ?_⟩ <;> try omega) | (refine ⟨by first | omega | rfl | assumption | (simp only [dst_1, dst_2, up3_ap, upd1_ap, Nat.reduceEqDiff, ↓reduceIte, eq_self] at * <;> omega) | fail, ?_⟩) | (exact fin) | (simp only [dst_1, dst_2, up3_ap, upd1_ap, Nat.reduceEqDiff, ↓reduceIte, eq_self] at *) | omega | fail
      · have fin := fin (h.1 1401 ((h.1 10111 1012 f)) 0) (by rw [hv.1]; rfl)
        refine RDr [] [] 40 ?_
        repeat' first | (refine D_fundAt hf (fun _ _ => ?_) (fun _ => ?_)) | (refine ⟨fun _ => ?_, fun _ => ?_⟩ <;> try omega) | (refine ⟨by first | omega | rfl | assumption | (simp only [dst_1, dst_2, up3_ap, upd1_ap, Nat.reduceEqDiff, ↓reduceIte, eq_self] at * <;> omega) | fail, ?_⟩) | (exact fin) | (simp only [dst_1, dst_2, up3_ap, upd1_ap, Nat.reduceEqDiff, ↓reduceIte, eq_self] at *) | omega | fail
      · have fin := fin (h.1 1402 ((h.1 10111 1012 f)) 0) (by rw [hv.2.1]; rfl)
        refine RDr [] [] 40 ?_
        repeat' first | (refine D_fundAt hf (fun _ _ => ?_) (fun _ => ?_)) | (refine ⟨fun _ => ?_, fun _ => ?_⟩ <;> try omega) | (refine ⟨by first | omega | rfl | assumption | (simp only [dst_1, dst_2, up3_ap, upd1_ap, Nat.reduceEqDiff, ↓reduceIte, eq_self] at * <;> omega) | fail, ?_⟩) | (exact fin) | (simp only [dst_1, dst_2, up3_ap, upd1_ap, Nat.reduceEqDiff, ↓reduceIte, eq_self] at *) | omega | fail
    · have thr := thr (by omega)
      clear fin
      refine RDr [] [] 40 ?_
      repeat' first | (refine D_fundAt hf (fun _ _ => ?_) (fun _ => ?_)) | ((refine ⟨by omega, fun a ha => ?_⟩)) | (refine ⟨fun _ => ?_, fun _ => ?_⟩ <;> try omega) | (refine ⟨by first | omega | rfl | assumption | (simp only [dst_1, dst_2, up3_ap, upd1_ap, Nat.reduceEqDiff, ↓reduceIte, eq_self] at * <;> omega) | fail, ?_⟩) | (exact thr a ha) | (simp only [dst_1, dst_2, up3_ap, upd1_ap, Nat.reduceEqDiff, ↓reduceIte, eq_self] at *) | omega | fail
  · have thr := thr (by omega)
    refine RDr [] [] 40 ?_
    repeat' first | (refine D_fundAt hf (fun _ _ => ?_) (fun _ => ?_)) | ((refine ⟨by omega, fun a ha => ?_⟩)) | (refine ⟨fun _ => ?_, fun _ => ?_⟩ <;> try omega) | (refine ⟨by first | omega | rfl | assumption | (simp only [dst_1, dst_2, up3_ap, upd1_ap, Nat.reduceEqDiff, ↓reduceIte, eq_self] at * <;> omega) | fail, ?_⟩) | (exact thr a ha) | (simp only [dst_1, dst_2, up3_ap, upd1_ap, Nat.reduceEqDiff, ↓reduceIte, eq_self] at *) | omega | fail
theorem D_endAt (hL : RL h m) {f e : Int} (h1 : (0 ≤ f ∧ f < m 32 0) → (0 ≤ e ∧ e < m 43 f) → Q (rR ((h.1 11403 (h.1 1403 (h.1 10111 1012 f) 0) e))) h) (h0 : ¬ (0 ≤ f ∧ f < m 32 0 ∧ 0 ≤ e ∧ e < m 43 f) → Q (rR 0) h) : RD (d + 2) 43 (0, [some (mR 1000), some (mI f), some (mI e)], [], h) Q := by
  have n32 := hL.fl.1
  have hf := hL.fnd
  have k0 := n32.1
  by_cases f1 : 0 ≤ f ∧ f < (h.1 20111 1012 0)
  · have fr : 0 ≤ f ∧ f < m 32 0 := by omega
    have kF := hf.2.2 f f1.1 f1.2
    have he := hL.fe f fr.1 fr.2
    have hl := hL.fl.2 f fr.1 fr.2
    have kl : h.2.1 (h.1 1403 ((h.1 10111 1012 f)) 0) = 11403 := hl.2.2.1.1
    have en : (h.1 21403 (h.1 1403 (h.1 10111 1012 f) 0) 0) = m 43 f := he.1.1
    have b43 := he.1.2
    by_cases e1 : 0 ≤ e ∧ e < m 43 f
    · have fin := h1 fr e1
      have kE : h.2.1 ((h.1 11403 (h.1 1403 (h.1 10111 1012 f) 0) e)) = 17 := (he.2 e e1.1 e1.2).1.1
      clear h0 h1 he hl
      refine RDr [] [] 60 ?_
      repeat' first | (refine D_fundAt hf (fun _ _ => ?_) (fun _ => ?_)) | (refine D_in (fun _ _ => ?_) (fun _ => ?_)) | (refine ⟨fun _ => ?_, fun _ => ?_⟩ <;> try omega) | (refine ⟨by first | omega | rfl | assumption | (simp only [dst_1, dst_2, up3_ap, upd1_ap, Nat.reduceEqDiff, ↓reduceIte, eq_self] at * <;> omega) | fail, ?_⟩) | (exact fin) | (simp only [dst_1, dst_2, up3_ap, upd1_ap, Nat.reduceEqDiff, ↓reduceIte, eq_self] at *) | omega | fail
    · have fin := h0 (by omega)
      clear h0 h1 he hl
      refine RDr [] [] 60 ?_
      repeat' first | (refine D_fundAt hf (fun _ _ => ?_) (fun _ => ?_)) | (refine D_in (fun _ _ => ?_) (fun _ => ?_)) | (refine ⟨fun _ => ?_, fun _ => ?_⟩ <;> try omega) | (refine ⟨by first | omega | rfl | assumption | (simp only [dst_1, dst_2, up3_ap, upd1_ap, Nat.reduceEqDiff, ↓reduceIte, eq_self] at * <;> omega) | fail, ?_⟩) | (exact fin) | (simp only [dst_1, dst_2, up3_ap, upd1_ap, Nat.reduceEqDiff, ↓reduceIte, eq_self] at *) | omega | fail
  · have fin := h0 (by omega)
    refine RDr [] [] 60 ?_
    repeat' first | (refine D_fundAt hf (fun _ _ => ?_) (fun _ => ?_)) | (refine ⟨fun _ => ?_, fun _ => ?_⟩ <;> try omega) | (refine ⟨by first | omega | rfl | assumption | (simp only [dst_1, dst_2, up3_ap, upd1_ap, Nat.reduceEqDiff, ↓reduceIte, eq_self] at * <;> omega) | fail, ?_⟩) | (exact fin) | (simp only [dst_1, dst_2, up3_ap, upd1_ap, Nat.reduceEqDiff, ↓reduceIte, eq_self] at *) | omega | fail
theorem J_endOf {f e w : Int} {x4 : Option mV} (hR : Rc (c + 1) h m) (hc : 0 ≤ c) : RD (d + 100) 42 (0, [some (mR 1000), some (mI f), some (mI e), some (mI w), x4], [], h) (JM 183 [some (mR 1026), some (mI f), some (mI e), some (mI w), none] m c) := by
  have hL := hR.1
  have hs := hR.s0 hc
  have n32 := hL.fl.1
  have hm : 0 ≤ f → f < m 32 0 → m 43 f ≤ 80 := fun a b => by have := (hL.fe f a b).1.2; omega
  have hr : 0 ≤ f → f < m 32 0 → 0 ≤ e → e < m 43 f → 0 ≤ m 45 (80 * f + e) ∧ m 45 (80 * f + e) < 900 := fun a b e0 e1 => by
    obtain ⟨t1, c, t2, t3⟩ := hL.fa f e a b e0 e1
    have := t3.1
    have n49 := hL.ne.1.2.2
    unfold tOk at t1
    omega
  by_cases f1 : 0 ≤ f ∧ f < m 32 0 ∧ 0 ≤ e ∧ e < m 43 f
  · have fin : ∀ v, (w = 0 ∧ v = m 46 (80 * f + e) ∨ w = 1 ∧ v = m 47 (80 * f + e) ∨ w = 2 ∧ v = m 48 (80 * f + e) ∨ w = 3 ∧ v = m 8 (m 45 (80 * f + e)) ∨ ¬ (0 ≤ w ∧ w ≤ 3) ∧ v = -1) → JM 183 [some (mR 1026), some (mI f), some (mI e), some (mI w), none] m c (rI v) h := fun v hv d' => M_endOf (d := d' + 98) (by omega) hm hr (fun _ _ _ _ v' hv' => ⟨by rw [show v' = v by omega], hs⟩) (fun hh => absurd f1 hh)
    obtain ⟨q1, q2, -⟩ := (hL.fe f f1.1 f1.2.1).2 e f1.2.2.1 f1.2.2.2
    obtain ⟨t1, cl, t2, t3⟩ := hL.fa f e f1.1 f1.2.1 f1.2.2.1 f1.2.2.2
    have s1 : h.1 1701 ((h.1 11403 (h.1 1403 (h.1 10111 1012 f) 0) e)) 0 = m 46 (80 * f + e) := q2.1
    have s2 : h.1 1702 ((h.1 11403 (h.1 1403 (h.1 10111 1012 f) 0) e)) 0 = m 47 (80 * f + e) := q2.2.1
    have s3 : h.1 1703 ((h.1 11403 (h.1 1403 (h.1 10111 1012 f) 0) e)) 0 = m 48 (80 * f + e) := q2.2.2
    have kE : h.2.1 ((h.1 11403 (h.1 1403 (h.1 10111 1012 f) 0) e)) = 17 := q1.1
    have kA : h.2.1 (h.1 1700 ((h.1 11403 (h.1 1403 (h.1 10111 1012 f) 0) e)) 0) = 16 := t2.1.2.2
    have pN := q1.2.1
    have pA := t2.1.1
    have s4 : sLen h (h.1 1600 (h.1 1700 ((h.1 11403 (h.1 1403 (h.1 10111 1012 f) 0) e)) 0) 0) = m 8 (m 45 (80 * f + e)) := by
      unfold sLen
      rw [if_neg (by have := t2.2.1.1.1; omega), t2.2.1.2.2, t3.2.1.1]
    have kS : isTx h (h.1 1600 (h.1 1700 ((h.1 11403 (h.1 1403 (h.1 10111 1012 f) 0) e)) 0) 0) := Or.inr ⟨by have := t2.2.1.1.1; omega, t2.2.1.2.1⟩
    have fe : ∀ v, v = h.1 1701 ((h.1 11403 (h.1 1403 (h.1 10111 1012 f) 0) e)) 0 ∧ w = 0 ∨ v = h.1 1702 ((h.1 11403 (h.1 1403 (h.1 10111 1012 f) 0) e)) 0 ∧ w = 1 ∨ v = h.1 1703 ((h.1 11403 (h.1 1403 (h.1 10111 1012 f) 0) e)) 0 ∧ w = 2 ∨ v = sLen h (h.1 1600 (h.1 1700 ((h.1 11403 (h.1 1403 (h.1 10111 1012 f) 0) e)) 0) 0) ∧ w = 3 ∨ ¬ (0 ≤ w ∧ w ≤ 3) ∧ v = -1 → JM 183 [some (mR 1026), some (mI f), some (mI e), some (mI w), none] m c (rI v) h := fun v hv => fin v (by omega)
    clear fin hm hr t2 t3 q1 q2
    refine RDr [] [] 60 ?_
    repeat' first | (refine D_endAt hL (fun _ _ => ?_) (fun _ => ?_)) | ((refine ⟨kS, ?_⟩)) | (refine ⟨fun _ => ?_, fun _ => ?_⟩ <;> try omega) | (refine ⟨by first | omega | rfl | assumption | (simp only [dst_1, dst_2, up3_ap, upd1_ap, Nat.reduceEqDiff, ↓reduceIte, eq_self] at * <;> omega) | fail, ?_⟩) | (exact fe _ (by omega)) | (simp only [dst_1, dst_2, up3_ap, upd1_ap, Nat.reduceEqDiff, ↓reduceIte, eq_self] at *) | omega | fail
  · have fin : JM 183 [some (mR 1026), some (mI f), some (mI e), some (mI w), none] m c (rI (-1)) h := fun d' => M_endOf (d := d' + 98) (by omega) hm hr (fun a1 a2 a3 a4 => absurd ⟨a1, a2, a3, a4⟩ f1) (fun hh => ⟨rfl, hs⟩)
    clear hm hr
    refine RDr [] [] 60 ?_
    repeat' first | (refine D_endAt hL (fun _ _ => ?_) (fun _ => ?_)) | (refine ⟨fun _ => ?_, fun _ => ?_⟩ <;> try omega) | (refine ⟨by first | omega | rfl | assumption | (simp only [dst_1, dst_2, up3_ap, upd1_ap, Nat.reduceEqDiff, ↓reduceIte, eq_self] at * <;> omega) | fail, ?_⟩) | (exact fin) | (simp only [dst_1, dst_2, up3_ap, upd1_ap, Nat.reduceEqDiff, ↓reduceIte, eq_self] at *) | omega | fail
end
