/-! BOTH: trustee, scheme -/
set_option maxHeartbeats 3200000
set_option maxRecDepth 100000
section
variable {d : Nat} {h h' : mD} {m m' : sg} {Q : mQ mD} {c : Int}
theorem RL.ex (hL : RL h m) {k : Int} (he : Ex h h' k) : RL h' m := hL.fr (Fr.ex he) FrJ.rf
theorem RL.eF (hL : RL h m) {k : Int} (he : Ex h h' k) (f : Int) : (h'.1 10111 1012 f) = (h.1 10111 1012 f) := by rw [he.2.1 10111 1012 (by have := hL.nx; omega)]
theorem RL.eS (hL : RL h m) {k : Int} (he : Ex h h' k) (s : Int) : (h'.1 10120 1022 s) = (h.1 10120 1022 s) := by rw [he.2.1 10120 1022 (by have := hL.nx; omega)]
/-- a person is put to the end of a list -/
theorem D_padd {r rs : Nat} {a p : Int} {P : Int → Prop} {K : mQ mD} (hP : PL h r rs a P) (hb : 5 ≤ h.2.2.2) (fin : ∀ h2 x, Ex h h2 5 → (x < h2.2.2.1 ∧ h2.2.1 x = 26 ∧ h2.1 2600 x 0 = p) → K (rR x) h2) : PD 320 [] [mI p] h K := D_box hP.1 hb (fun h2 x he hx hk hv _ _ _ => fin h2 x he ⟨hx, hk, hv⟩)
theorem D_tr2 {f p : Int} (hL : RL h m) (fr : 0 ≤ f ∧ f < m 32 0) (hb : 1000 ≤ h.2.2.2) (fin : ∀ h2 x, Ex h h2 5 → (x < h2.2.2.1 ∧ h2.2.1 x = 26 ∧ h2.1 2600 x 0 = p) → ∀ k, k ≤ 60 → Q (rI 1) (dpy (dst (dst h2 11404 (h2.1 1404 ((h2.1 10111 1012 f)) 0) (h2.1 21404 (h2.1 1404 ((h2.1 10111 1012 f)) 0) 0) x) 21404 (h2.1 1404 ((h2.1 10111 1012 f)) 0) 0 (h2.1 21404 (h2.1 1404 ((h2.1 10111 1012 f)) 0) 0 + 1)) k)) : RD (d + 1) 27 (44, [some (mR 1000), some (mI f), some (mI p), some (mR ((h.1 10111 1012 f)))], [], h) Q := by
  have kF := (hL.fl.2 f fr.1 fr.2).1.1
  have hP := (hL.ft f fr.1 fr.2).1
  have st : ∀ h2 x, Ex h h2 5 → (x < h2.2.2.1 ∧ h2.2.1 x = 26 ∧ h2.1 2600 x 0 = p) → RD (d + 1) 27 (52, [some (mR 1000), some (mI f), some (mI p), some (mR ((h.1 10111 1012 f)))], [mR x, mR (h.1 1404 ((h.1 10111 1012 f)) 0)], h2) Q := by
    intro h2 x he hx
    have fin := fin h2 x he hx
    have hL2 := hL.ex he
    have eF := hL.eF he f
    have eT : h2.1 1404 ((h.1 10111 1012 f)) 0 = h.1 1404 ((h.1 10111 1012 f)) 0 := by rw [he.2.1 1404 _ (hL.fl.2 f fr.1 fr.2).1.2.2]
    have t2 := hL2.ft f fr.1 fr.2
    have v38 := (hL2.fv f fr.1 fr.2).2.1
    rw [eF, eT] at fin t2
    have kT := t2.1.1.1
    have b4 := t2.1.1.2.2.2.1
    have bb := he.2.2.2
    have sz := t2.2
    have fin := fin (2 * h2.1 21404 (h.1 1404 ((h.1 10111 1012 f)) 0) 0 + 20) (by omega)
    clear t2 hL2
    generalize h.1 1404 ((h.1 10111 1012 f)) 0 = T at *
    have kx := hx.2.1
    refine RDr [] [] 20 ?_
    repeat' first | ((refine ⟨kT, ⟨by omega, by omega, Or.inr (by omega)⟩, ?_⟩)) | (refine ⟨fun _ => ?_, fun _ => ?_⟩ <;> try omega) | (refine ⟨by first | omega | rfl | assumption | (simp only [dst_1, dst_2, up3_ap, upd1_ap, Nat.reduceEqDiff, ↓reduceIte, eq_self] at * <;> omega) | fail, ?_⟩) | (exact fin) | (simp only [dst_1, dst_2, up3_ap, upd1_ap, Nat.reduceEqDiff, ↓reduceIte, eq_self] at *) | omega | fail
  clear fin
  refine RDr [] [270052] 20 ?_
  repeat' first | ((refine D_padd hP (by omega) (fun h2 x he hx => ?_))) | (refine ⟨fun _ => ?_, fun _ => ?_⟩ <;> try omega) | (refine ⟨by first | omega | rfl | assumption | (simp only [dst_1, dst_2, up3_ap, upd1_ap, Nat.reduceEqDiff, ↓reduceIte, eq_self] at * <;> omega) | fail, ?_⟩) | (exact st h2 x he hx) | (simp only [dst_1, dst_2, up3_ap, upd1_ap, Nat.reduceEqDiff, ↓reduceIte, eq_self] at *) | omega | fail
theorem J_trustee {f p : Int} {x3 : Option mV} (hR : Rc (c + 1) h m) (hc : 0 ≤ c) : RD (d + 100) 27 (0, [some (mR 1000), some (mI f), some (mI p), x3], [], h) (JM 142 [some (mR 1026), some (mI f), some (mI p)] m c) := by
  have hL := hR.1
  have n32 := hL.fl.1
  have hf := hL.fnd
  have bud : 70000 ≤ h.2.2.2 := by have := hR.2.2; have := hL.tp.1.2.1; omega
  have no : ¬ ((0 ≤ f ∧ f < m 32 0 ∧ m 37 f = -1) ∧ (0 ≤ p ∧ p < 100) ∧ m 40 (100 * f + p) = 0 ∧ cnt (fun p => decide (m 40 (100 * f + p) ≠ 0)) 100 ≠ m 38 f) → ∀ h1, Ex h h1 5 → JM 142 [some (mR 1026), some (mI f), some (mI p)] m c (rI 0) h1 := fun hh h1 he d' => M_trustee (d := d' + 98) (by omega) (fun a1 a2 a3 a4 a5 a6 a7 => absurd ⟨⟨a1, a2, a3⟩, ⟨a4, a5⟩, a6, a7⟩ hh) (fun _ => ⟨rfl, hR.same hc (Fr.ex he) (by have := he.2.2.2; omega) (FrJ.rf.up (by decide))⟩)
  by_cases f1 : (0 ≤ f ∧ f < m 32 0 ∧ m 37 f = -1) ∧ 0 ≤ p ∧ p < 100
  · have fr : 0 ≤ f ∧ f < m 32 0 := ⟨f1.1.1, f1.1.2.1⟩
    have hp := f1.2
    have kF := (hL.fl.2 f fr.1 fr.2).1
    have j1 : h.1 1411 ((h.1 10111 1012 f)) 0 = 0 := by rcases hL.fj f fr.1 fr.2 with j | j; exact j.2; omega
    have hT := (hL.ft f fr.1 fr.2).1
    have hv := hT.2.2 p
    by_cases h40 : m 40 (100 * f + p) = 0
    · have hnv : ¬ hasV h 11404 21404 (h.1 1404 ((h.1 10111 1012 f)) 0) p := fun hh => (hv.mp hh).2.2 h40
      have st : ∀ h1, Ex h h1 5 → RD (d + 100) 27 (25, [some (mR 1000), some (mI f), some (mI p), some (mR ((h.1 10111 1012 f)))], [mI 0], h1) (JM 142 [some (mR 1026), some (mI f), some (mI p)] m c) := by
        intro h1 he
        have hL1 := hL.ex he
        have no1 := fun hh => no hh h1 he
        have tsz := hL1.tsz fr
        rw [← tsz] at no1
        rw [← hL.eF he f]
        have v38 := (hL1.fv f fr.1 fr.2).1.1
        have kF1 := (hL1.fl.2 f fr.1 fr.2).1.1
        have kT1 := (hL1.fl.2 f fr.1 fr.2).2.2.2.1.1
        have bb := he.2.2.2
        by_cases hsz : h1.1 21404 (h1.1 1404 ((h1.1 10111 1012 f)) 0) 0 = m 38 f
        · have fin := no1 (fun hh => hh.2.2.2 hsz)
          clear no no1 hL hL1
          refine RDr [] [270044] 20 ?_
          repeat' first | (refine ⟨fun _ => ?_, fun _ => ?_⟩ <;> try omega) | (refine ⟨by first | omega | rfl | assumption | (simp only [dst_1, dst_2, up3_ap, upd1_ap, Nat.reduceEqDiff, ↓reduceIte, eq_self] at * <;> omega) | fail, ?_⟩) | (exact fin) | (simp only [dst_1, dst_2, up3_ap, upd1_ap, Nat.reduceEqDiff, ↓reduceIte, eq_self] at *) | omega | fail
        · have st2 : RD (d + 100) 27 (44, [some (mR 1000), some (mI f), some (mI p), some (mR ((h1.1 10111 1012 f)))], [], h1) (JM 142 [some (mR 1026), some (mI f), some (mI p)] m c) := by
            refine D_tr2 hL1 fr (by omega) (fun h2 x he2 hx k hk d' => M_trustee (d := d' + 98) (by omega) (fun _ _ _ _ _ _ _ => ⟨rfl, ?_⟩) (fun hh => absurd ⟨f1.1, hp, h40, by rw [← tsz]; exact hsz⟩ hh))
            have hL2 := hL1.ex he2
            have tsz2 := hL2.tsz fr
            refine ⟨hL2.trAdd fr f1.1.2.2 hp h40 (by rw [tsz2, ← tsz]; exact hsz) hx, hc, ?_⟩
            have b2 := he2.2.2.2
            have := hR.2.2
            rw [upm_n (by decide), upm_n (by decide)]
            show _ ≤ h2.2.2.2 - k
            omega
          clear no no1 hL hL1
          refine RDr [] [270044] 20 ?_
          repeat' first | (refine ⟨fun _ => ?_, fun _ => ?_⟩ <;> try omega) | (refine ⟨by first | omega | rfl | assumption | (simp only [dst_1, dst_2, up3_ap, upd1_ap, Nat.reduceEqDiff, ↓reduceIte, eq_self] at * <;> omega) | fail, ?_⟩) | (exact st2) | (simp only [dst_1, dst_2, up3_ap, upd1_ap, Nat.reduceEqDiff, ↓reduceIte, eq_self] at *) | omega | fail
      clear no
      have hTb := hT.1
      refine RDr [] [270025] 40 ?_
      repeat' first | (refine D_thereAt hf (fun _ _ _ => ?_) (fun _ => ?_)) | (refine D_in (fun _ _ => ?_) (fun _ => ?_)) | ((refine hub_i (by dsimp only [kdD]; omega) (D_hasTrustee kF.1 hTb (by omega) (fun hh h1 he => absurd hh hnv) (fun _ h1 he => ?_)))) | (refine ⟨fun _ => ?_, fun _ => ?_⟩ <;> try omega) | (refine ⟨by first | omega | rfl | assumption | (simp only [dst_1, dst_2, up3_ap, upd1_ap, Nat.reduceEqDiff, ↓reduceIte, eq_self] at * <;> omega) | fail, ?_⟩) | (exact st h1 he) | (simp only [dst_1, dst_2, up3_ap, upd1_ap, Nat.reduceEqDiff, ↓reduceIte, eq_self] at *) | omega | fail
    · have hyv : hasV h 11404 21404 (h.1 1404 ((h.1 10111 1012 f)) 0) p := hv.mpr ⟨hp.1, hp.2, h40⟩
      have no := no (fun hh => h40 hh.2.2.1)
      have hTb := hT.1
      refine RDr [] [] 40 ?_
      repeat' first | (refine D_thereAt hf (fun _ _ _ => ?_) (fun _ => ?_)) | (refine D_in (fun _ _ => ?_) (fun _ => ?_)) | ((refine hub_i (by dsimp only [kdD]; omega) (D_hasTrustee kF.1 hTb (by omega) (fun _ h1 he => ?_) (fun hh h1 he => absurd hyv hh)))) | (refine ⟨fun _ => ?_, fun _ => ?_⟩ <;> try omega) | (refine ⟨by first | omega | rfl | assumption | (simp only [dst_1, dst_2, up3_ap, upd1_ap, Nat.reduceEqDiff, ↓reduceIte, eq_self] at * <;> omega) | fail, ?_⟩) | (exact no h1 he) | (simp only [dst_1, dst_2, up3_ap, upd1_ap, Nat.reduceEqDiff, ↓reduceIte, eq_self] at *) | omega | fail
  · have no := no (by omega) h (Ex.rfl (by omega))
    by_cases f2 : 0 ≤ f ∧ f < m 32 0
    · by_cases f3 : m 37 f = -1
      · have kF := (hL.fl.2 f f2.1 f2.2).1.2.1
        refine RDr [] [] 40 ?_
        repeat' first | (refine D_thereAt hf (fun _ _ _ => ?_) (fun _ => ?_)) | (refine D_in (fun _ _ => ?_) (fun _ => ?_)) | (refine ⟨fun _ => ?_, fun _ => ?_⟩ <;> try omega) | (refine ⟨by first | omega | rfl | assumption | (simp only [dst_1, dst_2, up3_ap, upd1_ap, Nat.reduceEqDiff, ↓reduceIte, eq_self] at * <;> omega) | fail, ?_⟩) | (exact no) | (simp only [dst_1, dst_2, up3_ap, upd1_ap, Nat.reduceEqDiff, ↓reduceIte, eq_self] at *) | omega | fail
      · have j1 : h.1 1411 ((h.1 10111 1012 f)) 0 ≠ 0 := by
          rcases hL.fj f f2.1 f2.2 with j | j
          · omega
          · rw [j.2.2]; have := (hL.fl.2 _ j.1 j.2.1).1.2.1; omega
        refine RDr [] [] 40 ?_
        repeat' first | (refine D_thereAt hf (fun _ _ _ => ?_) (fun _ => ?_)) | (refine ⟨fun _ => ?_, fun _ => ?_⟩ <;> try omega) | (refine ⟨by first | omega | rfl | assumption | (simp only [dst_1, dst_2, up3_ap, upd1_ap, Nat.reduceEqDiff, ↓reduceIte, eq_self] at * <;> omega) | fail, ?_⟩) | (exact no) | (simp only [dst_1, dst_2, up3_ap, upd1_ap, Nat.reduceEqDiff, ↓reduceIte, eq_self] at *) | omega | fail
    · refine RDr [] [] 40 ?_
      repeat' first | (refine D_thereAt hf (fun _ _ _ => ?_) (fun _ => ?_)) | (refine ⟨fun _ => ?_, fun _ => ?_⟩ <;> try omega) | (refine ⟨by first | omega | rfl | assumption | (simp only [dst_1, dst_2, up3_ap, upd1_ap, Nat.reduceEqDiff, ↓reduceIte, eq_self] at * <;> omega) | fail, ?_⟩) | (exact no) | (simp only [dst_1, dst_2, up3_ap, upd1_ap, Nat.reduceEqDiff, ↓reduceIte, eq_self] at *) | omega | fail
end
