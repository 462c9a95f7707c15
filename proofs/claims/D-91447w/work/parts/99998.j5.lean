/-! BOTH: accounts, counts -/
set_option maxHeartbeats 3200000
set_option maxRecDepth 100000
section
variable {d : Nat} {h h' : mD} {m m' : sg} {Q : mQ mD} {c : Int}
theorem J_account {f y : Int} {x3 : Option mV} (hR : Rc (c + 1) h m) (hc : 0 ≤ c) : RD (d + 100) 55 (0, [some (mR 1000), some (mI f), some (mI y), x3], [], h) (JM 177 [some (mR 1026), some (mI f), some (mI y), none] m c) := by
  have hL := hR.1
  have hs := hR.s0 hc
  have n32 := hL.fl.1
  have hf := hL.fnd
  have hn := hL.nx
  have hnow : h.1 105 1000 0 = m 1 0 ∧ 0 ≤ m 1 0 ∧ m 1 0 ≤ 36000 := hL.now
  have e5 := hnow.1
  have n70 := hL.ao.1
  have hi : ∀ day, 0 ≤ tOf m (aOn m day) 3 ∧ tOf m (aOn m day) 3 ≤ 1000 := fun day => by
    obtain ⟨cs, hA⟩ := hL.ac.on hn day
    have := hA.hold (w := 3) (by omega)
    have r1 : rLo 3 = 1 := rfl
    have r2 : rHi 3 = 720 := rfl
    omega
  by_cases f1 : (0 ≤ f ∧ f < m 32 0) ∧ (0 ≤ y ∧ y ≤ 100) ∧ 360 * (y + 1) ≤ m 1 0 ∧ m 70 0 < 200
  · have kF := (hL.fl.2 f f1.1.1 f1.1.2).1.2.1
    have lp : RD (d + 100) 55 (37, [some (mR 1000), some (mI f), some (mI y), some (mI 0)], [], h) (JM 177 [some (mR 1026), some (mI f), some (mI y), none] m c) := by
      refine up_ind (n := m 70 0) (P := fun k => (∀ i, 0 ≤ i → i < k → ¬ (h.1 10121 1024 i = f ∧ h.1 10122 1025 i = y)) → RD (d + 100) 55 (37, [some (mR 1000), some (mI f), some (mI y), some (mI k)], [], h) (JM 177 [some (mR 1026), some (mI f), some (mI y), none] m c)) ?_ ?_ 0 (by omega) (by omega) (fun i i0 i1 => by omega)
      · intro hno
        have z71 : m 71 (101 * f + y) = 0 := by
          by_cases hz : m 71 (101 * f + y) = 0
          · exact hz
          · obtain ⟨k, k0, k1, k2, k3⟩ := hL.ao.2.2 f y (by omega) (by omega) (by omega) (by omega) hz
            exact absurd ⟨k2, k3⟩ (hno k k0 k1)
        clear hno
        generalize hH : dst (dst (dst h 10121 1024 (m 70 0) f) 10122 1025 (m 70 0) y) 123 1000 0 (m 70 0 + 1) = h1
        have hF : Fr [123, 10121, 10122] h h1 := by rw [← hH]; exact ((Fr.rf.ds (by decide)).ds (by decide)).ds (by decide)
        have hac := hL.ac.fr hn hF (FrJ.rf (S := [])) (by decide) (by decide)
        have n1 : h1.2.2.1 = h.2.2.1 := by rw [← hH]; rfl
        obtain ⟨cs, hA⟩ := hac.on (by omega) (360 * y + 359)
        obtain ⟨q1, q2, q3, q4, q5⟩ := hA.hold (w := 3) (by omega)
        have r2 : rHi 3 = 720 := rfl
        have r1 : rLo 3 = 1 := rfl
        have e51 : h1.1 105 1000 0 = m 1 0 := by rw [hF.2.2 105 1000 (by decide) (by omega)]; exact e5
        have fin : JM 177 [some (mR 1026), some (mI f), some (mI y), none] m c (rI (max 0 (m 1 0 - (360 * y + 359) - tOf m (aOn m (360 * y + 359)) 3))) h1 := fun d' => M_account (d := d' + 98) n32.2.2 hnow.2 n70.2 hL.ac.1.2.2 hL.ac.m6 hi (fun _ _ _ _ _ _ _ => ⟨rfl, ?_⟩) (fun hh => absurd ⟨f1.1, f1.2.1, f1.2.2.1, z71, f1.2.2.2⟩ hh)
        · have st : RD (d + 100) 55 (103, [some (mR 1000), some (mI f), some (mI y), some (mI (m 70 0))], [], h1) (JM 177 [some (mR 1026), some (mI f), some (mI y), none] m c) := by
            rw [← q3] at fin q4 q5
            rw [← e51] at fin
            have b1 : h1.1 105 1000 0 ≤ 36000 := by omega
            have b2 : 0 ≤ h1.1 105 1000 0 := by omega
            have hn1 : 1076 ≤ h1.2.2.1 := by omega
            clear hH hF hA
            refine RDr [] [] 60 ?_
            repeat' first | ((refine D_lastDay (by omega) (fun v hv => ?_); subst hv)) | ((refine D_actOnR hac hn1 (fun cs _ => ?_))) | ((refine ⟨q2, ⟨by omega, by omega⟩, ?_⟩)) | (refine ⟨fun _ => ?_, fun _ => ?_⟩ <;> try omega) | (refine ⟨by first | omega | rfl | assumption | (simp only [dst_1, dst_2, up3_ap, upd1_ap, Nat.reduceEqDiff, ↓reduceIte, eq_self] at * <;> omega) | fail, ?_⟩) | (exact fin) | (simp only [dst_1, dst_2, up3_ap, upd1_ap, Nat.reduceEqDiff, ↓reduceIte, eq_self] at *) | omega | fail
          clear fin
          have e70 := n70.1
          rw [← e70] at hH
          subst hH
          refine RDr [] [550103] 60 ?_
          repeat' first | (refine ⟨fun _ => ?_, fun _ => ?_⟩ <;> try omega) | (refine ⟨by first | omega | rfl | assumption | (simp only [dst_1, dst_2, up3_ap, upd1_ap, Nat.reduceEqDiff, ↓reduceIte, eq_self] at * <;> omega) | fail, ?_⟩) | (first | exact st | (rw [e70] at *; exact st)) | (simp only [dst_1, dst_2, up3_ap, upd1_ap, Nat.reduceEqDiff, ↓reduceIte, eq_self] at *) | omega | fail
        · subst hH
          have hM : FrJ [0, 70, 71] m (upm (upm (upm m 0 0 0) 71 (101 * f + y) 1) 70 0 (m 70 0 + 1)) := ((FrJ.rf.up (by decide)).up (by decide)).up (by decide)
          have hao : RAo (dst (dst (dst h 10121 1024 (m 70 0) f) 10122 1025 (m 70 0) y) 123 1000 0 (m 70 0 + 1)) (upm (upm (upm m 0 0 0) 71 (101 * f + y) 1) 70 0 (m 70 0 + 1)) := by
            unfold RAo
            have d0 : (dst (dst (dst h 10121 1024 (m 70 0) f) 10122 1025 (m 70 0) y) 123 1000 0 (m 70 0 + 1)).1 123 1000 0 = m 70 0 + 1 := dsz_0
            have d1 : (dst (dst (dst h 10121 1024 (m 70 0) f) 10122 1025 (m 70 0) y) 123 1000 0 (m 70 0 + 1)).1 10121 1024 = upd1 (h.1 10121 1024) (m 70 0) f := by rw [ds_n (by decide), ds_n (by decide), ds_u]
            have d2 : (dst (dst (dst h 10121 1024 (m 70 0) f) 10122 1025 (m 70 0) y) 123 1000 0 (m 70 0 + 1)).1 10122 1025 = upd1 (h.1 10122 1025) (m 70 0) y := by rw [ds_n (by decide), ds_u, ds_n (by decide)]
            have u0 : (upm (upm (upm m 0 0 0) 71 (101 * f + y) 1) 70 0 (m 70 0 + 1)) 70 0 = m 70 0 + 1 := by rw [upm_s, upd1_s]
            have u1 : ∀ i, (upm (upm (upm m 0 0 0) 71 (101 * f + y) 1) 70 0 (m 70 0 + 1)) 71 i = if i = 101 * f + y then 1 else m 71 i := fun i => by rw [upm_n (by decide), upm_s, upd1_ap, upm_n (by decide)]
            rw [d0, d1, d2, u0]
            refine ⟨⟨rfl, by omega, by omega⟩, fun k k0 k1 => ?_, fun g z g0 g1 z0 z1 hz => ?_⟩
            · rw [upd1_ap, upd1_ap, u1]
              by_cases hk : k = m 70 0
              · rw [if_pos hk, if_pos hk, if_pos rfl]
                exact ⟨by omega, by omega, by omega⟩
              · rw [if_neg hk, if_neg hk]
                have := hL.ao.2.1 k k0 (by omega)
                refine ⟨this.1, this.2.1, ?_⟩
                by_cases hq : 101 * h.1 10121 1024 k + h.1 10122 1025 k = 101 * f + y
                · rw [if_pos hq]; omega
                · rw [if_neg hq]; exact this.2.2
            · rw [u1] at hz
              by_cases hq : 101 * g + z = 101 * f + y
              · refine ⟨m 70 0, by omega, by omega, ?_, ?_⟩
                · rw [upd1_s]; omega
                · rw [upd1_s]; omega
              · rw [if_neg hq] at hz
                obtain ⟨k, k0, k1, k2, k3⟩ := hL.ao.2.2 g z g0 g1 z0 z1 hz
                exact ⟨k, k0, by omega, by rw [upd1_n (by omega)]; exact k2, by rw [upd1_n (by omega)]; exact k3⟩
          refine ⟨?_, hc, ?_⟩
          · exact ⟨(by have := hF.1; omega), hL.now.fr hn hF hM (by decide) (by decide), hL.fc.fr hn hF hM (by decide) (by decide), hL.tp.fr hn hF hM (by decide) (by decide), hL.ac.fr hn hF hM (by decide) (by decide), hL.en.fr hn hF hM (by decide) (by decide), hL.pd.fr hn hF hM (by decide) (by decide), hao, hL.fl.fr hn hF hM (by decide) (by decide), hL.fv.fr hL.fl hn hF hM (by decide) (by decide), hL.fj.fr hL.fl hn hF hM (by decide) (by decide), hL.fp.fr hL.fl hn hF hM (by decide) (by decide), hL.fe.fr hL.fl hn hF hM (by decide) (by decide), hL.fa.fr hL.fl hL.fe hn hF hM (by decide) (by decide) (by decide) (by decide), hL.ft.fr hL.fl hn hF hM (by decide) (by decide) (by decide), hL.ne.fr hn hF hM (by decide) (by decide) (by decide) (by decide), hL.sl.fr hn hF hM (by decide) (by decide) (by decide), hL.sv.fr hL.sl hn hF hM (by decide) (by decide), hL.so.fr hL.sl hn hF hM (by decide) (by decide) (by decide), hL.ss.fr hL.sl hn hF hM (by decide) (by decide) (by decide), hL.mz.fr hM (by decide), (let ⟨et_, h_⟩ := hL.et; ⟨et_, h_.fr hM (by decide)⟩)⟩
          · have := hR.2.2
            rw [hM 14 (by decide)]
            show _ ≤ h.2.2.2
            omega
      · intro k k0 k1 ih hno
        by_cases hk : h.1 10121 1024 k = f ∧ h.1 10122 1025 k = y
        · have fin : JM 177 [some (mR 1026), some (mI f), some (mI y), none] m c (rI (-1)) h := fun d' => M_account (d := d' + 98) n32.2.2 hnow.2 n70.2 hL.ac.1.2.2 hL.ac.m6 hi (fun _ _ _ _ _ z _ => by
            have := (hL.ao.2.1 k k0 k1).2.2
            rw [hk.1, hk.2] at this
            exact absurd z this) (fun hh => ⟨rfl, hs⟩)
          clear ih hno hi
          refine RDr [] [550037] 60 ?_
          repeat' first | (refine ⟨fun _ => ?_, fun _ => ?_⟩ <;> try omega) | (refine ⟨by first | omega | rfl | assumption | (simp only [dst_1, dst_2, up3_ap, upd1_ap, Nat.reduceEqDiff, ↓reduceIte, eq_self] at * <;> omega) | fail, ?_⟩) | (exact fin) | (simp only [dst_1, dst_2, up3_ap, upd1_ap, Nat.reduceEqDiff, ↓reduceIte, eq_self] at *) | omega | fail
        · have ih := ih (fun i i0 i1 => by
            by_cases e : i = k
            · rw [e]; exact hk
            · exact hno i i0 (by omega))
          clear hno hi
          refine RDr [] [550037] 60 ?_
          repeat' first | (refine ⟨fun _ => ?_, fun _ => ?_⟩ <;> try omega) | (refine ⟨by first | omega | rfl | assumption | (simp only [dst_1, dst_2, up3_ap, upd1_ap, Nat.reduceEqDiff, ↓reduceIte, eq_self] at * <;> omega) | fail, ?_⟩) | (exact ih) | (simp only [dst_1, dst_2, up3_ap, upd1_ap, Nat.reduceEqDiff, ↓reduceIte, eq_self] at *) | omega | fail
    clear hi
    refine RDr [] [550037] 60 ?_
    repeat' first | (refine D_fundAt hf (fun _ _ => ?_) (fun _ => ?_)) | (refine D_isYear (fun _ _ => ?_) (fun _ => ?_)) | (refine D_yearNow (by omega) ?_) | (refine ⟨fun _ => ?_, fun _ => ?_⟩ <;> try omega) | (refine ⟨by first | omega | rfl | assumption | (simp only [dst_1, dst_2, up3_ap, upd1_ap, Nat.reduceEqDiff, ↓reduceIte, eq_self] at * <;> omega) | fail, ?_⟩) | (exact lp) | (simp only [dst_1, dst_2, up3_ap, upd1_ap, Nat.reduceEqDiff, ↓reduceIte, eq_self] at *) | omega | fail
  · have fin : JM 177 [some (mR 1026), some (mI f), some (mI y), none] m c (rI (-1)) h := fun d' => M_account (d := d' + 98) n32.2.2 hnow.2 n70.2 hL.ac.1.2.2 hL.ac.m6 hi (fun a1 a2 a3 a4 a5 a6 a7 => absurd ⟨⟨a1, a2⟩, ⟨a3, a4⟩, a5, a7⟩ f1) (fun hh => ⟨rfl, hs⟩)
    clear hi
    by_cases f2 : 0 ≤ f ∧ f < m 32 0
    · have kF := (hL.fl.2 f f2.1 f2.2).1.2.1
      refine RDr [] [550037] 60 ?_
      repeat' first | (refine D_fundAt hf (fun _ _ => ?_) (fun _ => ?_)) | (refine D_isYear (fun _ _ => ?_) (fun _ => ?_)) | (refine D_yearNow (by omega) ?_) | (refine ⟨fun _ => ?_, fun _ => ?_⟩ <;> try omega) | (refine ⟨by first | omega | rfl | assumption | (simp only [dst_1, dst_2, up3_ap, upd1_ap, Nat.reduceEqDiff, ↓reduceIte, eq_self] at * <;> omega) | fail, ?_⟩) | (exact fin) | (simp only [dst_1, dst_2, up3_ap, upd1_ap, Nat.reduceEqDiff, ↓reduceIte, eq_self] at *) | omega | fail
    · refine RDr [] [550037] 60 ?_
      repeat' first | (refine D_fundAt hf (fun _ _ => ?_) (fun _ => ?_)) | (refine ⟨fun _ => ?_, fun _ => ?_⟩ <;> try omega) | (refine ⟨by first | omega | rfl | assumption | (simp only [dst_1, dst_2, up3_ap, upd1_ap, Nat.reduceEqDiff, ↓reduceIte, eq_self] at * <;> omega) | fail, ?_⟩) | (exact fin) | (simp only [dst_1, dst_2, up3_ap, upd1_ap, Nat.reduceEqDiff, ↓reduceIte, eq_self] at *) | omega | fail
theorem J_count {w : Int} {x2 x3 : Option mV} (hR : Rc (c + 1) h m) (hc : 0 ≤ c) : RD (d + 100) 56 (0, [some (mR 1000), some (mI w), x2, x3], [], h) (JM 185 [some (mR 1026), some (mI w)] m c) := by
  have hL := hR.1
  have hs := hR.s0 hc
  have n32 := hL.fl.1
  have n53 := hL.sl.1
  have hnow : h.1 105 1000 0 = m 1 0 ∧ 0 ≤ m 1 0 ∧ m 1 0 ≤ 36000 := hL.now
  have k1 := n32.1
  have k2 := n53.1
  have k3 := hL.ne.1.1
  have k4 := hL.ac.1.1
  by_cases hw : 0 ≤ w ∧ w ≤ 11
  · have fin : ∀ v, v = wCount m w → JM 185 [some (mR 1026), some (mI w)] m c (rI v) h := fun v hv d' => M_count (d := d' + 99) hnow.2.1 n53.2.2 n32.2.2 (fun _ _ => ⟨by rw [hv], hs⟩) (fun hh => absurd hw hh)
    have : w = 0 ∨ w = 1 ∨ w = 2 ∨ w = 3 ∨ w = 4 ∨ w = 5 ∨ w = 6 ∨ w = 7 ∨ w = 8 ∨ w = 9 ∨ w = 10 ∨ w = 11 := by omega
    rcases this with e | e | e | e | e | e | e | e | e | e | e | e <;> subst e
    · replace fin := fin (h.1 105 1000 0) (by rw [hnow.1]; rfl)
      refine RDr [] [] 40 ?_
      repeat' first | (refine ⟨fun _ => ?_, fun _ => ?_⟩ <;> try omega) | (refine ⟨by first | omega | rfl | assumption | (simp only [dst_1, dst_2, up3_ap, upd1_ap, Nat.reduceEqDiff, ↓reduceIte, eq_self] at * <;> omega) | fail, ?_⟩) | (exact fin) | (simp only [dst_1, dst_2, up3_ap, upd1_ap, Nat.reduceEqDiff, ↓reduceIte, eq_self] at *) | omega | fail
    · replace fin := fin (h.1 105 1000 0 / 360) (by rw [hnow.1]; rfl)
      refine RDr [] [] 40 ?_
      repeat' first | (refine D_yearNow (by omega) ?_) | (refine ⟨fun _ => ?_, fun _ => ?_⟩ <;> try omega) | (refine ⟨by first | omega | rfl | assumption | (simp only [dst_1, dst_2, up3_ap, upd1_ap, Nat.reduceEqDiff, ↓reduceIte, eq_self] at * <;> omega) | fail, ?_⟩) | (exact fin) | (simp only [dst_1, dst_2, up3_ap, upd1_ap, Nat.reduceEqDiff, ↓reduceIte, eq_self] at *) | omega | fail
    · replace fin := fin (h.1 104 1000 0) (by rw [hL.fc.1.1]; rfl)
      refine RDr [] [] 40 ?_
      repeat' first | (refine ⟨fun _ => ?_, fun _ => ?_⟩ <;> try omega) | (refine ⟨by first | omega | rfl | assumption | (simp only [dst_1, dst_2, up3_ap, upd1_ap, Nat.reduceEqDiff, ↓reduceIte, eq_self] at * <;> omega) | fail, ?_⟩) | (exact fin) | (simp only [dst_1, dst_2, up3_ap, upd1_ap, Nat.reduceEqDiff, ↓reduceIte, eq_self] at *) | omega | fail
    · replace fin := fin ((h.1 20109 1006 0)) (by rw [hL.ac.1.2.1]; rfl)
      refine RDr [] [] 40 ?_
      repeat' first | (refine ⟨fun _ => ?_, fun _ => ?_⟩ <;> try omega) | (refine ⟨by first | omega | rfl | assumption | (simp only [dst_1, dst_2, up3_ap, upd1_ap, Nat.reduceEqDiff, ↓reduceIte, eq_self] at * <;> omega) | fail, ?_⟩) | (exact fin) | (simp only [dst_1, dst_2, up3_ap, upd1_ap, Nat.reduceEqDiff, ↓reduceIte, eq_self] at *) | omega | fail
    · replace fin := fin ((h.1 20111 1012 0)) (by rw [n32.2.1]; rfl)
      refine RDr [] [] 40 ?_
      repeat' first | (refine ⟨fun _ => ?_, fun _ => ?_⟩ <;> try omega) | (refine ⟨by first | omega | rfl | assumption | (simp only [dst_1, dst_2, up3_ap, upd1_ap, Nat.reduceEqDiff, ↓reduceIte, eq_self] at * <;> omega) | fail, ?_⟩) | (exact fin) | (simp only [dst_1, dst_2, up3_ap, upd1_ap, Nat.reduceEqDiff, ↓reduceIte, eq_self] at *) | omega | fail
    · replace fin := fin ((h.1 20112 1014 0)) (by rw [hL.ne.1.2.1]; rfl)
      refine RDr [] [] 40 ?_
      repeat' first | (refine ⟨fun _ => ?_, fun _ => ?_⟩ <;> try omega) | (refine ⟨by first | omega | rfl | assumption | (simp only [dst_1, dst_2, up3_ap, upd1_ap, Nat.reduceEqDiff, ↓reduceIte, eq_self] at * <;> omega) | fail, ?_⟩) | (exact fin) | (simp only [dst_1, dst_2, up3_ap, upd1_ap, Nat.reduceEqDiff, ↓reduceIte, eq_self] at *) | omega | fail
    · replace fin := fin ((h.1 20120 1022 0)) (by rw [n53.2.1]; rfl)
      refine RDr [] [] 40 ?_
      repeat' first | (refine ⟨fun _ => ?_, fun _ => ?_⟩ <;> try omega) | (refine ⟨by first | omega | rfl | assumption | (simp only [dst_1, dst_2, up3_ap, upd1_ap, Nat.reduceEqDiff, ↓reduceIte, eq_self] at * <;> omega) | fail, ?_⟩) | (exact fin) | (simp only [dst_1, dst_2, up3_ap, upd1_ap, Nat.reduceEqDiff, ↓reduceIte, eq_self] at *) | omega | fail
    · replace fin := fin (h.1 118 1000 0) (by rw [hL.en.1.1]; rfl)
      refine RDr [] [] 40 ?_
      repeat' first | (refine ⟨fun _ => ?_, fun _ => ?_⟩ <;> try omega) | (refine ⟨by first | omega | rfl | assumption | (simp only [dst_1, dst_2, up3_ap, upd1_ap, Nat.reduceEqDiff, ↓reduceIte, eq_self] at * <;> omega) | fail, ?_⟩) | (exact fin) | (simp only [dst_1, dst_2, up3_ap, upd1_ap, Nat.reduceEqDiff, ↓reduceIte, eq_self] at *) | omega | fail
    · replace fin := fin (h.1 107 1000 0) (by rw [hL.tp.1.1]; rfl)
      refine RDr [] [] 40 ?_
      repeat' first | (refine ⟨fun _ => ?_, fun _ => ?_⟩ <;> try omega) | (refine ⟨by first | omega | rfl | assumption | (simp only [dst_1, dst_2, up3_ap, upd1_ap, Nat.reduceEqDiff, ↓reduceIte, eq_self] at * <;> omega) | fail, ?_⟩) | (exact fin) | (simp only [dst_1, dst_2, up3_ap, upd1_ap, Nat.reduceEqDiff, ↓reduceIte, eq_self] at *) | omega | fail
    · replace fin := fin (h.1 123 1000 0) (by rw [hL.ao.1.1]; rfl)
      refine RDr [] [] 40 ?_
      repeat' first | (refine ⟨fun _ => ?_, fun _ => ?_⟩ <;> try omega) | (refine ⟨by first | omega | rfl | assumption | (simp only [dst_1, dst_2, up3_ap, upd1_ap, Nat.reduceEqDiff, ↓reduceIte, eq_self] at * <;> omega) | fail, ?_⟩) | (exact fin) | (simp only [dst_1, dst_2, up3_ap, upd1_ap, Nat.reduceEqDiff, ↓reduceIte, eq_self] at *) | omega | fail
    · replace fin := fin (cnt (fun p => decide (m 59 p = 1)) (m 53 0)) rfl
      have lp : RD (d + 100) 56 (128, [some (mR 1000), some (mI 10), some (mI 0), some (mI 0)], [], h) (JM 185 [some (mR 1026), some (mI 10)] m c) := by
        refine up_ind (n := m 53 0) (P := fun k => ∀ x, x = cnt (fun p => decide (m 59 p = 1)) k → RD (d + 100) 56 (128, [some (mR 1000), some (mI 10), some (mI x), some (mI k)], [], h) (JM 185 [some (mR 1026), some (mI 10)] m c)) ?_ ?_ 0 (by omega) (by omega) 0 (cnt_0 _).symm
        · intro x hx
          rw [← hx] at fin
          refine RDr [] [560128] 40 ?_
          repeat' first | (refine ⟨fun _ => ?_, fun _ => ?_⟩ <;> try omega) | (refine ⟨by first | omega | rfl | assumption | (simp only [dst_1, dst_2, up3_ap, upd1_ap, Nat.reduceEqDiff, ↓reduceIte, eq_self] at * <;> omega) | fail, ?_⟩) | (exact fin) | (simp only [dst_1, dst_2, up3_ap, upd1_ap, Nat.reduceEqDiff, ↓reduceIte, eq_self] at *) | omega | fail
        · intro k h0 h1 ih x hx
          have hb := cnt_b (fun p => decide (m 59 p = 1)) k h0
          have hs' := cnt_s (fun p => decide (m 59 p = 1)) h0
          have q := (hL.sl.2 k h0 h1).1
          have q2 := q.2.1
          have v := (hL.sv k h0 h1).1.1
          rw [← hx] at hb hs'
          rw [← v] at hs'
          by_cases hv : h.1 1907 ((h.1 10120 1022 k)) 0 = 1
          · replace ih := ih (x + 1) (by rw [hs']; simp [hv])
            refine RDr [] [560128] 40 ?_
            repeat' first | (refine ⟨fun _ => ?_, fun _ => ?_⟩ <;> try omega) | (refine ⟨by first | omega | rfl | assumption | (simp only [dst_1, dst_2, up3_ap, upd1_ap, Nat.reduceEqDiff, ↓reduceIte, eq_self] at * <;> omega) | fail, ?_⟩) | (exact ih) | (simp only [dst_1, dst_2, up3_ap, upd1_ap, Nat.reduceEqDiff, ↓reduceIte, eq_self] at *) | omega | fail
          · replace ih := ih (x + 0) (by rw [hs']; simp [hv])
            refine RDr [] [560128] 40 ?_
            repeat' first | (refine ⟨fun _ => ?_, fun _ => ?_⟩ <;> try omega) | (refine ⟨by first | omega | rfl | assumption | (simp only [dst_1, dst_2, up3_ap, upd1_ap, Nat.reduceEqDiff, ↓reduceIte, eq_self] at * <;> omega) | fail, ?_⟩) | (exact ih) | (simp only [dst_1, dst_2, up3_ap, upd1_ap, Nat.reduceEqDiff, ↓reduceIte, eq_self] at *) | omega | fail
      refine RDr [] [560128] 40 ?_
      repeat' first | (refine ⟨fun _ => ?_, fun _ => ?_⟩ <;> try omega) | (refine ⟨by first | omega | rfl | assumption | (simp only [dst_1, dst_2, up3_ap, upd1_ap, Nat.reduceEqDiff, ↓reduceIte, eq_self] at * <;> omega) | fail, ?_⟩) | (exact lp) | (simp only [dst_1, dst_2, up3_ap, upd1_ap, Nat.reduceEqDiff, ↓reduceIte, eq_self] at *) | omega | fail
    · replace fin := fin (cnt (fun p => decide (m 37 p = -1)) (m 32 0)) rfl
      have lp : RD (d + 100) 56 (175, [some (mR 1000), some (mI 11), some (mI 0), some (mI 0)], [], h) (JM 185 [some (mR 1026), some (mI 11)] m c) := by
        refine up_ind (n := m 32 0) (P := fun k => ∀ x, x = cnt (fun p => decide (m 37 p = -1)) k → RD (d + 100) 56 (175, [some (mR 1000), some (mI 11), some (mI x), some (mI k)], [], h) (JM 185 [some (mR 1026), some (mI 11)] m c)) ?_ ?_ 0 (by omega) (by omega) 0 (cnt_0 _).symm
        · intro x hx
          rw [← hx] at fin
          refine RDr [] [560175] 40 ?_
          repeat' first | (refine ⟨fun _ => ?_, fun _ => ?_⟩ <;> try omega) | (refine ⟨by first | omega | rfl | assumption | (simp only [dst_1, dst_2, up3_ap, upd1_ap, Nat.reduceEqDiff, ↓reduceIte, eq_self] at * <;> omega) | fail, ?_⟩) | (exact fin) | (simp only [dst_1, dst_2, up3_ap, upd1_ap, Nat.reduceEqDiff, ↓reduceIte, eq_self] at *) | omega | fail
        · intro k h0 h1 ih x hx
          have hb := cnt_b (fun p => decide (m 37 p = -1)) k h0
          have hs' := cnt_s (fun p => decide (m 37 p = -1)) h0
          have q := (hL.fl.2 k h0 h1).1.1
          rw [← hx] at hb hs'
          rcases hL.fj k h0 h1 with ⟨j1, j2⟩ | ⟨j1, j2, j3⟩
          · replace ih := ih (x + 1) (by rw [hs']; simp [j1])
            refine RDr [] [560175] 40 ?_
            repeat' first | (refine hub_i (by dsimp only [kdD]; omega) (D_isThere q (fun _ => ?_) (fun _ => ?_))) | (refine ⟨fun _ => ?_, fun _ => ?_⟩ <;> try omega) | (refine ⟨by first | omega | rfl | assumption | (simp only [dst_1, dst_2, up3_ap, upd1_ap, Nat.reduceEqDiff, ↓reduceIte, eq_self] at * <;> omega) | fail, ?_⟩) | (exact ih) | (simp only [dst_1, dst_2, up3_ap, upd1_ap, Nat.reduceEqDiff, ↓reduceIte, eq_self] at *) | omega | fail
          · replace ih := ih (x + 0) (by rw [hs']; have : m 37 k ≠ -1 := by omega
                                         simp [this])
            have j4 : h.1 1411 ((h.1 10111 1012 k)) 0 ≠ 0 := by rw [j3]; have := (hL.fl.2 _ j1 j2).1.2.1; omega
            refine RDr [] [560175] 40 ?_
            repeat' first | (refine hub_i (by dsimp only [kdD]; omega) (D_isThere q (fun _ => ?_) (fun _ => ?_))) | (refine ⟨fun _ => ?_, fun _ => ?_⟩ <;> try omega) | (refine ⟨by first | omega | rfl | assumption | (simp only [dst_1, dst_2, up3_ap, upd1_ap, Nat.reduceEqDiff, ↓reduceIte, eq_self] at * <;> omega) | fail, ?_⟩) | (exact ih) | (simp only [dst_1, dst_2, up3_ap, upd1_ap, Nat.reduceEqDiff, ↓reduceIte, eq_self] at *) | omega | fail
      refine RDr [] [560175] 40 ?_
      repeat' first | (refine ⟨fun _ => ?_, fun _ => ?_⟩ <;> try omega) | (refine ⟨by first | omega | rfl | assumption | (simp only [dst_1, dst_2, up3_ap, upd1_ap, Nat.reduceEqDiff, ↓reduceIte, eq_self] at * <;> omega) | fail, ?_⟩) | (exact lp) | (simp only [dst_1, dst_2, up3_ap, upd1_ap, Nat.reduceEqDiff, ↓reduceIte, eq_self] at *) | omega | fail
  · have fin : JM 185 [some (mR 1026), some (mI w)] m c (rI (-1)) h := fun d' => M_count (d := d' + 99) hnow.2.1 n53.2.2 n32.2.2 (fun a b => absurd ⟨a, b⟩ hw) (fun hh => ⟨rfl, hs⟩)
    refine RDr [] [] 40 ?_
    repeat' first | (refine ⟨fun _ => ?_, fun _ => ?_⟩ <;> try omega) | (refine ⟨by first | omega | rfl | assumption | (simp only [dst_1, dst_2, up3_ap, upd1_ap, Nat.reduceEqDiff, ↓reduceIte, eq_self] at * <;> omega) | fail, ?_⟩) | (exact fin) | (simp only [dst_1, dst_2, up3_ap, upd1_ap, Nat.reduceEqDiff, ↓reduceIte, eq_self] at *) | omega | fail
end
