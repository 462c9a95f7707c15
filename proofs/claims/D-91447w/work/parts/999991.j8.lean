/-! BOTH: schemes looked at; objectors -/
set_option maxHeartbeats 3200000
set_option maxRecDepth 100000
theorem cnt_le2 {p q r : Int → Bool} : ∀ n : Nat, (∀ i : Int, 0 ≤ i → i < n → p i = true → q i = true ∨ r i = true) → cnt p n ≤ cnt q n + cnt r n
  | 0, _ => by rw [show ((0 : Nat) : Int) = 0 from rfl, cnt_0, cnt_0, cnt_0]; omega
  | n + 1, h => by
    rw [show ((n + 1 : Nat) : Int) = (n : Int) + 1 by omega, cnt_s _ (by omega), cnt_s _ (by omega), cnt_s _ (by omega)]
    have ih := cnt_le2 n (p := p) (q := q) (r := r) (fun i i0 i1 => h i i0 (by omega))
    have := h n (by omega) (by omega)
    revert this
    cases p n <;> cases q n <;> cases r n <;> simp <;> omega
section
variable {d : Nat} {h h' : mD} {m m' : sg} {Q : mQ mD} {c : Int}
theorem Fr.dr {S : List Nat} (a : Fr S h h') {g : Nat} {x : Int} {f : Int → Int} (hg : m_has S g = true) : Fr S h (drow h' g x f) := ⟨a.1, a.2.1, fun g' b hg' hb => by
  have : g' ≠ g := fun e => by subst e; rw [hg] at hg'; cases hg'
  show (if g' = g then _ else h'.1 g') b = _
  rw [if_neg this]
  exact a.2.2 g' b hg' hb⟩
theorem RL.osz (hL : RL h m) {s : Int} (hs : 0 ≤ s ∧ s < m 53 0) : h.1 21904 (h.1 1904 ((h.1 10120 1022 s)) 0) 0 = cnt (fun p => decide (m 61 (100 * s + p) ≠ 0)) 100 := (hL.so s hs.1 hs.2).1.size _ (fun p _ _ => by rw [decide_eq_true_iff])
theorem RL.ssz (hL : RL h m) {s : Int} (hs : 0 ≤ s ∧ s < m 53 0) : h.1 21905 (h.1 1905 ((h.1 10120 1022 s)) 0) 0 = cnt (fun p => decide (m 62 (100 * s + p) ≠ 0)) 100 := (hL.ss s hs.1 hs.2).1.size _ (fun p _ _ => by rw [decide_eq_true_iff])
theorem RL.s14 (hL : RL h m) {s : Int} (hs : 0 ≤ s ∧ s < m 53 0) : 0 ≤ h.1 21905 (h.1 1905 ((h.1 10120 1022 s)) 0) 0 ∧ h.1 21905 (h.1 1905 ((h.1 10120 1022 s)) 0) 0 ≤ 14 := by
  obtain ⟨et, r1, r2, r3, r4, r5⟩ := hL.et
  refine ⟨(hL.ss s hs.1 hs.2).1.1.2.2.2.1.1, ?_⟩
  rw [hL.ssz hs]
  have := cnt_le2 (p := fun p => decide (m 62 (100 * s + p) ≠ 0)) (q := et (m 55 s)) (r := et (m 56 s)) 100 (fun i i0 i1 hi => by
    rcases r5 s i hs.1 hs.2 i0 i1 (of_decide_eq_true hi) with r | r
    · exact Or.inl r
    · exact Or.inr r.2)
  have a := r1 (m 55 s)
  have b := r1 (m 56 s)
  rw [show ((100 : Nat) : Int) = 100 from rfl] at this
  omega
/-- those who said yes -/
theorem RL.yes (hL : RL h m) {s : Int} (hs : 0 ≤ s ∧ s < m 53 0) : pc (h.1 1906 ((h.1 10120 1022 s)) 0) = cnt (fun p => decide (m 62 (100 * s + p) = 1)) 100 := by
  obtain ⟨p1, p2, p3, p4⟩ := hL.ss s hs.1 hs.2
  have s14 := hL.s14 hs
  rw [pc_B (k := 14) (by omega) (by omega)]
  have e1 : cnt (fun i => bB (h.1 1906 ((h.1 10120 1022 s)) 0) i.toNat) (14 : Nat) = cnt (fun i => decide (i < h.1 21905 (h.1 1905 ((h.1 10120 1022 s)) 0) 0) && decide (m 62 (100 * s + h.1 2600 (h.1 11905 (h.1 1905 ((h.1 10120 1022 s)) 0) i) 0) = 1)) (14 : Nat) := cnt_cg 14 (fun i i0 i1 => by
    have z := zbit (h.1 1906 ((h.1 10120 1022 s)) 0) (i := i.toNat) (by omega)
    rw [show ((i.toNat : Nat) : Int) = i by omega, p3 i i0 i1] at z
    cases e : bB (h.1 1906 ((h.1 10120 1022 s)) 0) i.toNat with
    | true =>
      rw [e] at z
      by_cases hh : i < h.1 21905 (h.1 1905 ((h.1 10120 1022 s)) 0) 0 ∧ m 62 (100 * s + h.1 2600 (h.1 11905 (h.1 1905 ((h.1 10120 1022 s)) 0) i) 0) = 1
      · rw [decide_eq_true hh.1, decide_eq_true hh.2]; rfl
      · rw [if_neg hh] at z; simp at z
    | false =>
      rw [e] at z
      by_cases hh : i < h.1 21905 (h.1 1905 ((h.1 10120 1022 s)) 0) 0 ∧ m 62 (100 * s + h.1 2600 (h.1 11905 (h.1 1905 ((h.1 10120 1022 s)) 0) i) 0) = 1
      · rw [if_pos hh] at z; simp at z
      · symm
        rw [Bool.and_eq_false_iff]
        by_cases h1 : i < h.1 21905 (h.1 1905 ((h.1 10120 1022 s)) 0) 0
        · exact Or.inr (decide_eq_false (fun h2 => hh ⟨h1, h2⟩))
        · exact Or.inl (decide_eq_false h1))
  rw [e1]
  have e2 := cnt_ext (p := fun i => decide (i < h.1 21905 (h.1 1905 ((h.1 10120 1022 s)) 0) 0) && decide (m 62 (100 * s + h.1 2600 (h.1 11905 (h.1 1905 ((h.1 10120 1022 s)) 0) i) 0) = 1)) (a := (h.1 21905 (h.1 1905 ((h.1 10120 1022 s)) 0) 0).toNat) 14 (by omega) (fun i i0 i1 => by rw [decide_eq_false (by omega)]; rfl)
  rw [e2, show (((h.1 21905 (h.1 1905 ((h.1 10120 1022 s)) 0) 0).toNat : Nat) : Int) = h.1 21905 (h.1 1905 ((h.1 10120 1022 s)) 0) 0 by omega]
  rw [cnt_cgz s14.1 (q := fun i => decide (m 62 (100 * s + h.1 2600 (h.1 11905 (h.1 1905 ((h.1 10120 1022 s)) 0) i) 0) = 1)) (fun i i0 i1 => by rw [decide_eq_true i1]; rfl)]
  rw [p1.ct (fun p => decide (m 62 (100 * s + p) = 1)) (fun p => decide (m 62 (100 * s + p) ≠ 0)) (fun p _ _ => by rw [decide_eq_true_iff])]
  refine cnt_cg 100 (fun i i0 i1 => ?_)
  by_cases e : m 62 (100 * s + i) = 1
  · simp [e]
  · simp [e]
theorem RL.no (hL : RL h m) {s : Int} (hs : 0 ≤ s ∧ s < m 53 0) : h.1 21905 (h.1 1905 ((h.1 10120 1022 s)) 0) 0 - pc (h.1 1906 ((h.1 10120 1022 s)) 0) = cnt (fun p => decide (m 62 (100 * s + p) = 2)) 100 := by
  rw [hL.yes hs, hL.ssz hs]
  have p4 := (hL.ss s hs.1 hs.2).2.2.2
  have := cnt_add (p := fun p => decide (m 62 (100 * s + p) ≠ 0)) (q := fun p => decide (m 62 (100 * s + p) = 1)) (r := fun p => decide (m 62 (100 * s + p) = 2)) 100 (fun i i0 i1 => by
    rcases p4 i i0 i1 with e | e | e <;> simp [e])
  rw [show ((100 : Nat) : Int) = 100 from rfl] at this
  omega
/-- a call by the scheme's kind -/
theorem s_call {d : Nat} {X : Nat} {v : Int} {K : mQ mD} {y0 y1 y2 y3 : Nat} {L0 L1 L2 L3 : mL} (hX : (X : Int) = 19 + v) (hv : 0 ≤ v ∧ v ≤ 3) (h0 : v = 0 → RD d y0 (0, L0, [], h) K) (h1 : v = 1 → RD d y1 (0, L1, [], h) K) (h2 : v = 2 → RD d y2 (0, L2, [], h) K) (h3 : v = 3 → RD d y3 (0, L3, [], h) K) :
    (19 ≤ X ∧ X ≤ 19 → RD d y0 (0, L0, [], h) K) ∧ (¬ (19 ≤ X ∧ X ≤ 19) → (20 ≤ X ∧ X ≤ 20 → RD d y1 (0, L1, [], h) K) ∧ (¬ (20 ≤ X ∧ X ≤ 20) → (21 ≤ X ∧ X ≤ 21 → RD d y2 (0, L2, [], h) K) ∧ (¬ (21 ≤ X ∧ X ≤ 21) → (22 ≤ X ∧ X ≤ 22 → RD d y3 (0, L3, [], h) K) ∧ (¬ (22 ≤ X ∧ X ≤ 22) → False)))) :=
  ⟨fun h => h0 (by omega), fun _ => ⟨fun h => h1 (by omega), fun _ => ⟨fun h => h2 (by omega), fun _ => ⟨fun h => h3 (by omega), fun h => by omega⟩⟩⟩⟩
theorem D_k0 {a : Int} (hQ : Q (rI 0) h) : RD d 334 (0, [some (mR a)], [], h) Q := by
  refine RDr [] [] 10 ?_
  repeat' first | (refine ⟨fun _ => ?_, fun _ => ?_⟩ <;> try omega) | (refine ⟨by first | omega | rfl | assumption | (simp only [dst_1, dst_2, up3_ap, upd1_ap, Nat.reduceEqDiff, ↓reduceIte, eq_self] at * <;> omega) | fail, ?_⟩) | (exact hQ) | (simp only [dst_1, dst_2, up3_ap, upd1_ap, Nat.reduceEqDiff, ↓reduceIte, eq_self] at *) | omega | fail
theorem D_k1 {a : Int} (hQ : Q (rI 1) h) : RD d 340 (0, [some (mR a)], [], h) Q := by
  refine RDr [] [] 10 ?_
  repeat' first | (refine ⟨fun _ => ?_, fun _ => ?_⟩ <;> try omega) | (refine ⟨by first | omega | rfl | assumption | (simp only [dst_1, dst_2, up3_ap, upd1_ap, Nat.reduceEqDiff, ↓reduceIte, eq_self] at * <;> omega) | fail, ?_⟩) | (exact hQ) | (simp only [dst_1, dst_2, up3_ap, upd1_ap, Nat.reduceEqDiff, ↓reduceIte, eq_self] at *) | omega | fail
theorem D_k2 {a : Int} (hQ : Q (rI 2) h) : RD d 347 (0, [some (mR a)], [], h) Q := by
  refine RDr [] [] 10 ?_
  repeat' first | (refine ⟨fun _ => ?_, fun _ => ?_⟩ <;> try omega) | (refine ⟨by first | omega | rfl | assumption | (simp only [dst_1, dst_2, up3_ap, upd1_ap, Nat.reduceEqDiff, ↓reduceIte, eq_self] at * <;> omega) | fail, ?_⟩) | (exact hQ) | (simp only [dst_1, dst_2, up3_ap, upd1_ap, Nat.reduceEqDiff, ↓reduceIte, eq_self] at *) | omega | fail
theorem D_k3 {a : Int} (hQ : Q (rI 3) h) : RD d 351 (0, [some (mR a)], [], h) Q := by
  refine RDr [] [] 10 ?_
  repeat' first | (refine ⟨fun _ => ?_, fun _ => ?_⟩ <;> try omega) | (refine ⟨by first | omega | rfl | assumption | (simp only [dst_1, dst_2, up3_ap, upd1_ap, Nat.reduceEqDiff, ↓reduceIte, eq_self] at * <;> omega) | fail, ?_⟩) | (exact hQ) | (simp only [dst_1, dst_2, up3_ap, upd1_ap, Nat.reduceEqDiff, ↓reduceIte, eq_self] at *) | omega | fail
theorem k_call {d : Nat} {X : Nat} {v a : Int} {K : mQ mD} (hX : (X : Int) = 19 + v) (hv : 0 ≤ v ∧ v ≤ 3) (hK : K (rI v) h) :
    (19 ≤ X ∧ X ≤ 19 → RD d 334 (0, [some (mR a)], [], h) K) ∧ (¬ (19 ≤ X ∧ X ≤ 19) → (20 ≤ X ∧ X ≤ 20 → RD d 340 (0, [some (mR a)], [], h) K) ∧ (¬ (20 ≤ X ∧ X ≤ 20) → (21 ≤ X ∧ X ≤ 21 → RD d 347 (0, [some (mR a)], [], h) K) ∧ (¬ (21 ≤ X ∧ X ≤ 21) → (22 ≤ X ∧ X ≤ 22 → RD d 351 (0, [some (mR a)], [], h) K) ∧ (¬ (22 ≤ X ∧ X ≤ 22) → False)))) :=
  s_call hX hv (fun e => D_k0 (by rw [e] at hK; exact hK)) (fun e => D_k1 (by rw [e] at hK; exact hK)) (fun e => D_k2 (by rw [e] at hK; exact hK)) (fun e => D_k3 (by rw [e] at hK; exact hK))
theorem D_openAt (hL : RL h m) {s : Int} (h1 : (0 ≤ s ∧ s < m 53 0) → m 59 s = 0 → Q (rR ((h.1 10120 1022 s))) h) (h0 : ¬ (0 ≤ s ∧ s < m 53 0 ∧ m 59 s = 0) → Q (rR 0) h) : RD (d + 1) 33 (0, [some (mR 1000), some (mI s)], [], h) Q := by
  have n53 := hL.sl.1
  have k0 := n53.1
  by_cases s1 : 0 ≤ s ∧ s < m 53 0
  · have hl := (hL.sl.2 s s1.1 s1.2).1
    have kS := hl.2.1
    have v := (hL.sv s s1.1 s1.2).1.1
    by_cases s2 : m 59 s = 0
    · have fin := h1 s1 s2
      clear h1 h0
      refine RDr [] [] 40 ?_
      repeat' first | (refine D_in (fun _ _ => ?_) (fun _ => ?_)) | (refine ⟨fun _ => ?_, fun _ => ?_⟩ <;> try omega) | (refine ⟨by first | omega | rfl | assumption | (simp only [dst_1, dst_2, up3_ap, upd1_ap, Nat.reduceEqDiff, ↓reduceIte, eq_self] at * <;> omega) | fail, ?_⟩) | (exact fin) | (simp only [dst_1, dst_2, up3_ap, upd1_ap, Nat.reduceEqDiff, ↓reduceIte, eq_self] at *) | omega | fail
    · have fin := h0 (by omega)
      clear h1 h0
      refine RDr [] [] 40 ?_
      repeat' first | (refine D_in (fun _ _ => ?_) (fun _ => ?_)) | (refine ⟨fun _ => ?_, fun _ => ?_⟩ <;> try omega) | (refine ⟨by first | omega | rfl | assumption | (simp only [dst_1, dst_2, up3_ap, upd1_ap, Nat.reduceEqDiff, ↓reduceIte, eq_self] at * <;> omega) | fail, ?_⟩) | (exact fin) | (simp only [dst_1, dst_2, up3_ap, upd1_ap, Nat.reduceEqDiff, ↓reduceIte, eq_self] at *) | omega | fail
  · have fin := h0 (by omega)
    clear h1 h0
    refine RDr [] [] 40 ?_
    repeat' first | (refine D_in (fun _ _ => ?_) (fun _ => ?_)) | (refine ⟨fun _ => ?_, fun _ => ?_⟩ <;> try omega) | (refine ⟨by first | omega | rfl | assumption | (simp only [dst_1, dst_2, up3_ap, upd1_ap, Nat.reduceEqDiff, ↓reduceIte, eq_self] at * <;> omega) | fail, ?_⟩) | (exact fin) | (simp only [dst_1, dst_2, up3_ap, upd1_ap, Nat.reduceEqDiff, ↓reduceIte, eq_self] at *) | omega | fail
theorem D_told (hL : RL h m) {s w : Int} (hs : 0 ≤ s ∧ s < m 53 0) (h1 : 0 ≤ w ∧ w ≤ 9 → Q (rI (wScheme m s w)) h) (h0 : ¬ (0 ≤ w ∧ w ≤ 9) → Q (rI (-1)) h) : RD (d + 1) 331 (0, [some (mR ((h.1 10120 1022 s))), some (mI w)], [], h) Q := by
  have hl := hL.sl.2 s hs.1 hs.2
  have kS := hl.1.2.1
  have b54 := hl.1.1
  have hv := (hL.sv s hs.1 hs.2).1
  by_cases hw : 0 ≤ w ∧ w ≤ 9
  · have fin : ∀ v, v = wScheme m s w → Q (rI v) h := fun v hv => by rw [hv]; exact h1 hw
    clear h0 h1
    have : w = 0 ∨ w = 1 ∨ w = 2 ∨ w = 3 ∨ w = 4 ∨ w = 5 ∨ w = 6 ∨ w = 7 ∨ w = 8 ∨ w = 9 := by omega
    rcases this with e | e | e | e | e | e | e | e | e | e <;> subst e
    · replace fin := fin (m 54 s) rfl
      clear hl
      refine RDr [] [] 40 ?_
      repeat' first | (refine k_call kS b54 ?_) | (refine ⟨fun _ => ?_, fun _ => ?_⟩ <;> try omega) | (refine ⟨by first | omega | rfl | assumption | (simp only [dst_1, dst_2, up3_ap, upd1_ap, Nat.reduceEqDiff, ↓reduceIte, eq_self] at * <;> omega) | fail, ?_⟩) | (exact fin) | (simp only [dst_1, dst_2, up3_ap, upd1_ap, Nat.reduceEqDiff, ↓reduceIte, eq_self] at *) | omega | fail
    · have hF := hL.fl.2 (m 55 s) hl.2.1.2.1 hl.2.1.2.2
      replace fin := fin (h.1 1400 (h.1 1900 ((h.1 10120 1022 s)) 0) 0) (by rw [hl.2.1.1, hF.2.1]; rfl)
      have kF : h.2.1 (h.1 1900 ((h.1 10120 1022 s)) 0) = 14 := by rw [hl.2.1.1]; exact hF.1.1
      clear hF hl
      refine RDr [] [] 40 ?_
      repeat' first | (refine ⟨fun _ => ?_, fun _ => ?_⟩ <;> try omega) | (refine ⟨by first | omega | rfl | assumption | (simp only [dst_1, dst_2, up3_ap, upd1_ap, Nat.reduceEqDiff, ↓reduceIte, eq_self] at * <;> omega) | fail, ?_⟩) | (exact fin) | (simp only [dst_1, dst_2, up3_ap, upd1_ap, Nat.reduceEqDiff, ↓reduceIte, eq_self] at *) | omega | fail
    · replace fin := fin (h.1 1901 ((h.1 10120 1022 s)) 0) (by rw [hl.2.2.1.1]; rfl)
      clear hl
      refine RDr [] [] 40 ?_
      repeat' first | (refine ⟨fun _ => ?_, fun _ => ?_⟩ <;> try omega) | (refine ⟨by first | omega | rfl | assumption | (simp only [dst_1, dst_2, up3_ap, upd1_ap, Nat.reduceEqDiff, ↓reduceIte, eq_self] at * <;> omega) | fail, ?_⟩) | (exact fin) | (simp only [dst_1, dst_2, up3_ap, upd1_ap, Nat.reduceEqDiff, ↓reduceIte, eq_self] at *) | omega | fail
    · replace fin := fin (h.1 1902 ((h.1 10120 1022 s)) 0) (by rw [hl.2.2.1.2.1]; rfl)
      clear hl
      refine RDr [] [] 40 ?_
      repeat' first | (refine ⟨fun _ => ?_, fun _ => ?_⟩ <;> try omega) | (refine ⟨by first | omega | rfl | assumption | (simp only [dst_1, dst_2, up3_ap, upd1_ap, Nat.reduceEqDiff, ↓reduceIte, eq_self] at * <;> omega) | fail, ?_⟩) | (exact fin) | (simp only [dst_1, dst_2, up3_ap, upd1_ap, Nat.reduceEqDiff, ↓reduceIte, eq_self] at *) | omega | fail
    · replace fin := fin (h.1 1903 ((h.1 10120 1022 s)) 0) (by rw [hl.2.2.1.2.2]; rfl)
      clear hl
      refine RDr [] [] 40 ?_
      repeat' first | (refine ⟨fun _ => ?_, fun _ => ?_⟩ <;> try omega) | (refine ⟨by first | omega | rfl | assumption | (simp only [dst_1, dst_2, up3_ap, upd1_ap, Nat.reduceEqDiff, ↓reduceIte, eq_self] at * <;> omega) | fail, ?_⟩) | (exact fin) | (simp only [dst_1, dst_2, up3_ap, upd1_ap, Nat.reduceEqDiff, ↓reduceIte, eq_self] at *) | omega | fail
    · replace fin := fin (h.1 1907 ((h.1 10120 1022 s)) 0) (by rw [hv.1]; rfl)
      clear hl
      refine RDr [] [] 40 ?_
      repeat' first | (refine ⟨fun _ => ?_, fun _ => ?_⟩ <;> try omega) | (refine ⟨by first | omega | rfl | assumption | (simp only [dst_1, dst_2, up3_ap, upd1_ap, Nat.reduceEqDiff, ↓reduceIte, eq_self] at * <;> omega) | fail, ?_⟩) | (exact fin) | (simp only [dst_1, dst_2, up3_ap, upd1_ap, Nat.reduceEqDiff, ↓reduceIte, eq_self] at *) | omega | fail
    · replace fin := fin (h.1 1908 ((h.1 10120 1022 s)) 0) (by rw [hv.2]; rfl)
      clear hl
      refine RDr [] [] 40 ?_
      repeat' first | (refine ⟨fun _ => ?_, fun _ => ?_⟩ <;> try omega) | (refine ⟨by first | omega | rfl | assumption | (simp only [dst_1, dst_2, up3_ap, upd1_ap, Nat.reduceEqDiff, ↓reduceIte, eq_self] at * <;> omega) | fail, ?_⟩) | (exact fin) | (simp only [dst_1, dst_2, up3_ap, upd1_ap, Nat.reduceEqDiff, ↓reduceIte, eq_self] at *) | omega | fail
    · replace fin := fin (h.1 21904 (h.1 1904 ((h.1 10120 1022 s)) 0) 0) (by rw [hL.osz hs]; rfl)
      have kO := (hL.so s hs.1 hs.2).1.1.1
      clear hl
      refine RDr [] [] 40 ?_
      repeat' first | (refine ⟨fun _ => ?_, fun _ => ?_⟩ <;> try omega) | (refine ⟨by first | omega | rfl | assumption | (simp only [dst_1, dst_2, up3_ap, upd1_ap, Nat.reduceEqDiff, ↓reduceIte, eq_self] at * <;> omega) | fail, ?_⟩) | (exact fin) | (simp only [dst_1, dst_2, up3_ap, upd1_ap, Nat.reduceEqDiff, ↓reduceIte, eq_self] at *) | omega | fail
    · replace fin := fin (pc (h.1 1906 ((h.1 10120 1022 s)) 0)) (by rw [hL.yes hs]; rfl)
      have y := (hL.ss s hs.1 hs.2).2.1
      clear hl
      refine RDr [] [] 40 ?_
      repeat' first | (refine ⟨fun _ => ?_, fun _ => ?_⟩ <;> try omega) | (refine ⟨by first | omega | rfl | assumption | (simp only [dst_1, dst_2, up3_ap, upd1_ap, Nat.reduceEqDiff, ↓reduceIte, eq_self] at * <;> omega) | fail, ?_⟩) | (exact fin) | (simp only [dst_1, dst_2, up3_ap, upd1_ap, Nat.reduceEqDiff, ↓reduceIte, eq_self] at *) | omega | fail
    · replace fin := fin (h.1 21905 (h.1 1905 ((h.1 10120 1022 s)) 0) 0 - pc (h.1 1906 ((h.1 10120 1022 s)) 0)) (by rw [hL.no hs]; rfl)
      have y := (hL.ss s hs.1 hs.2).2.1
      have kO := (hL.ss s hs.1 hs.2).1.1.1
      have s14 := hL.s14 hs
      have pb := popN_b (h.1 1906 ((h.1 10120 1022 s)) 0) 16
      rw [← pc_eq] at pb
      clear hl
      refine RDr [] [] 40 ?_
      repeat' first | (refine ⟨fun _ => ?_, fun _ => ?_⟩ <;> try omega) | (refine ⟨by first | omega | rfl | assumption | (simp only [dst_1, dst_2, up3_ap, upd1_ap, Nat.reduceEqDiff, ↓reduceIte, eq_self] at * <;> omega) | fail, ?_⟩) | (exact fin) | (simp only [dst_1, dst_2, up3_ap, upd1_ap, Nat.reduceEqDiff, ↓reduceIte, eq_self] at *) | omega | fail
  · have fin := h0 hw
    clear h0 h1 hl
    refine RDr [] [] 40 ?_
    repeat' first | (refine ⟨fun _ => ?_, fun _ => ?_⟩ <;> try omega) | (refine ⟨by first | omega | rfl | assumption | (simp only [dst_1, dst_2, up3_ap, upd1_ap, Nat.reduceEqDiff, ↓reduceIte, eq_self] at * <;> omega) | fail, ?_⟩) | (exact fin) | (simp only [dst_1, dst_2, up3_ap, upd1_ap, Nat.reduceEqDiff, ↓reduceIte, eq_self] at *) | omega | fail
theorem J_scheme {s w : Int} (hR : Rc (c + 1) h m) (hc : 0 ≤ c) : RD (d + 100) 37 (0, [some (mR 1000), some (mI s), some (mI w)], [], h) (JM 164 [some (mR 1026), some (mI s), some (mI w)] m c) := by
  have hL := hR.1
  have hs := hR.s0 hc
  have n53 := hL.sl.1
  have k0 := n53.1
  have no : ¬ ((0 ≤ s ∧ s < m 53 0) ∧ 0 ≤ w ∧ w ≤ 9) → JM 164 [some (mR 1026), some (mI s), some (mI w)] m c (rI (-1)) h := fun hh d' => M_scheme (d := d' + 99) (by omega) (fun a1 a2 a3 a4 => absurd ⟨⟨a1, a2⟩, a3, a4⟩ hh) (fun _ => ⟨rfl, hs⟩)
  by_cases s1 : 0 ≤ s ∧ s < m 53 0
  · have yes : 0 ≤ w ∧ w ≤ 9 → JM 164 [some (mR 1026), some (mI s), some (mI w)] m c (rI (wScheme m s w)) h := fun hw d' => M_scheme (d := d' + 99) (by omega) (fun _ _ _ _ => ⟨rfl, hs⟩) (fun hh => absurd ⟨s1, hw⟩ hh)
    have no : ¬ (0 ≤ w ∧ w ≤ 9) → JM 164 [some (mR 1026), some (mI s), some (mI w)] m c (rI (-1)) h := fun hh => no (fun h' => hh h'.2)
    have kS := (hL.sl.2 s s1.1 s1.2).1.2.1
    have b54 := (hL.sl.2 s s1.1 s1.2).1.1
    refine RDr [] [] 40 ?_
    repeat' first | (refine D_in (fun _ _ => ?_) (fun _ => ?_)) | (refine hub_i (by dsimp only [kdD]; omega) (D_told hL s1 (fun hw => ?_) (fun hw => ?_))) | (refine ⟨fun _ => ?_, fun _ => ?_⟩ <;> try omega) | (refine ⟨by first | omega | rfl | assumption | (simp only [dst_1, dst_2, up3_ap, upd1_ap, Nat.reduceEqDiff, ↓reduceIte, eq_self] at * <;> omega) | fail, ?_⟩) | (exact yes hw) | (exact no hw) | (simp only [dst_1, dst_2, up3_ap, upd1_ap, Nat.reduceEqDiff, ↓reduceIte, eq_self] at *) | omega | fail
  · have no := no (fun h' => s1 h'.1)
    refine RDr [] [] 40 ?_
    repeat' first | (refine D_in (fun _ _ => ?_) (fun _ => ?_)) | (refine ⟨fun _ => ?_, fun _ => ?_⟩ <;> try omega) | (refine ⟨by first | omega | rfl | assumption | (simp only [dst_1, dst_2, up3_ap, upd1_ap, Nat.reduceEqDiff, ↓reduceIte, eq_self] at * <;> omega) | fail, ?_⟩) | (exact no) | (simp only [dst_1, dst_2, up3_ap, upd1_ap, Nat.reduceEqDiff, ↓reduceIte, eq_self] at *) | omega | fail
end
