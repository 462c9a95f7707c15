/-! THE DESK READS: what is cut, the rest -/
set_option maxHeartbeats 3200000
set_option maxRecDepth 100000
section
variable {d : Nat} {m m0 : mD} {Q : mQ mD} {t : Int → Int} {n r : Int}
theorem D_cutD {q k : Int} (hT : DT t n r m) (hq : 0 ≤ q ∧ q < n) (hs : dgt t n q = true) (h2 : m.1 402 r 0 = q) (h7 : m.1 407 r 0 = 0) (hk : 0 ≤ k ∧ q + k ≤ n) (h3 : m.1 403 r 0 = k) (he : past (dgt t n) n (q + k) = tke t n q) (h4 : m.1 404 r 0 = dgv t n q (min 4 k).toNat) (hal : ∀ i, q ≤ i → i < q + k → dgt t n i = true)
    (hQ : ∀ m', RC r m m' → DK t n q r m' → Q rV m') : RD (d + 1) 189 (163, [some (mR r)], [], m) Q := by
  have hsn : ¬ sml t n q = true := fun hs' => by
    have a := of_decide_eq_true hs
    have b := of_decide_eq_true hs'
    omega
  have s3 : srt t n q = if 4 < tke t n q - q then 1 else 2 := by
    unfold srt
    rw [if_neg (by have := (dgt_lt hs).1; omega), if_neg hsn, if_pos hs]
  have fin : ∀ m', RC r m m' → m'.1 403 r 0 = tke t n q - q → m'.1 402 r 0 = q → m'.1 407 r 0 = 0 → m'.1 404 r 0 = vlu t n q → (4 < m'.1 403 r 0 → Q rV (dst m' 408 r 0 0)) ∧ (¬ 4 < m'.1 403 r 0 → Q rV (dst m' 408 r 0 1)) := by
    intro m' hc e3 e2 e7 e4
    refine ⟨fun h => ?_, fun h => ?_⟩
    · rw [if_pos (by omega)] at s3
      exact hQ _ (hc.up (by decide)) ⟨by rw [ds_n (by decide)]; exact e2, by rw [ds_n (by decide)]; exact e3, fun _ => by rw [ds_n (by decide)]; exact e4, by rw [if_neg hsn, ds_n (by decide)]; exact e7, by rw [if_neg (by omega), dsz_0]⟩
    · rw [if_neg (by omega)] at s3
      exact hQ _ (hc.up (by decide)) ⟨by rw [ds_n (by decide)]; exact e2, by rw [ds_n (by decide)]; exact e3, fun _ => by rw [ds_n (by decide)]; exact e4, by rw [if_neg hsn, ds_n (by decide)]; exact e7, by rw [if_pos s3, dsz_0]⟩
  have h400 := hT.2.2.2.2
  have key : ∀ k, 0 ≤ k → k ≤ n - q → ∀ m', RC r m m' → m'.1 403 r 0 = k → m'.1 402 r 0 = q → m'.1 407 r 0 = 0 → past (dgt t n) n (q + k) = tke t n q → m'.1 404 r 0 = dgv t n q (min 4 k).toNat → (∀ i, q ≤ i → i < q + k → dgt t n i = true) → RD (d + 1) 189 (163, [some (mR r)], [], m') Q := by
    refine up_ind ?_ ?_
    · intro m' hc e3 e2 e7 ep e4 e5
      have hT' := hT.c hc
      have kr := hT'.1
      rw [show q + (n - q) = n by omega, past_n] at ep
      have fin := fin m' hc (by omega) e2 e7 (by unfold vlu; rw [show tke t n q - q = n - q by omega]; exact e4)
      have hb : ¬ (48 ≤ byd t n (m'.1 402 r 0 + m'.1 403 r 0) ∧ byd t n (m'.1 402 r 0 + m'.1 403 r 0) ≤ 57) := fun h => by
        have := (dgt_lt ((byd_d (hT.by (by omega)).1).mp h)).1
        omega
      clear hQ
      refine RDr [] [1890163] 80 ?_
      repeat' first | (refine hub_i (by dsimp only [kdD]; omega) (D_byteAt hT' (by omega) ?_)) | (refine D_in (fun _ _ => ?_) (fun _ => ?_)) | (refine ⟨fun _ => ?_, fun _ => ?_⟩ <;> try omega) | (refine ⟨by first | omega | rfl | assumption | (simp only [dst_1, dst_2, up3_ap, upd1_ap, Nat.reduceEqDiff, ↓reduceIte, eq_self] at * <;> omega) | fail, ?_⟩) | (exact fin.1 (by omega)) | (exact fin.2 (by omega)) | (simp only [dst_1, dst_2, up3_ap, upd1_ap, Nat.reduceEqDiff, ↓reduceIte, eq_self] at *) | omega | fail
    · intro k k0 k1 ih m' hc e3 e2 e7 ep e4 e5
      have hT' := hT.c hc
      have kr := hT'.1
      rw [past_s _ (by omega)] at ep
      by_cases hs2 : dgt t n (q + k) = true
      · rw [if_pos hs2, show q + k + 1 = q + (k + 1) by omega] at ep
        have hb := (byd_d (hT.by (by omega)).1).mpr hs2
        have hby : byd t n (q + k) = byt t n (q + k) := by
          have := of_decide_eq_true hs2
          unfold byd
          rw [if_neg (by omega)]
        have hv := dgv_b (t := t) (n := n) (q := q) (min 4 k).toNat (by omega) (fun i hi => e5 _ (by omega) (by omega))
        have hv2 : 0 ≤ m'.1 404 r 0 ∧ m'.1 404 r 0 < 10000 := by
          rw [e4]
          have : (min 4 k).toNat = 0 ∨ (min 4 k).toNat = 1 ∨ (min 4 k).toNat = 2 ∨ (min 4 k).toNat = 3 ∨ (min 4 k).toNat = 4 := by omega
          rcases this with h | h | h | h | h <;> (rw [h] at hv ⊢; first | exact ⟨hv.1, Int.lt_of_lt_of_le hv.2 (by decide)⟩ | exact hv)
        have e5' : ∀ i, q ≤ i → i < q + (k + 1) → dgt t n i = true := fun i i0 i1 => by
          by_cases hik : i = q + k
          · rw [hik]; exact hs2
          · exact e5 i i0 (by omega)
        have ih1 : m'.1 403 r 0 < 4 → RD (d + 1) 189 (163, [some (mR r)], [], dst (dst m' 404 r 0 (10 * m'.1 404 r 0 + byd t n (m'.1 402 r 0 + m'.1 403 r 0) - 48)) 403 r 0 (m'.1 403 r 0 + 1)) Q := by
          intro hlt
          refine ih _ ((hc.up (by decide)).up (by decide)) (by rw [dsz_0]; omega) (by rw [ds_n (by decide), ds_n (by decide)]; exact e2) (by rw [ds_n (by decide), ds_n (by decide)]; exact e7) ep ?_ e5'
          rw [ds_n (by decide), dsz_0, e4, e2, e3, hby]
          rw [show (min 4 (k + 1)).toNat = k.toNat + 1 by omega, show (min 4 k).toNat = k.toNat by omega]
          show _ = 10 * dgv t n q k.toNat + byt t n (q + (k.toNat : Nat)) - 48
          rw [show q + ((k.toNat : Nat) : Int) = q + k by omega]
        have ih2 : ¬ m'.1 403 r 0 < 4 → RD (d + 1) 189 (163, [some (mR r)], [], dst m' 403 r 0 (m'.1 403 r 0 + 1)) Q := by
          intro hlt
          refine ih _ (hc.up (by decide)) (by rw [dsz_0]; omega) (by rw [ds_n (by decide)]; exact e2) (by rw [ds_n (by decide)]; exact e7) ep ?_ e5'
          rw [ds_n (by decide), e4, show (min 4 (k + 1)).toNat = (min 4 k).toNat by omega]
        rw [← e2, ← e3] at hb
        clear fin hQ ih hal
        have hT2 : ∀ v, DT t n r (dst m' 404 r 0 v) := fun v => hT'.c (RC.rfl.up (by decide))
        refine RDr [] [1890163] 80 ?_
        repeat' first | (refine hub_i (by dsimp only [kdD]; omega) (D_byteAt hT' (by omega) ?_)) | (refine D_in (fun _ _ => ?_) (fun _ => ?_)) | (refine ⟨fun _ => ?_, fun _ => ?_⟩ <;> try omega) | (refine ⟨by first | omega | rfl | assumption | (simp only [dst_1, dst_2, up3_ap, upd1_ap, Nat.reduceEqDiff, ↓reduceIte, eq_self] at * <;> omega) | fail, ?_⟩) | (exact ih1 (by omega)) | (exact ih2 (by omega)) | (simp only [dst_1, dst_2, up3_ap, upd1_ap, Nat.reduceEqDiff, ↓reduceIte, eq_self] at *) | omega | fail
      · rw [if_neg hs2] at ep
        have hb : ¬ (48 ≤ byd t n (m'.1 402 r 0 + m'.1 403 r 0) ∧ byd t n (m'.1 402 r 0 + m'.1 403 r 0) ≤ 57) := fun h => by
          rw [e2, e3] at h
          exact hs2 ((byd_d (hT.by (by omega)).1).mp h)
        have fin := fin m' hc (by omega) e2 e7 (by unfold vlu; rw [show tke t n q - q = k by omega]; exact e4)
        clear ih hQ
        refine RDr [] [1890163] 80 ?_
        repeat' first | (refine hub_i (by dsimp only [kdD]; omega) (D_byteAt hT' (by omega) ?_)) | (refine D_in (fun _ _ => ?_) (fun _ => ?_)) | (refine ⟨fun _ => ?_, fun _ => ?_⟩ <;> try omega) | (refine ⟨by first | omega | rfl | assumption | (simp only [dst_1, dst_2, up3_ap, upd1_ap, Nat.reduceEqDiff, ↓reduceIte, eq_self] at * <;> omega) | fail, ?_⟩) | (exact fin.1 (by omega)) | (exact fin.2 (by omega)) | (simp only [dst_1, dst_2, up3_ap, upd1_ap, Nat.reduceEqDiff, ↓reduceIte, eq_self] at *) | omega | fail
  exact key k hk.1 (by omega) m RC.rfl h3 h2 h7 he h4 hal
theorem D_cut {p : Int} (hT : DT t n r m) (h2 : 0 ≤ m.1 402 r 0 ∧ 0 ≤ m.1 403 r 0) (hp : m.1 402 r 0 + m.1 403 r 0 = p ∧ p ≤ n) (hQ : ∀ m', RC r m m' → DK t n (sk t n p) r m' → Q rV m') : RD (d + 2) 189 (0, [some (mR r)], [], m) Q := by
  have h400 := hT.2.2.2.2
  -- at a token: what it is
  have st3 : ∀ q, 0 ≤ q → q ≤ n → q = sk t n p → ∀ m', RC r m m' → m'.1 402 r 0 = q → m'.1 403 r 0 = 0 → m'.1 404 r 0 = 0 → m'.1 407 r 0 = (if sml t n q then 1 else 0) → m'.1 408 r 0 = (if dgt t n q then 1 else 0) → RD (d + 2) 189 (113, [some (mR r)], [], m') Q := by
    intro q q0 q1 hq m' hc e2 e3 e4 e7 e8
    have hT' := hT.c hc
    have kr := hT'.1
    have kn := hT'.2.2.1
    rw [← hq] at hQ
    by_cases hs : sml t n q = true
    · have hlt := (sml_lt hs).1
      have hng : ¬ dgt t n q = true := fun hg => by
        have a := of_decide_eq_true hs
        have b := of_decide_eq_true hg
        omega
      rw [if_pos hs] at e7
      rw [if_neg hng] at e8
      have go : RD (d + 2) 189 (120, [some (mR r)], [], m') Q := D_cutW (q := q) (k := 0) hT' (by omega) hs e2 e7 e8 (by omega) e3 (by rw [Int.add_zero]; unfold tke; rw [if_pos hs]) (fun m2 hc2 hk => hQ m2 (hc.tr hc2) hk)
      clear hQ
      refine RDr [] [1890120, 1890163] 40 ?_
      repeat' first | (refine ⟨fun _ => ?_, fun _ => ?_⟩ <;> try omega) | (refine ⟨by first | omega | rfl | assumption | (simp only [dst_1, dst_2, up3_ap, upd1_ap, Nat.reduceEqDiff, ↓reduceIte, eq_self] at * <;> omega) | fail, ?_⟩) | (exact go) | (simp only [dst_1, dst_2, up3_ap, upd1_ap, Nat.reduceEqDiff, ↓reduceIte, eq_self] at *) | omega | fail
    · rw [if_neg hs] at e7
      by_cases hg : dgt t n q = true
      · have hlt := (dgt_lt hg).1
        rw [if_pos hg] at e8
        have go : RD (d + 2) 189 (163, [some (mR r)], [], m') Q := D_cutD (q := q) (k := 0) hT' (by omega) hg e2 e7 (by omega) e3 (by rw [Int.add_zero]; exact (tke_dg hg).symm) e4 (fun i h0 h1 => by omega) (fun m2 hc2 hk => hQ m2 (hc.tr hc2) hk)
        clear hQ
        refine RDr [] [1890120, 1890163] 40 ?_
        repeat' first | (refine ⟨fun _ => ?_, fun _ => ?_⟩ <;> try omega) | (refine ⟨by first | omega | rfl | assumption | (simp only [dst_1, dst_2, up3_ap, upd1_ap, Nat.reduceEqDiff, ↓reduceIte, eq_self] at * <;> omega) | fail, ?_⟩) | (exact go) | (simp only [dst_1, dst_2, up3_ap, upd1_ap, Nat.reduceEqDiff, ↓reduceIte, eq_self] at *) | omega | fail
      · rw [if_neg hg] at e8
        have ns2 : ¬ srt t n q = 2 := by
          unfold srt
          by_cases h : n ≤ q
          · rw [if_pos h]; omega
          · rw [if_neg h, if_neg hs, if_neg hg]; omega
        by_cases hlt : q < n
        · have te : tke t n q = q + 1 := by unfold tke; rw [if_neg hs, if_neg hg, if_pos hlt]
          have go : Q rV (dst m' 403 r 0 1) := hQ _ (hc.up (by decide)) ⟨by rw [ds_n (by decide)]; exact e2, by rw [dsz_0]; omega, fun h => absurd h hg, by rw [if_neg hs, ds_n (by decide)]; exact e7, by rw [if_neg ns2, ds_n (by decide)]; exact e8⟩
          clear hQ
          refine RDr [] [] 40 ?_
          repeat' first | (refine ⟨fun _ => ?_, fun _ => ?_⟩ <;> try omega) | (refine ⟨by first | omega | rfl | assumption | (simp only [dst_1, dst_2, up3_ap, upd1_ap, Nat.reduceEqDiff, ↓reduceIte, eq_self] at * <;> omega) | fail, ?_⟩) | (exact go) | (simp only [dst_1, dst_2, up3_ap, upd1_ap, Nat.reduceEqDiff, ↓reduceIte, eq_self] at *) | omega | fail
        · have te : tke t n q = q := by unfold tke; rw [if_neg hs, if_neg hg, if_neg hlt]
          have go : Q rV m' := hQ _ hc ⟨e2, by omega, fun h => absurd h hg, by rw [if_neg hs]; exact e7, by rw [if_neg ns2]; exact e8⟩
          clear hQ
          refine RDr [] [] 40 ?_
          repeat' first | (refine ⟨fun _ => ?_, fun _ => ?_⟩ <;> try omega) | (refine ⟨by first | omega | rfl | assumption | (simp only [dst_1, dst_2, up3_ap, upd1_ap, Nat.reduceEqDiff, ↓reduceIte, eq_self] at * <;> omega) | fail, ?_⟩) | (exact go) | (simp only [dst_1, dst_2, up3_ap, upd1_ap, Nat.reduceEqDiff, ↓reduceIte, eq_self] at *) | omega | fail
  have st2 : ∀ q, 0 ≤ q → q ≤ n → q = sk t n p → ∀ m', RC r m m' → m'.1 402 r 0 = q → m'.1 403 r 0 = 0 → m'.1 404 r 0 = 0 → m'.1 407 r 0 = (if sml t n q then 1 else 0) → RD (d + 2) 189 (94, [some (mR r)], [], m') Q := by
    intro q q0 q1 hq m' hc e2 e3 e4 e7
    have hT' := hT.c hc
    have kr := hT'.1
    have nx3 : ∀ v, v = (if dgt t n q then (1 : Int) else 0) → RD (d + 2) 189 (113, [some (mR r)], [], dst m' 408 r 0 v) Q := fun v hv => st3 q q0 q1 hq _ (hc.up (by decide)) (by rw [ds_n (by decide)]; exact e2) (by rw [ds_n (by decide)]; exact e3) (by rw [ds_n (by decide)]; exact e4) (by rw [ds_n (by decide)]; exact e7) (by rw [dsz_0]; exact hv)
    have b2 := byd_d (hT.by q0).1
    rw [← e2] at b2
    clear st3 hQ
    by_cases hg : dgt t n q = true
    · rw [if_pos hg] at nx3
      have b2 := b2.mpr (by rw [e2]; exact hg)
      refine RDr [] [1890113] 40 ?_
      repeat' first | (refine hub_i (by dsimp only [kdD]; omega) (D_byteAt hT' (by omega) ?_)) | (refine D_in (fun _ _ => ?_) (fun _ => ?_)) | (refine ⟨fun _ => ?_, fun _ => ?_⟩ <;> try omega) | (refine ⟨by first | omega | rfl | assumption | (simp only [dst_1, dst_2, up3_ap, upd1_ap, Nat.reduceEqDiff, ↓reduceIte, eq_self] at * <;> omega) | fail, ?_⟩) | (exact nx3 _ rfl) | (simp only [dst_1, dst_2, up3_ap, upd1_ap, Nat.reduceEqDiff, ↓reduceIte, eq_self] at *) | omega | fail
    · rw [if_neg hg] at nx3
      have b2 : ¬ (48 ≤ byd t n (m'.1 402 r 0) ∧ byd t n (m'.1 402 r 0) ≤ 57) := fun h => hg (by rw [← e2]; exact b2.mp h)
      refine RDr [] [1890113] 40 ?_
      repeat' first | (refine hub_i (by dsimp only [kdD]; omega) (D_byteAt hT' (by omega) ?_)) | (refine D_in (fun _ _ => ?_) (fun _ => ?_)) | (refine ⟨fun _ => ?_, fun _ => ?_⟩ <;> try omega) | (refine ⟨by first | omega | rfl | assumption | (simp only [dst_1, dst_2, up3_ap, upd1_ap, Nat.reduceEqDiff, ↓reduceIte, eq_self] at * <;> omega) | fail, ?_⟩) | (exact nx3 _ rfl) | (simp only [dst_1, dst_2, up3_ap, upd1_ap, Nat.reduceEqDiff, ↓reduceIte, eq_self] at *) | omega | fail
  have st1 : ∀ q, 0 ≤ q → q ≤ n → q = sk t n p → ∀ m', RC r m m' → m'.1 402 r 0 = q → m'.1 403 r 0 = 0 → m'.1 404 r 0 = 0 → RD (d + 2) 189 (75, [some (mR r)], [], m') Q := by
    intro q q0 q1 hq m' hc e2 e3 e4
    have hT' := hT.c hc
    have kr := hT'.1
    have nx3 : ∀ v, v = (if sml t n q then (1 : Int) else 0) → RD (d + 2) 189 (94, [some (mR r)], [], dst m' 407 r 0 v) Q := fun v hv => st2 q q0 q1 hq _ (hc.up (by decide)) (by rw [ds_n (by decide)]; exact e2) (by rw [ds_n (by decide)]; exact e3) (by rw [ds_n (by decide)]; exact e4) (by rw [dsz_0]; exact hv)
    have b2 := byd_s (hT.by q0).1
    rw [← e2] at b2
    clear st3 st2 hQ
    by_cases hg : sml t n q = true
    · rw [if_pos hg] at nx3
      have b2 := b2.mpr (by rw [e2]; exact hg)
      refine RDr [] [1890094] 40 ?_
      repeat' first | (refine hub_i (by dsimp only [kdD]; omega) (D_byteAt hT' (by omega) ?_)) | (refine D_in (fun _ _ => ?_) (fun _ => ?_)) | (refine ⟨fun _ => ?_, fun _ => ?_⟩ <;> try omega) | (refine ⟨by first | omega | rfl | assumption | (simp only [dst_1, dst_2, up3_ap, upd1_ap, Nat.reduceEqDiff, ↓reduceIte, eq_self] at * <;> omega) | fail, ?_⟩) | (exact nx3 _ rfl) | (simp only [dst_1, dst_2, up3_ap, upd1_ap, Nat.reduceEqDiff, ↓reduceIte, eq_self] at *) | omega | fail
    · rw [if_neg hg] at nx3
      have b2 : ¬ (97 ≤ byd t n (m'.1 402 r 0) ∧ byd t n (m'.1 402 r 0) ≤ 122) := fun h => hg (by rw [← e2]; exact b2.mp h)
      refine RDr [] [1890094] 40 ?_
      repeat' first | (refine hub_i (by dsimp only [kdD]; omega) (D_byteAt hT' (by omega) ?_)) | (refine D_in (fun _ _ => ?_) (fun _ => ?_)) | (refine ⟨fun _ => ?_, fun _ => ?_⟩ <;> try omega) | (refine ⟨by first | omega | rfl | assumption | (simp only [dst_1, dst_2, up3_ap, upd1_ap, Nat.reduceEqDiff, ↓reduceIte, eq_self] at * <;> omega) | fail, ?_⟩) | (exact nx3 _ rfl) | (simp only [dst_1, dst_2, up3_ap, upd1_ap, Nat.reduceEqDiff, ↓reduceIte, eq_self] at *) | omega | fail
  have tok : ∀ q, 0 ≤ q → q ≤ n → q = sk t n p → ∀ m', RC r m m' → m'.1 402 r 0 = q → RD (d + 2) 189 (65, [some (mR r)], [], m') Q := by
    intro q q0 q1 hq m' hc e2
    have kr := (hT.c hc).1
    have go := st1 q q0 q1 hq (dst (dst m' 403 r 0 0) 404 r 0 0) ((hc.up (by decide)).up (by decide)) (by rw [ds_n (by decide), ds_n (by decide)]; exact e2) (by rw [ds_n (by decide), dsz_0]) dsz_0
    clear st1 st2 st3 hQ
    refine RDr [] [1890075] 20 ?_
    repeat' first | (refine ⟨fun _ => ?_, fun _ => ?_⟩ <;> try omega) | (refine ⟨by first | omega | rfl | assumption | (simp only [dst_1, dst_2, up3_ap, upd1_ap, Nat.reduceEqDiff, ↓reduceIte, eq_self] at * <;> omega) | fail, ?_⟩) | (exact go) | (simp only [dst_1, dst_2, up3_ap, upd1_ap, Nat.reduceEqDiff, ↓reduceIte, eq_self] at *) | omega | fail
  clear st1 st2 st3
  have key : ∀ k, 0 ≤ k → k ≤ n → ∀ m', RC r m m' → m'.1 402 r 0 = k → sk t n k = sk t n p → RD (d + 2) 189 (13, [some (mR r)], [], m') Q := by
    refine up_ind ?_ ?_
    · intro m' hc e2 es
      have hT' := hT.c hc
      have kr := hT'.1
      have kn := hT'.2.2.1
      have tk := tok n (by omega) (Int.le_refl _) (by rw [← es]; exact (past_n _ _).symm) m' hc e2
      clear tok hQ
      refine RDr [] [1890013, 1890065] 100 ?_
      repeat' first | (refine ⟨fun _ => ?_, fun _ => ?_⟩ <;> try omega) | (refine ⟨by first | omega | rfl | assumption | (simp only [dst_1, dst_2, up3_ap, upd1_ap, Nat.reduceEqDiff, ↓reduceIte, eq_self] at * <;> omega) | fail, ?_⟩) | (exact tk) | (simp only [dst_1, dst_2, up3_ap, upd1_ap, Nat.reduceEqDiff, ↓reduceIte, eq_self] at *) | omega | fail
    · intro k k0 k1 ih m' hc e2 es
      have hT' := hT.c hc
      have kr := hT'.1
      have kn := hT'.2.2.1
      have k0' := hT'.2.1
      have bt := hT'.2.2.2.1 k k0 k1
      have e2' : (if blnk t n k then sk t n (k + 1) else k) = sk t n p := by rw [← es]; exact (past_s _ k1).symm
      rw [← e2] at bt
      by_cases hb : blnk t n k = true
      · rw [if_pos hb] at e2'
        have hb := (of_decide_eq_true hb).2
        rw [← e2, ← bt.1] at hb
        have ih := ih (dst m' 402 r 0 (m'.1 402 r 0 + 1)) (hc.up (by decide)) (by rw [dsz_0]; omega) e2'
        clear tok hQ
        refine RDr [] [1890013, 1890065] 100 ?_
        repeat' first | (refine ⟨fun _ => ?_, fun _ => ?_⟩ <;> try omega) | (refine ⟨by first | omega | rfl | assumption | (simp only [dst_1, dst_2, up3_ap, upd1_ap, Nat.reduceEqDiff, ↓reduceIte, eq_self] at * <;> omega) | fail, ?_⟩) | (exact ih) | (simp only [dst_1, dst_2, up3_ap, upd1_ap, Nat.reduceEqDiff, ↓reduceIte, eq_self] at *) | omega | fail
      · rw [if_neg hb] at e2'
        have hb2 : ¬ (m'.1 10106 1005 (m'.1 402 r 0) = 32 ∨ m'.1 10106 1005 (m'.1 402 r 0) = 10) := fun h => hb (decide_eq_true ⟨k1, by rw [bt.1, e2] at h; exact h⟩)
        have tk := tok k k0 (by omega) e2' m' hc e2
        clear tok hQ
        refine RDr [] [1890013, 1890065] 100 ?_
        repeat' first | (refine ⟨fun _ => ?_, fun _ => ?_⟩ <;> try omega) | (refine ⟨by first | omega | rfl | assumption | (simp only [dst_1, dst_2, up3_ap, upd1_ap, Nat.reduceEqDiff, ↓reduceIte, eq_self] at * <;> omega) | fail, ?_⟩) | (exact tk) | (simp only [dst_1, dst_2, up3_ap, upd1_ap, Nat.reduceEqDiff, ↓reduceIte, eq_self] at *) | omega | fail
  have kr := hT.1
  have go := key p (by omega) (by omega) (dst m 402 r 0 (m.1 402 r 0 + m.1 403 r 0)) (RC.rfl.up (by decide)) (by rw [dsz_0]; exact hp.1) rfl
  clear key tok hQ
  refine RDr [] [1890013] 40 ?_
  repeat' first | (refine ⟨fun _ => ?_, fun _ => ?_⟩ <;> try omega) | (refine ⟨by first | omega | rfl | assumption | (simp only [dst_1, dst_2, up3_ap, upd1_ap, Nat.reduceEqDiff, ↓reduceIte, eq_self] at * <;> omega) | fail, ?_⟩) | (exact go) | (simp only [dst_1, dst_2, up3_ap, upd1_ap, Nat.reduceEqDiff, ↓reduceIte, eq_self] at *) | omega | fail
end
