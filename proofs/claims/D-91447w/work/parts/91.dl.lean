/-! THE DESK READS: what is cut -/
set_option maxHeartbeats 3200000
set_option maxRecDepth 100000
theorem ds_n {m : mD} {g : Nat} {a i v : Int} {g' : Nat} (h : g' ≠ g) : (dst m g a i v).1 g' = m.1 g' := by rw [dst_1]; exact up3_n h
theorem ds_o {m : mD} {g : Nat} {a i v b : Int} (h : b ≠ a) (g' : Nat) : (dst m g a i v).1 g' b = m.1 g' b := by
  by_cases e : g' = g
  · subst e; rw [dst_1]; exact up3_o h
  · rw [ds_n e]
theorem dsz_0 {m : mD} {g : Nat} {a v : Int} : (dst m g a 0 v).1 g a 0 = v := by rw [dst_1, up3_s, upd1_s]
theorem zand_byte {x : Int} (h : -128 ≤ x ∧ x ≤ 127) : zand x 255 = if x < 0 then x + 256 else x := by
  have key : ∀ n : Nat, n < 256 → zand ((n : Int) - 128) 255 = if ((n : Int) - 128) < 0 then ((n : Int) - 128) + 256 else ((n : Int) - 128) := by decide +kernel
  have := key (x + 128).toNat (by omega)
  rw [show (((x + 128).toNat : Nat) : Int) - 128 = x by omega] at this
  exact this
/-- the fields of a reader that cutting changes -/
def RC (r : Int) (m m' : mD) : Prop := m'.2 = m.2 ∧ ∀ g b, m'.1 g b = m.1 g b ∨ (b = r ∧ m_has [402, 403, 404, 407, 408] g = true)
theorem RC.rfl {r : Int} {m : mD} : RC r m m := ⟨Eq.refl _, fun _ _ => Or.inl (Eq.refl _)⟩
theorem RC.up {r : Int} {m m' : mD} (h : RC r m m') {g : Nat} (hg : m_has [402, 403, 404, 407, 408] g = true) {v : Int} : RC r m (dst m' g r 0 v) := by
  refine ⟨h.1, fun g' b => ?_⟩
  by_cases e : b = r
  · by_cases e2 : g' = g
    · exact Or.inr ⟨e, by rw [e2]; exact hg⟩
    · rw [ds_n e2]; exact h.2 g' b
  · rw [ds_o e]; exact h.2 g' b
theorem RC.n {r : Int} {m m' : mD} (h : RC r m m') {g : Nat} (hg : m_has [402, 403, 404, 407, 408] g = false) (b : Int) : m'.1 g b = m.1 g b := by
  rcases h.2 g b with e | e
  · exact e
  · rw [e.2] at hg; cases hg
theorem RC.tr {r : Int} {m m' m'' : mD} (h : RC r m m') (h2 : RC r m' m'') : RC r m m'' := ⟨h2.1.trans h.1, fun g b => by
  rcases h2.2 g b with e | e
  · rw [e]; exact h.2 g b
  · exact Or.inr e⟩
/-- a reader's text -/
def DT (t : Int → Int) (n r : Int) (m : mD) : Prop := m.2.1 r = 4 ∧ m.1 400 r 0 = 1005 ∧ m.1 401 r 0 = n ∧ (∀ i, 0 ≤ i → i < n → m.1 10106 1005 i = t i ∧ -128 ≤ t i ∧ t i ≤ 127) ∧ n ≤ 400
theorem DT.c {t : Int → Int} {n r : Int} {m m' : mD} (h : DT t n r m) (hc : RC r m m') : DT t n r m' := by
  refine ⟨by rw [hc.1]; exact h.1, by rw [hc.n (by decide)]; exact h.2.1, by rw [hc.n (by decide)]; exact h.2.2.1, by rw [hc.n (by decide)]; exact h.2.2.2⟩
/-- a reader's token -/
def DK (t : Int → Int) (n q r : Int) (m : mD) : Prop := m.1 402 r 0 = q ∧ m.1 403 r 0 = tke t n q - q ∧ (dgt t n q = true → m.1 404 r 0 = vlu t n q) ∧ m.1 407 r 0 = (if sml t n q then 1 else 0) ∧ m.1 408 r 0 = (if srt t n q = 2 then 1 else 0)
section
variable {d : Nat} {m m0 : mD} {Q : mQ mD} {t : Int → Int} {n r : Int}
/-- a byte as the Desk sees it -/
def byd (t : Int → Int) (n k : Int) : Int := if byt t n k < 0 then byt t n k + 256 else byt t n k
theorem D_byteAt {k : Int} (hT : DT t n r m) (hk : 0 ≤ k) (hQ : Q (rI (byd t n k)) m) : RD d 190 (0, [some (mR r), some (mI k)], [], m) Q := by
  obtain ⟨h1, h2, h3, h4, h5⟩ := hT
  unfold byd byt at hQ
  by_cases hc : k < n
  · rw [if_pos hc] at hQ
    have hb := h4 k hk hc
    rw [← zand_byte hb.2, ← hb.1] at hQ
    refine RDr [] [] 40 ?_
    repeat' first | (refine ⟨fun _ => ?_, fun _ => ?_⟩ <;> try omega) | (refine ⟨by first | omega | rfl | assumption | (simp only [dst_1, dst_2, up3_ap, upd1_ap, Nat.reduceEqDiff, ↓reduceIte, eq_self] at * <;> omega) | fail, ?_⟩) | (exact hQ) | (simp only [dst_1, dst_2, up3_ap, upd1_ap, Nat.reduceEqDiff, ↓reduceIte, eq_self] at *) | omega | fail
  · rw [if_neg hc] at hQ
    have hQ : Q (rI 0) m := hQ
    refine RDr [] [] 40 ?_
    repeat' first | (refine ⟨fun _ => ?_, fun _ => ?_⟩ <;> try omega) | (refine ⟨by first | omega | rfl | assumption | (simp only [dst_1, dst_2, up3_ap, upd1_ap, Nat.reduceEqDiff, ↓reduceIte, eq_self] at * <;> omega) | fail, ?_⟩) | (exact hQ) | (simp only [dst_1, dst_2, up3_ap, upd1_ap, Nat.reduceEqDiff, ↓reduceIte, eq_self] at *) | omega | fail
theorem DT.by {k : Int} (hT : DT t n r m) (hk : 0 ≤ k) : -128 ≤ byt t n k ∧ byt t n k ≤ 127 := by
  unfold byt
  by_cases h : k < n
  · rw [if_pos h]; exact (hT.2.2.2.1 k hk h).2
  · rw [if_neg h]; omega
theorem byd_s {k : Int} (hb : -128 ≤ byt t n k) : (97 ≤ byd t n k ∧ byd t n k ≤ 122) ↔ sml t n k = true := by
  unfold byd sml
  rw [decide_eq_true_iff]
  split <;> omega
theorem byd_d {k : Int} (hb : -128 ≤ byt t n k) : (48 ≤ byd t n k ∧ byd t n k ≤ 57) ↔ dgt t n k = true := by
  unfold byd dgt
  rw [decide_eq_true_iff]
  split <;> omega
/-- letters -/
theorem D_cutW {q k : Int} (hT : DT t n r m) (hq : 0 ≤ q ∧ q < n) (hs : sml t n q = true) (h2 : m.1 402 r 0 = q) (h7 : m.1 407 r 0 = 1) (h8 : m.1 408 r 0 = 0) (hk : 0 ≤ k ∧ q + k ≤ n) (h3 : m.1 403 r 0 = k) (he : past (sml t n) n (q + k) = tke t n q)
    (hQ : ∀ m', RC r m m' → DK t n q r m' → Q rV m') : RD (d + 1) 189 (120, [some (mR r)], [], m) Q := by
  have fin : ∀ m', RC r m m' → m'.1 403 r 0 = tke t n q - q → m'.1 402 r 0 = q → m'.1 407 r 0 = 1 → m'.1 408 r 0 = 0 → Q rV m' := by
    intro m' hc e3 e2 e7 e8
    have s3 : srt t n q = 3 := by
      unfold srt
      rw [if_neg (by have := (sml_lt hs).1; omega), if_pos hs]
    refine hQ m' hc ⟨e2, e3, fun hd => ?_, by rw [if_pos hs]; exact e7, by rw [if_neg (by omega)]; exact e8⟩
    have a := of_decide_eq_true hs
    have b := of_decide_eq_true hd
    omega
  have key : ∀ k, 0 ≤ k → k ≤ n - q → ∀ m', RC r m m' → m'.1 403 r 0 = k → m'.1 402 r 0 = q → m'.1 407 r 0 = 1 → m'.1 408 r 0 = 0 → past (sml t n) n (q + k) = tke t n q → RD (d + 1) 189 (120, [some (mR r)], [], m') Q := by
    refine up_ind ?_ ?_
    · intro m' hc e3 e2 e7 e8 ep
      have hT' := hT.c hc
      have kr := hT'.1
      rw [show q + (n - q) = n by omega, past_n] at ep
      have fin := fin m' hc (by omega) e2 e7 e8
      have hb : ¬ (97 ≤ byd t n (m'.1 402 r 0 + m'.1 403 r 0) ∧ byd t n (m'.1 402 r 0 + m'.1 403 r 0) ≤ 122) := fun h => by
        have := (sml_lt ((byd_s (hT.by (by omega)).1).mp h)).1
        omega
      have := hT.2.2.2.2
      refine RDr [] [1890120] 60 ?_
      repeat' first | (refine hub_i (by dsimp only [kdD]; omega) (D_byteAt hT' (by omega) ?_)) | (refine D_in (fun _ _ => ?_) (fun _ => ?_)) | (refine ⟨fun _ => ?_, fun _ => ?_⟩ <;> try omega) | (refine ⟨by first | omega | rfl | assumption | (simp only [dst_1, dst_2, up3_ap, upd1_ap, Nat.reduceEqDiff, ↓reduceIte, eq_self] at * <;> omega) | fail, ?_⟩) | (exact fin) | (simp only [dst_1, dst_2, up3_ap, upd1_ap, Nat.reduceEqDiff, ↓reduceIte, eq_self] at *) | omega | fail
    · intro k k0 k1 ih m' hc e3 e2 e7 e8 ep
      have hT' := hT.c hc
      have kr := hT'.1
      have := hT.2.2.2.2
      rw [past_s _ (by omega)] at ep
      by_cases hs2 : sml t n (q + k) = true
      · rw [if_pos hs2, show q + k + 1 = q + (k + 1) by omega] at ep
        have hb := (byd_s (hT.by (by omega)).1).mpr hs2
        rw [← e2, ← e3] at hb
        have ih := ih (dst m' 403 r 0 (m'.1 403 r 0 + 1)) (hc.up (by decide)) (by rw [dsz_0]; omega) (by rw [ds_n (by decide)]; exact e2) (by rw [ds_n (by decide)]; exact e7) (by rw [ds_n (by decide)]; exact e8) ep
        clear fin hQ
        refine RDr [] [1890120] 60 ?_
        repeat' first | (refine hub_i (by dsimp only [kdD]; omega) (D_byteAt hT' (by omega) ?_)) | (refine D_in (fun _ _ => ?_) (fun _ => ?_)) | (refine ⟨fun _ => ?_, fun _ => ?_⟩ <;> try omega) | (refine ⟨by first | omega | rfl | assumption | (simp only [dst_1, dst_2, up3_ap, upd1_ap, Nat.reduceEqDiff, ↓reduceIte, eq_self] at * <;> omega) | fail, ?_⟩) | (exact ih) | (simp only [dst_1, dst_2, up3_ap, upd1_ap, Nat.reduceEqDiff, ↓reduceIte, eq_self] at *) | omega | fail
      · rw [if_neg hs2] at ep
        have hb : ¬ (97 ≤ byd t n (m'.1 402 r 0 + m'.1 403 r 0) ∧ byd t n (m'.1 402 r 0 + m'.1 403 r 0) ≤ 122) := fun h => by
          rw [e2, e3] at h
          exact hs2 ((byd_s (hT.by (by omega)).1).mp h)
        have fin := fin m' hc (by omega) e2 e7 e8
        clear ih hQ
        refine RDr [] [1890120] 60 ?_
        repeat' first | (refine hub_i (by dsimp only [kdD]; omega) (D_byteAt hT' (by omega) ?_)) | (refine D_in (fun _ _ => ?_) (fun _ => ?_)) | (refine ⟨fun _ => ?_, fun _ => ?_⟩ <;> try omega) | (refine ⟨by first | omega | rfl | assumption | (simp only [dst_1, dst_2, up3_ap, upd1_ap, Nat.reduceEqDiff, ↓reduceIte, eq_self] at * <;> omega) | fail, ?_⟩) | (exact fin) | (simp only [dst_1, dst_2, up3_ap, upd1_ap, Nat.reduceEqDiff, ↓reduceIte, eq_self] at *) | omega | fail
  exact key k hk.1 (by omega) m RC.rfl h3 h2 h7 h8 he
end
