/-! THE DESK READS: what is wanted, what is made -/
set_option maxHeartbeats 3200000
set_option maxRecDepth 100000
section
variable {d : Nat} {m m0 m1 : mD} {Q : mQ mD} {t : Int → Int} {n r L : Int} {nm : Nat} {q o ai : Int}
theorem E_cut (hS : DS t n nm q o ai r m) (hQ : ∀ m', RC r m m' → DS t n nm (nx t n q) o ai r m' → Q rV m') : RD (d + 2) 189 (0, [some (mR r)], [], m) Q := by
  have htk := tke_b (t := t) hS.2.2.2.1.2
  have hnx := nx_b (t := t) hS.2.2.2.1.2
  have e1 := hS.2.1.1
  have e2 := hS.2.1.2.1
  have hq := hS.2.2.2.1
  exact D_cut (p := tke t n q) hS.1 (by omega) (by omega) (fun m' hc hk => hQ m' hc (hS.c hc hk (by show 0 ≤ nx t n q ∧ nx t n q ≤ n; omega)))
theorem DW.x {k p w : Int} (h : DW k p m m1 w) : RX r L m m1 := ⟨by have := h.2.2.2.1; have := h.2.2.2.2.1; omega, h.2.2.2.2.2.2.1, fun g b hb => Or.inl (h.2.2.2.2.2.1 g b hb)⟩
theorem DW.wt {k p w B : Int} (h : DW k p m m1 w) (hx : RX r L m0 m) (hk : 1 ≤ k ∧ k ≤ 4) (hB : B + 12 ≤ m.2.2.2) : WT r L m0 k p B w m1 := ⟨hx.tr h.x, ⟨h.1, h.2.1, h.2.2.1, by have := h.2.2.2.1; have := hx.1; omega, by have := h.2.2.2.2.1; omega⟩, hk, by have := h.2.2.2.2.2.2.2; omega⟩
theorem E_takes {a : Int} {w : List Int} (hw : lit a = w) (hS : DS t n nm q o ai r m) (hl : (100 ≤ a ∧ a < 159) ∧ ∀ i : Nat, i < w.length → 0 ≤ w.getD i 0 ∧ w.getD i 0 ≤ 127) (hb : 12 ≤ m.2.2.2) (h1 : isWb t n q w = true → ∀ m', RC r m m' → DS t n nm (nx t n q) o ai r m' → Q rV m') (h0 : isWb t n q w = false → ∀ x m', DW 1 q m m' x → Q (Sum.inr x) m') : RD (d + 3) 195 (0, [some (mR r), some (mR a)], [], m) Q := by
  have kr := hS.1.1
  by_cases hc : isWb t n q w = true
  · refine RDr [] [] 40 ?_
    repeat' first | (refine hub_i (by dsimp only [kdD]; omega) (D_isC hw hS hl (fun e1 => ?_) (fun e1 => absurd hc (by rw [e1]; decide)))) | (refine hub_i (by dsimp only [kdD]; omega) (D_need hS hb (fun _ => ?_) (fun e => absurd e (by decide)))) | (refine hub_i (by dsimp only [kdD]; omega) (E_cut hS (fun m' c1 s1 => ?_))) | (refine ⟨fun _ => ?_, fun _ => ?_⟩ <;> try omega) | (refine ⟨by first | omega | rfl | assumption | (simp only [dst_1, dst_2, up3_ap, upd1_ap, Nat.reduceEqDiff, ↓reduceIte, eq_self] at * <;> omega) | fail, ?_⟩) | (exact h1 hc _ c1 s1) | (simp only [dst_1, dst_2, up3_ap, upd1_ap, Nat.reduceEqDiff, ↓reduceIte, eq_self] at *) | omega | fail
  · refine RDr [] [] 40 ?_
    repeat' first | (refine hub_i (by dsimp only [kdD]; omega) (D_isC hw hS hl (fun e1 => absurd e1 hc) (fun e1 => ?_))) | (refine hub_i (by dsimp only [kdD]; omega) (D_need hS hb (fun e => absurd rfl e) (fun _ m' x g1 => ?_))) | (refine ⟨fun _ => ?_, fun _ => ?_⟩ <;> try omega) | (refine ⟨by first | omega | rfl | assumption | (simp only [dst_1, dst_2, up3_ap, upd1_ap, Nat.reduceEqDiff, ↓reduceIte, eq_self] at * <;> omega) | fail, ?_⟩) | (exact h0 e1 _ _ g1) | (simp only [dst_1, dst_2, up3_ap, upd1_ap, Nat.reduceEqDiff, ↓reduceIte, eq_self] at *) | omega | fail
theorem E_num {lo hi : Int} {x3 : Option mV} (hS : DS t n nm q o ai r m) (hb : 12 ≤ m.2.2.2) (h2 : srt t n q = 2 → lo ≤ vlu t n q → vlu t n q ≤ hi → ∀ m', RC r m m' → DS t n nm (nx t n q) o ai r m' → Q (rI (vlu t n q)) m')
    (h1 : srt t n q = 2 → ¬ (lo ≤ vlu t n q ∧ vlu t n q ≤ hi) → ∀ x m', DW 2 q m m' x → Q (Sum.inr x) m') (h0 : srt t n q ≠ 2 → ∀ x m', DW 1 q m m' x → Q (Sum.inr x) m') : RD (d + 3) 205 (0, [some (mR r), some (mI lo), some (mI hi), x3], [], m) Q := by
  have kr := hS.1.1
  have k8 := hS.2.1.2.2.2.2
  by_cases hs : srt t n q = 2
  · rw [if_pos hs] at k8
    have hd : dgt t n q = true := by
      have hlt := srt2_lt (Or.inl hs)
      unfold srt at hs
      rw [if_neg (by omega)] at hs
      by_cases h : sml t n q = true
      · rw [if_pos h] at hs; omega
      · rw [if_neg h] at hs
        by_cases h : dgt t n q = true
        · exact h
        · rw [if_neg h] at hs; omega
    have k4 := hS.2.1.2.2.1 hd
    have h2 := h2 hs
    have h1 := h1 hs
    rw [← k4] at h1 h2
    refine RDr [] [] 60 ?_
    repeat' first | (refine hub_i (by dsimp only [kdD]; omega) (D_need hS hb (fun _ => ?_) (fun e => absurd e (by omega)))) | (refine hub_i (by dsimp only [kdD]; omega) (D_need (k := 2) hS hb (fun _ => ?_) (fun _ m' x g1 => ?_))) | (refine hub_i (by dsimp only [kdD]; omega) (E_cut hS (fun m' c1 s1 => ?_))) | (refine D_in (fun _ _ => ?_) (fun _ => ?_)) | (refine ⟨fun _ => ?_, fun _ => ?_⟩ <;> try omega) | (refine ⟨by first | omega | rfl | assumption | (simp only [dst_1, dst_2, up3_ap, upd1_ap, Nat.reduceEqDiff, ↓reduceIte, eq_self] at * <;> omega) | fail, ?_⟩) | (exact h2 (by omega) (by omega) _ c1 s1) | (exact h1 (by omega) _ _ g1) | (simp only [dst_1, dst_2, up3_ap, upd1_ap, Nat.reduceEqDiff, ↓reduceIte, eq_self] at *) | omega | fail
  · rw [if_neg hs] at k8
    have h0 := h0 hs
    refine RDr [] [] 60 ?_
    repeat' first | (refine hub_i (by dsimp only [kdD]; omega) (D_need hS hb (fun e => absurd k8 e) (fun _ m' x g1 => ?_))) | (refine ⟨fun _ => ?_, fun _ => ?_⟩ <;> try omega) | (refine ⟨by first | omega | rfl | assumption | (simp only [dst_1, dst_2, up3_ap, upd1_ap, Nat.reduceEqDiff, ↓reduceIte, eq_self] at * <;> omega) | fail, ?_⟩) | (exact h0 _ _ g1) | (simp only [dst_1, dst_2, up3_ap, upd1_ap, Nat.reduceEqDiff, ↓reduceIte, eq_self] at *) | omega | fail
theorem E_open (hS : DS t n nm q o ai r m) (hb : 12 ≤ m.2.2.2) (h1 : o < 4 → ∀ m', RX r 0 m m' → m'.2 = m.2 → DS t n nm (nx t n q) (o + 1) ai r m' → Q rV m') (h0 : 4 ≤ o → ∀ x m', DW 4 q m m' x → Q (Sum.inr x) m') : RD (d + 3) 199 (0, [some (mR r)], [], m) Q := by
  have kr := hS.1.1
  have k5 := hS.2.2.1.1
  have hr := hS.2.2.2.2.2
  have ho := hS.2.2.2.2.1
  by_cases hc : o < 4
  · have rx : RX r 0 m (dst m 405 r 0 (m.1 405 r 0 + 1)) := ⟨Int.le_refl _, fun _ _ => rfl, fun g b _ => by
      by_cases e : b = r
      · by_cases e2 : g = 405
        · exact Or.inr (Or.inl ⟨e, by rw [e2]; rfl⟩)
        · rw [ds_n e2]; exact Or.inl rfl
      · rw [ds_o e]; exact Or.inl rfl⟩
    have hS2 : DS t n nm q (o + 1) ai r (dst m 405 r 0 (m.1 405 r 0 + 1)) := hS.x rx (by omega) ⟨by rw [ds_n (by decide)], by rw [ds_n (by decide)], by rw [ds_n (by decide)], by rw [dsz_0, k5], by rw [ds_n (by decide)], by rw [ds_n (by decide)]⟩ (by omega)
    have nxt : RD (d + 3) 199 (28, [some (mR r)], [], dst m 405 r 0 (m.1 405 r 0 + 1)) Q := by
      have kr2 := hS2.1.1
      have e0 : (dst m 405 r 0 (m.1 405 r 0 + 1)).2 = m.2 := rfl
      generalize dst m 405 r 0 (m.1 405 r 0 + 1) = m2 at rx hS2 kr2 e0
      have e2 : ∀ m', RC r m2 m' → DS t n nm (nx t n q) (o + 1) ai r m' → Q rV m' := fun m' hc2 s1 => h1 hc _ (rx.tr hc2.x) (by rw [hc2.1]; exact e0) s1
      refine RDr [] [] 20 ?_
      repeat' first | (refine hub_i (by dsimp only [kdD]; omega) (E_cut hS2 (fun m' c1 s1 => ?_))) | (refine ⟨fun _ => ?_, fun _ => ?_⟩ <;> try omega) | (refine ⟨by first | omega | rfl | assumption | (simp only [dst_1, dst_2, up3_ap, upd1_ap, Nat.reduceEqDiff, ↓reduceIte, eq_self] at * <;> omega) | fail, ?_⟩) | (exact e2 _ c1 s1) | (simp only [dst_1, dst_2, up3_ap, upd1_ap, Nat.reduceEqDiff, ↓reduceIte, eq_self] at *) | omega | fail
    refine RDr [] [1990028] 60 ?_
    repeat' first | (refine hub_i (by dsimp only [kdD]; omega) (D_need hS hb (fun _ => ?_) (fun e => absurd e (by decide)))) | (refine ⟨fun _ => ?_, fun _ => ?_⟩ <;> try omega) | (refine ⟨by first | omega | rfl | assumption | (simp only [dst_1, dst_2, up3_ap, upd1_ap, Nat.reduceEqDiff, ↓reduceIte, eq_self] at * <;> omega) | fail, ?_⟩) | (exact nxt) | (simp only [dst_1, dst_2, up3_ap, upd1_ap, Nat.reduceEqDiff, ↓reduceIte, eq_self] at *) | omega | fail
  · refine RDr [] [] 60 ?_
    repeat' first | (refine hub_i (by dsimp only [kdD]; omega) (D_need hS hb (fun e => absurd rfl e) (fun _ m' x g1 => ?_))) | (refine ⟨fun _ => ?_, fun _ => ?_⟩ <;> try omega) | (refine ⟨by first | omega | rfl | assumption | (simp only [dst_1, dst_2, up3_ap, upd1_ap, Nat.reduceEqDiff, ↓reduceIte, eq_self] at * <;> omega) | fail, ?_⟩) | (exact h0 (by omega) _ _ g1) | (simp only [dst_1, dst_2, up3_ap, upd1_ap, Nat.reduceEqDiff, ↓reduceIte, eq_self] at *) | omega | fail
theorem E_close {a : Int} {w : List Int} (hw : lit a = w) (hS : DS t n nm q (o + 1) ai r m) (ho : 0 ≤ o) (hl : (100 ≤ a ∧ a < 159) ∧ ∀ i : Nat, i < w.length → 0 ≤ w.getD i 0 ∧ w.getD i 0 ≤ 127) (hb : 12 ≤ m.2.2.2) (h1 : isWb t n q w = true → ∀ m', RX r 0 m m' → m'.2 = m.2 → DS t n nm (nx t n q) o ai r m' → Q rV m') (h0 : isWb t n q w = false → ∀ x m', DW 1 q m m' x → Q (Sum.inr x) m') : RD (d + 4) 200 (0, [some (mR r), some (mR a)], [], m) Q := by
  have kr := hS.1.1
  have ho4 := hS.2.2.2.2.1
  have nxt : isWb t n q w = true → ∀ m', RC r m m' → DS t n nm (nx t n q) (o + 1) ai r m' → RD (d + 4) 200 (5, [some (mR r), some (mR a)], [], m') Q := by
    intro e1 m' c1 s1
    have kr2 := s1.1.1
    have k5 := s1.2.2.1.1
    have hr := s1.2.2.2.2.2
    have rx : RX r 0 m' (dst m' 405 r 0 (m'.1 405 r 0 - 1)) := ⟨Int.le_refl _, fun _ _ => rfl, fun g b _ => by
      by_cases e : b = r
      · by_cases e2 : g = 405
        · exact Or.inr (Or.inl ⟨e, by rw [e2]; rfl⟩)
        · rw [ds_n e2]; exact Or.inl rfl
      · rw [ds_o e]; exact Or.inl rfl⟩
    have fin := h1 e1 (dst m' 405 r 0 (m'.1 405 r 0 - 1)) ((RC.x c1).tr rx) c1.1 (s1.x rx (by omega) ⟨by rw [ds_n (by decide)], by rw [ds_n (by decide)], by rw [ds_n (by decide)], by rw [dsz_0, k5]; omega, by rw [ds_n (by decide)], by rw [ds_n (by decide)]⟩ (by omega))
    refine RDr [] [] 20 ?_
    repeat' first | (refine ⟨fun _ => ?_, fun _ => ?_⟩ <;> try omega) | (refine ⟨by first | omega | rfl | assumption | (simp only [dst_1, dst_2, up3_ap, upd1_ap, Nat.reduceEqDiff, ↓reduceIte, eq_self] at * <;> omega) | fail, ?_⟩) | (exact fin) | (simp only [dst_1, dst_2, up3_ap, upd1_ap, Nat.reduceEqDiff, ↓reduceIte, eq_self] at *) | omega | fail
  refine RDr [] [2000005] 20 ?_
  repeat' first | (refine hub_i (by dsimp only [kdD]; omega) (E_takes hw hS hl hb (fun e1 m' c1 s1 => ?_) (fun e1 x m' g1 => ?_))) | (refine ⟨fun _ => ?_, fun _ => ?_⟩ <;> try omega) | (refine ⟨by first | omega | rfl | assumption | (simp only [dst_1, dst_2, up3_ap, upd1_ap, Nat.reduceEqDiff, ↓reduceIte, eq_self] at * <;> omega) | fail, ?_⟩) | (exact nxt e1 _ c1 s1) | (exact h0 e1 _ _ g1) | (simp only [dst_1, dst_2, up3_ap, upd1_ap, Nat.reduceEqDiff, ↓reduceIte, eq_self] at *) | omega | fail
theorem D_SumI {a : Int} (ha : m.2.1 a ≠ 0) (hQ : Q rV m) : RD d 276 (0, [some (mR a)], [], m) Q := by
  refine RDr [] [] 20 ?_
  repeat' first | (refine ⟨fun _ => ?_, fun _ => ?_⟩ <;> try omega) | (refine ⟨by first | omega | rfl | assumption | (simp only [dst_1, dst_2, up3_ap, upd1_ap, Nat.reduceEqDiff, ↓reduceIte, eq_self] at * <;> omega) | fail, ?_⟩) | (exact hQ) | (simp only [dst_1, dst_2, up3_ap, upd1_ap, Nat.reduceEqDiff, ↓reduceIte, eq_self] at *) | omega | fail
theorem D_CondI {a : Int} (ha : m.2.1 a ≠ 0) (hQ : Q rV m) : RD d 273 (0, [some (mR a)], [], m) Q := by
  refine RDr [] [] 20 ?_
  repeat' first | (refine ⟨fun _ => ?_, fun _ => ?_⟩ <;> try omega) | (refine ⟨by first | omega | rfl | assumption | (simp only [dst_1, dst_2, up3_ap, upd1_ap, Nat.reduceEqDiff, ↓reduceIte, eq_self] at * <;> omega) | fail, ?_⟩) | (exact hQ) | (simp only [dst_1, dst_2, up3_ap, upd1_ap, Nat.reduceEqDiff, ↓reduceIte, eq_self] at *) | omega | fail
theorem D_Plain {a v : Int} (ha : m.2.1 a = 8) (hQ : Q rV (dst m 800 a 0 v)) : RD (d + 1) 279 (0, [some (mR a), some (mJ v), none], [], m) Q := by
  refine RDr [] [] 20 ?_
  repeat' first | (refine hub_i (by dsimp only [kdD]; omega) (D_SumI (by omega) ?_)) | (refine ⟨fun _ => ?_, fun _ => ?_⟩ <;> try omega) | (refine ⟨by first | omega | rfl | assumption | (simp only [dst_1, dst_2, up3_ap, upd1_ap, Nat.reduceEqDiff, ↓reduceIte, eq_self] at * <;> omega) | fail, ?_⟩) | (exact hQ) | (simp only [dst_1, dst_2, up3_ap, upd1_ap, Nat.reduceEqDiff, ↓reduceIte, eq_self] at *) | omega | fail
theorem D_Fact {a v : Int} (ha : m.2.1 a = 9) (hQ : Q rV (dst m 900 a 0 v)) : RD (d + 1) 277 (0, [some (mR a), some (mI v)], [], m) Q := by
  refine RDr [] [] 20 ?_
  repeat' first | (refine hub_i (by dsimp only [kdD]; omega) (D_SumI (by omega) ?_)) | (refine ⟨fun _ => ?_, fun _ => ?_⟩ <;> try omega) | (refine ⟨by first | omega | rfl | assumption | (simp only [dst_1, dst_2, up3_ap, upd1_ap, Nat.reduceEqDiff, ↓reduceIte, eq_self] at * <;> omega) | fail, ?_⟩) | (exact hQ) | (simp only [dst_1, dst_2, up3_ap, upd1_ap, Nat.reduceEqDiff, ↓reduceIte, eq_self] at *) | omega | fail
theorem D_Worked {a s x y : Int} (ha : m.2.1 a = 10) (hs : 0 ≤ s ∧ s ≤ 65535) (hQ : Q rV (dst (dst (dst m 1000 a 0 s) 1001 a 0 x) 1002 a 0 y)) : RD (d + 1) 281 (0, [some (mR a), some (mI s), some (mR x), some (mR y)], [], m) Q := by
  refine RDr [] [] 30 ?_
  repeat' first | (refine hub_i (by dsimp only [kdD]; omega) (D_SumI (by omega) ?_)) | (refine ⟨fun _ => ?_, fun _ => ?_⟩ <;> try omega) | (refine ⟨by first | omega | rfl | assumption | (simp only [dst_1, dst_2, up3_ap, upd1_ap, Nat.reduceEqDiff, ↓reduceIte, eq_self] at * <;> omega) | fail, ?_⟩) | (exact hQ) | (simp only [dst_1, dst_2, up3_ap, upd1_ap, Nat.reduceEqDiff, ↓reduceIte, eq_self] at *) | omega | fail
theorem D_Compared {a s x y : Int} (ha : m.2.1 a = 11) (hs : 0 ≤ s ∧ s ≤ 65535) (hQ : Q rV (dst (dst (dst m 1100 a 0 s) 1101 a 0 x) 1102 a 0 y)) : RD (d + 1) 283 (0, [some (mR a), some (mI s), some (mR x), some (mR y)], [], m) Q := by
  refine RDr [] [] 30 ?_
  repeat' first | (refine hub_i (by dsimp only [kdD]; omega) (D_CondI (by omega) ?_)) | (refine ⟨fun _ => ?_, fun _ => ?_⟩ <;> try omega) | (refine ⟨by first | omega | rfl | assumption | (simp only [dst_1, dst_2, up3_ap, upd1_ap, Nat.reduceEqDiff, ↓reduceIte, eq_self] at * <;> omega) | fail, ?_⟩) | (exact hQ) | (simp only [dst_1, dst_2, up3_ap, upd1_ap, Nat.reduceEqDiff, ↓reduceIte, eq_self] at *) | omega | fail
theorem D_Not {a x : Int} (ha : m.2.1 a = 13) (hQ : Q rV (dst m 1300 a 0 x)) : RD (d + 1) 287 (0, [some (mR a), some (mR x)], [], m) Q := by
  refine RDr [] [] 30 ?_
  repeat' first | (refine hub_i (by dsimp only [kdD]; omega) (D_CondI (by omega) ?_)) | (refine ⟨fun _ => ?_, fun _ => ?_⟩ <;> try omega) | (refine ⟨by first | omega | rfl | assumption | (simp only [dst_1, dst_2, up3_ap, upd1_ap, Nat.reduceEqDiff, ↓reduceIte, eq_self] at * <;> omega) | fail, ?_⟩) | (exact hQ) | (simp only [dst_1, dst_2, up3_ap, upd1_ap, Nat.reduceEqDiff, ↓reduceIte, eq_self] at *) | omega | fail
/-- a new list of conditions at a -/
def smeN (a b l : Int) (m m' : mD) : Prop := m.2.2.1 ≤ l ∧ m'.2.2.1 = l + 1 ∧ m'.2.1 l = 11201 ∧ (∀ x, x < m.2.2.1 → m'.2.1 x = m.2.1 x) ∧ m'.1 21201 l 0 = 0 ∧ m'.1 1201 a 0 = l ∧ m'.1 1200 a 0 = b ∧ m'.2.2.2 = m.2.2.2 - 13 ∧ ∀ g x, x < m.2.2.1 → x ≠ a → m'.1 g x = m.1 g x
theorem D_Some {a b : Int} (ha : m.2.1 a = 12) (hab : a < m.2.2.1) (hb : 0 ≤ b ∧ b ≤ 1) (hB : 13 ≤ m.2.2.2) (hQ : ∀ l m', smeN a b l m m' → Q rV m') : RD (d + 1) 274 (0, [some (mR a), some (mI b)], [], m) Q := by
  have fin : ∀ l, m.2.2.1 ≤ l → Q rV (dst (dst (dst (dkd (dal m l 99 7) l 11201 (2 + 4)) 21201 l 0 0) 1201 a 0 l) 1200 a 0 b) := by
    intro l hl
    refine hQ l _ ⟨hl, rfl, ?_, fun x hx => ?_, ?_, ?_, dsz_0, ?_, fun g x hx hxa => ?_⟩
    · show (if l = l then 11201 else _) = _
      rw [if_pos rfl]
    · show (if x = l then 11201 else (if x = l then 99 else m.2.1 x)) = _
      rw [if_neg (by omega), if_neg (by omega)]
    · rw [ds_n (by decide), ds_n (by decide), dsz_0]
    · rw [ds_n (by decide), dsz_0]
    · show m.2.2.2 - 7 - (2 + 4) = _
      omega
    · rw [ds_o hxa, ds_o hxa, ds_o (by omega)]
      show (if x = l then (fun _ => 0) else m.1 g x) = _
      rw [if_neg (by omega)]
  have kk : ∀ l, m.2.2.1 ≤ l → (dal m l 99 7).2.1 l = 99 ∧ (dal m l 99 7).2.2.2 = m.2.2.2 - 7 := by
    intro l hl
    refine ⟨?_, rfl⟩
    show (if l = l then 99 else _) = _
    rw [if_pos rfl]
  have ka : ∀ l, m.2.2.1 ≤ l → (dst (dkd (dal m l 99 7) l 11201 (2 + 4)) 21201 l 0 0).2.1 a = 12 := by
    intro l hl
    show (if a = l then 11201 else (if a = l then 99 else m.2.1 a)) = 12
    rw [if_neg (by omega), if_neg (by omega)]; exact ha
  have ka2 : ∀ l, m.2.2.1 ≤ l → (dst (dst (dkd (dal m l 99 7) l 11201 (2 + 4)) 21201 l 0 0) 1201 a 0 l).2.1 a = 12 := ka
  clear hQ
  refine RDr [] [] 40 ?_
  repeat' first | (refine hub_i (by dsimp only [kdD]; omega) (D_CondI (by omega) ?_)) | ((refine ⟨by omega, fun l hl => ?_⟩; have k1 := kk l hl; have k2 := ka l hl; have k3 := ka2 l hl)) | (refine ⟨fun _ => ?_, fun _ => ?_⟩ <;> try omega) | (refine ⟨by first | omega | rfl | assumption | (simp only [dst_1, dst_2, up3_ap, upd1_ap, Nat.reduceEqDiff, ↓reduceIte, eq_self] at * <;> omega) | fail, ?_⟩) | (exact fin l hl) | (simp only [dst_1, dst_2, up3_ap, upd1_ap, Nat.reduceEqDiff, ↓reduceIte, eq_self] at *) | omega | fail
end
