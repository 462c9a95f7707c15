/-! THE DESK READS: small methods -/
set_option maxHeartbeats 3200000
set_option maxRecDepth 100000
/-- a reader at a token: o brackets, nm names, the aim ai -/
def DS (t : Int → Int) (n : Int) (nm : Nat) (q o ai r : Int) (m : mD) : Prop := DT t n r m ∧ DK t n q r m ∧ (m.1 405 r 0 = o ∧ m.1 406 r 0 = nm ∧ m.1 409 r 0 = ai) ∧ (0 ≤ q ∧ q ≤ n) ∧ (0 ≤ o ∧ o ≤ 4) ∧ (1075 < r ∧ r < m.2.2.1)
/-- a text's signs -/
def txL (m : mD) (a : Int) (w : List Int) : Prop := isTx m a ∧ sLen m a = (w.length : Int) ∧ ∀ i : Nat, i < w.length → sCh m a i = w.getD i 0
theorem txC {m : mD} {a : Int} (ha : 100 ≤ a ∧ a < 159) : txL m a (lit a) := by
  refine ⟨Or.inl ha, ?_, fun i hi => ?_⟩
  · unfold sLen; rw [if_pos (by omega)]
  · unfold sCh; rw [if_pos (by omega), Int.toNat_natCast]
section
variable {d : Nat} {m m0 : mD} {Q : mQ mD} {t : Int → Int} {n r : Int} {nm : Nat} {q o ai : Int}
theorem D_is {a : Int} {w : List Int} {x2 : Option mV} (hS : DS t n nm q o ai r m) (hw : txL m a w) (hl : ∀ i : Nat, i < w.length → 0 ≤ w.getD i 0 ∧ w.getD i 0 ≤ 127) (h1 : isWb t n q w = true → Q (rI 1) m) (h0 : isWb t n q w = false → Q (rI 0) m) : RD (d + 1) 193 (0, [some (mR r), some (mR a), x2], [], m) Q := by
  obtain ⟨hT, ⟨k2, k3, -⟩, -, hq, -⟩ := hS
  obtain ⟨tx, t1, t2⟩ := hw
  have kr := hT.1
  have h400 := hT.2.2.2.2
  have hi := isWb_iff (t := t) (n := n) (q := q) (w := w)
  have hF : ¬ isWb t n q w = true → Q (rI 0) m := fun h => h0 (by simpa using h)
  have htk := tke_b (t := t) hq.2
  by_cases hln : tke t n q - q = (w.length : Int)
  · have key : ∀ k : Int, 0 ≤ k → k ≤ (w.length : Int) → (∀ i : Nat, (i : Int) < k → byt t n (q + i) = w.getD i 0) → RD (d + 1) 193 (15, [some (mR r), some (mR a), some (mI k)], [], m) Q := by
      refine up_ind ?_ ?_
      · intro hk
        have h1 := h1 (hi.mpr ⟨hln, fun i hi => hk i (by omega)⟩)
        refine RDr [] [1930015] 40 ?_
        repeat' first | (refine ⟨fun _ => ?_, fun _ => ?_⟩ <;> try omega) | (refine ⟨by first | omega | rfl | assumption | (simp only [dst_1, dst_2, up3_ap, upd1_ap, Nat.reduceEqDiff, ↓reduceIte, eq_self] at * <;> omega) | fail, ?_⟩) | (exact h1) | (simp only [dst_1, dst_2, up3_ap, upd1_ap, Nat.reduceEqDiff, ↓reduceIte, eq_self] at *) | omega | fail
      · intro k k0 k1 ih hk
        have hc2 := t2 k.toNat (by omega)
        have hl2 := hl k.toNat (by omega)
        rw [show ((k.toNat : Nat) : Int) = k by omega] at hc2
        have hb := hT.by (k := q + k) (by omega)
        have hbd : byd t n (m.1 402 r 0 + k) = sCh m a k ↔ byt t n (q + k) = w.getD k.toNat 0 := by
          rw [k2, hc2]
          unfold byd
          split <;> omega
        by_cases hc : byt t n (q + k) = w.getD k.toNat 0
        · have ih := ih (fun i hi => by
            by_cases hik : (i : Int) = k
            · rw [hik, hc, show k.toNat = i by omega]
            · exact hk i (by omega))
          have hc := hbd.mpr hc
          clear hbd
          refine RDr [] [1930015] 40 ?_
          repeat' first | (refine hub_i (by dsimp only [kdD]; omega) (D_byteAt hT (by omega) ?_)) | (refine ⟨tx, ?_⟩) | (refine ⟨fun _ => ?_, fun _ => ?_⟩ <;> try omega) | (refine ⟨by first | omega | rfl | assumption | (simp only [dst_1, dst_2, up3_ap, upd1_ap, Nat.reduceEqDiff, ↓reduceIte, eq_self] at * <;> omega) | fail, ?_⟩) | (exact ih) | (simp only [dst_1, dst_2, up3_ap, upd1_ap, Nat.reduceEqDiff, ↓reduceIte, eq_self] at *) | omega | fail
        · have h0 := hF (fun h => hc (by
            have := (hi.mp h).2 k.toNat (by omega)
            rw [show ((k.toNat : Nat) : Int) = k by omega] at this
            exact this))
          have hc : ¬ byd t n (m.1 402 r 0 + k) = sCh m a k := fun h => hc (hbd.mp h)
          clear hbd
          refine RDr [] [1930015] 40 ?_
          repeat' first | (refine hub_i (by dsimp only [kdD]; omega) (D_byteAt hT (by omega) ?_)) | (refine ⟨tx, ?_⟩) | (refine ⟨fun _ => ?_, fun _ => ?_⟩ <;> try omega) | (refine ⟨by first | omega | rfl | assumption | (simp only [dst_1, dst_2, up3_ap, upd1_ap, Nat.reduceEqDiff, ↓reduceIte, eq_self] at * <;> omega) | fail, ?_⟩) | (exact h0) | (simp only [dst_1, dst_2, up3_ap, upd1_ap, Nat.reduceEqDiff, ↓reduceIte, eq_self] at *) | omega | fail
    have go := key 0 (Int.le_refl _) (by omega) (fun i hi => by omega)
    refine RDr [] [1930015] 40 ?_
    repeat' first | (refine ⟨tx, ?_⟩) | (refine ⟨fun _ => ?_, fun _ => ?_⟩ <;> try omega) | (refine ⟨by first | omega | rfl | assumption | (simp only [dst_1, dst_2, up3_ap, upd1_ap, Nat.reduceEqDiff, ↓reduceIte, eq_self] at * <;> omega) | fail, ?_⟩) | (exact go) | (simp only [dst_1, dst_2, up3_ap, upd1_ap, Nat.reduceEqDiff, ↓reduceIte, eq_self] at *) | omega | fail
  · have h0 := hF (fun h => hln (hi.mp h).1)
    refine RDr [] [] 40 ?_
    repeat' first | (refine ⟨tx, ?_⟩) | (refine ⟨fun _ => ?_, fun _ => ?_⟩ <;> try omega) | (refine ⟨by first | omega | rfl | assumption | (simp only [dst_1, dst_2, up3_ap, upd1_ap, Nat.reduceEqDiff, ↓reduceIte, eq_self] at * <;> omega) | fail, ?_⟩) | (exact h0) | (simp only [dst_1, dst_2, up3_ap, upd1_ap, Nat.reduceEqDiff, ↓reduceIte, eq_self] at *) | omega | fail
theorem D_isC {a : Int} {w : List Int} {x2 : Option mV} (hw : lit a = w) (hS : DS t n nm q o ai r m) (hl : (100 ≤ a ∧ a < 159) ∧ ∀ i : Nat, i < w.length → 0 ≤ w.getD i 0 ∧ w.getD i 0 ≤ 127) (h1 : isWb t n q w = true → Q (rI 1) m) (h0 : isWb t n q w = false → Q (rI 0) m) : RD (d + 1) 193 (0, [some (mR r), some (mR a), x2], [], m) Q := D_is hS (by rw [← hw]; exact txC hl.1) hl.2 h1 h0
/-- a fault thrown: the Wrong w -/
def DW (k p : Int) (m m' : mD) (w : Int) : Prop := m'.2.1 w = 5 ∧ m'.1 506 w 0 = k ∧ m'.1 507 w 0 = p ∧ m.2.2.1 ≤ w ∧ m'.2.2.1 = w + 1 ∧ (∀ g b, b < m.2.2.1 → m'.1 g b = m.1 g b) ∧ (∀ b, b < m.2.2.1 → m'.2.1 b = m.2.1 b) ∧ m'.2.2.2 = m.2.2.2 - 12
theorem D_Wrong {w k p : Int} (hw : m.2.1 w = 5) (hQ : Q rV (dst (dst m 506 w 0 k) 507 w 0 p)) : RD (d + 1) 271 (0, [some (mR w), some (mI k), some (mI p)], [], m) Q := by
  refine RDr [] [] 40 ?_
  repeat' first | (refine ⟨fun _ => ?_, fun _ => ?_⟩ <;> try omega) | (refine ⟨by first | omega | rfl | assumption | (simp only [dst_1, dst_2, up3_ap, upd1_ap, Nat.reduceEqDiff, ↓reduceIte, eq_self] at * <;> omega) | fail, ?_⟩) | (exact hQ) | (simp only [dst_1, dst_2, up3_ap, upd1_ap, Nat.reduceEqDiff, ↓reduceIte, eq_self] at *) | omega | fail
theorem D_need {g k : Int} (hS : DS t n nm q o ai r m) (hb : 12 ≤ m.2.2.2) (h1 : g ≠ 0 → Q rV m) (h0 : g = 0 → ∀ m' w, DW k q m m' w → Q (Sum.inr w) m') : RD (d + 2) 194 (0, [some (mR r), some (mI g), some (mI k)], [], m) Q := by
  have kr := hS.1.1
  have k2 := hS.2.1.1
  have hr := hS.2.2.2.2.2
  have fin : ∀ w, m.2.2.1 ≤ w → g = 0 → Q (Sum.inr w) (dst (dst (dal m w 5 (((8 : Nat) : Int) + 4)) 506 w 0 k) 507 w 0 (m.1 402 r 0)) := by
    intro w hw hg
    refine h0 hg _ w ⟨?_, ?_, ?_, hw, rfl, fun g' b hb => ?_, fun b hb => ?_, rfl⟩
    · show (if w = w then 5 else _) = 5
      rw [if_pos rfl]
    · rw [ds_n (by decide), dsz_0]
    · rw [dsz_0]; exact k2
    · rw [ds_o (by omega), ds_o (by omega)]
      show (if b = w then _ else m.1 g' b) = _
      rw [if_neg (by omega)]
    · show (if b = w then _ else m.2.1 b) = _
      rw [if_neg (by omega)]
  have e2 : ∀ w, m.2.2.1 ≤ w → (dal m w 5 (((8 : Nat) : Int) + 4)).1 402 r 0 = m.1 402 r 0 ∧ (dal m w 5 (((8 : Nat) : Int) + 4)).2.1 r = 4 ∧ (dal m w 5 (((8 : Nat) : Int) + 4)).2.1 w = 5 := by
    intro w hw
    refine ⟨?_, ?_, ?_⟩
    · show (if r = w then (fun _ => 0) else m.1 402 r) 0 = _
      rw [if_neg (by omega)]
    · show (if r = w then _ else m.2.1 r) = _
      rw [if_neg (by omega)]; exact kr
    · show (if w = w then 5 else _) = 5
      rw [if_pos rfl]
  by_cases hg : g = 0
  · refine RDr [] [] 40 ?_
    repeat' first | ((refine ⟨by show ((8 : Nat) : Int) + 4 ≤ _; omega, fun w hw => ?_⟩; have e2w := e2 w hw; have fw := fin w hw hg; rw [← e2w.1] at fw)) | (refine hub_i (by dsimp only [kdD]; omega) (D_Wrong e2w.2.2 ?_)) | (refine ⟨fun _ => ?_, fun _ => ?_⟩ <;> try omega) | (refine ⟨by first | omega | rfl | assumption | (simp only [dst_1, dst_2, up3_ap, upd1_ap, Nat.reduceEqDiff, ↓reduceIte, eq_self] at * <;> omega) | fail, ?_⟩) | (exact fw) | (simp only [dst_1, dst_2, up3_ap, upd1_ap, Nat.reduceEqDiff, ↓reduceIte, eq_self] at *) | omega | fail
  · have h1 := h1 hg
    refine RDr [] [] 40 ?_
    repeat' first | (refine ⟨fun _ => ?_, fun _ => ?_⟩ <;> try omega) | (refine ⟨by first | omega | rfl | assumption | (simp only [dst_1, dst_2, up3_ap, upd1_ap, Nat.reduceEqDiff, ↓reduceIte, eq_self] at * <;> omega) | fail, ?_⟩) | (exact h1) | (simp only [dst_1, dst_2, up3_ap, upd1_ap, Nat.reduceEqDiff, ↓reduceIte, eq_self] at *) | omega | fail
end
