/-! THE DESK: near -/
set_option maxHeartbeats 3200000
set_option maxRecDepth 100000
section
variable {t : Int → Int} {n : Int} {nm : Nat} {ai r L lo : Int} {d : Nat} {m m0 m1 : mD} {Q : mQ mD}
theorem ds_u {g : Nat} {a i v : Int} : (dst m g a i v).1 g a = upd1 (m.1 g a) i v := by rw [dst_1, up3_s]
theorem D_Near {v a k : Int} (hv : m.2.1 v = 18) (hQ : Q rV (dst (dst m 1800 v 0 a) 1801 v 0 k)) : RD d 317 (0, [some (mR v), some (mR a), some (mI k)], [], m) Q := by
  have kz : m.2.1 v ≠ 0 := by omega
  refine RDr [] [] 30 ?_
  repeat' first | (refine ⟨fun _ => ?_, fun _ => ?_⟩ <;> try omega) | (refine ⟨by first | omega | rfl | assumption | (simp only [dst_1, dst_2, up3_ap, upd1_ap, Nat.reduceEqDiff, ↓reduceIte, eq_self] at * <;> omega) | fail, ?_⟩) | (exact hQ) | (simp only [dst_1, dst_2, up3_ap, upd1_ap, Nat.reduceEqDiff, ↓reduceIte, eq_self] at *) | omega | fail
/-- a new cell before the reading -/
theorem Ex_dal {m2 : mD} {v c c' : Int} {k : Nat} (hv : m.2.2.1 ≤ v) (h : Ex (rdM (dal m v k c)) m2 c') : Ex (rdM m) m2 (c + c') ∧ v < m2.2.2.1 ∧ m2.2.1 v = k := by
  obtain ⟨h1, h2, h3, h4⟩ := h
  have h1 : v + 1 ≤ m2.2.2.1 := h1
  have h4 : m.2.2.2 - c - c' ≤ m2.2.2.2 := h4
  have dx := dal_x (m := m) (r := 0) (L := 0) (k := k) (c := c) hv
  refine ⟨⟨by show m.2.2.1 ≤ _; omega, fun g b hb => ?_, fun b hb => ?_, by show m.2.2.2 - (c + c') ≤ _; omega⟩, by omega, ?_⟩
  · have hb : b < m.2.2.1 := hb
    rw [h2 g b (by show b < v + 1; omega)]
    have e : ∀ g, (dal m v k c).1 g b = m.1 g b := fun g => by
      show (if b = v then (fun _ => 0) else m.1 g b) = _
      rw [if_neg (by omega)]
    by_cases hb0 : b = 1000
    · subst hb0
      have z1 : ∀ g, (dst (dst (dal m v k c) 107 1000 0 0) 108 1000 0 (-1)).1 g 1000 = (dst (dst m 107 1000 0 0) 108 1000 0 (-1)).1 g 1000 := fun g => by
        by_cases g1 : g = 108
        · subst g1
          rw [ds_u, ds_u, ds_n (by decide), ds_n (by decide), e]
        · rw [ds_n g1, ds_n g1]
          by_cases g2 : g = 107
          · subst g2
            rw [ds_u, ds_u, e]
          · rw [ds_n g2, ds_n g2, e]
      exact z1 g
    · show (dst (dst (dal m v k c) 107 1000 0 0) 108 1000 0 (-1)).1 g b = (dst (dst m 107 1000 0 0) 108 1000 0 (-1)).1 g b
      rw [ds_o hb0, ds_o hb0, ds_o hb0, ds_o hb0, e]
  · have hb : b < m.2.2.1 := hb
    rw [h3 b (by show b < v + 1; omega)]
    exact dx.1.2.1 b hb
  · rw [h3 v (by show v < v + 1; omega)]
    exact dx.2.2.1
abbrev neM (m m' : mD) (v a k : Int) : mD := dpy (dst (dst (dst (dst m' 1800 v 0 a) 1801 v 0 k) 10112 1014 (m.1 20112 1014 0) v) 20112 1014 0 (m.1 20112 1014 0 + 1)) (2 * m.1 20112 1014 0 + 20)
theorem DA_near {mk : Int} {x2 : Option mV} {f : Nat} {x : (Int × Int) ⊕ List Cl} (hT : tpe t n m) (h7 : m.1 107 1000 0 = n) (hl : m.2.1 1014 = 10112 ∧ 0 ≤ m.1 20112 1014 0 ∧ m.1 20112 1014 0 ≤ 12) (hnx : 1076 ≤ m.2.2.1) (hB : 2200 + 900 * n ≤ m.2.2.2) (hx : neaC t n f (sk t n 0) = some x) (h0 : ¬ (0 ≤ mk ∧ mk ≤ 255 ∧ m.1 20112 1014 0 ≠ 12) → Q (rI (-1)) m)
    (h1 : 0 ≤ mk → mk ≤ 255 → m.1 20112 1014 0 < 12 → aPost m (900 * n + 900) x (fun k p m' => Q (rI (-1 - k)) (dst m' 108 1000 0 p)) (fun cs m' => ∀ v a c, cs = [c] → (m.2.2.1 ≤ v ∧ v < m'.2.2.1 ∧ m'.2.1 v = 18) → AM (v + 1) m'.2.2.1 m' a c → Q (rI (m.1 20112 1014 0)) (neM m m' v a mk))) : RD (d + 70) 16 (0, [some (mR 1000), some (mI mk), x2], [], m) Q := by
  have hsk := sk_b (t := t) (n := n) (k := 0) hT.2.1
  have flt : ∀ k p, x = .inl (k, p) → 0 ≤ mk → mk ≤ 255 → m.1 20112 1014 0 < 12 → ∀ r m2 w m3, m.2.2.1 ≤ r → Ex (rdM m) m2 20 → WQ r m2 k p (m2.2.2.2 - 900 * n - 700) w m3 → kdD m3 w = 5 ∧ RD (d + 70) 16 (60, [some (mR 1000), some (mI mk), x2], [mR w], m3) Q := by
    intro k p hx' f0 f1 s1 r m2 w m3 hr e2 g1
    subst hx'
    obtain ⟨q1, ⟨q2, q3, q4, q5, q6⟩, q7, q8⟩ := g1
    have ex : Ex (rdM m) m3 (900 * n + 900) := e2.f hr q1 (by have := e2.2.2.2; omega)
    have fin := h1 f0 f1 s1 m3 ex q7.1 q7.2
    rw [← q3, ← q4] at fin
    rw [← q3] at q7
    have hw : w ≠ 1000 := by have : m.2.2.1 ≤ m2.2.2.1 := e2.1; omega
    refine ⟨q2, ?_⟩
    clear h1 h0
    refine RDr [] [] 20 ?_
    repeat' first | (refine D_wrong q2 q7 hw ?_) | (refine ⟨fun _ => ?_, fun _ => ?_⟩ <;> try omega) | (refine ⟨by first | omega | rfl | assumption | (simp only [dst_1, dst_2, up3_ap, upd1_ap, Nat.reduceEqDiff, ↓reduceIte, eq_self] at * <;> omega) | fail, ?_⟩) | (exact fin) | (simp only [dst_1, dst_2, up3_ap, upd1_ap, Nat.reduceEqDiff, ↓reduceIte, eq_self] at *) | omega | fail
  have got : ∀ cs, x = .inr cs → 0 ≤ mk → mk ≤ 255 → m.1 20112 1014 0 < 12 → ∀ r m2 a m3 v c, m.2.2.1 ≤ r → r ≠ v → Ex (rdM m) m2 20 → (m.2.2.1 ≤ v ∧ v < m2.2.2.1 ∧ m2.2.1 v = 18) → cs = [c] → RX r 0 m2 m3 → AM m2.2.2.1 m3.2.2.1 m3 a c → m2.2.2.2 - 900 * n - 100 ≤ m3.2.2.2 → RD (d + 70) 16 (42, [some (mR 1000), some (mI mk), x2], [mR a, mR v, mR v, mR 1014], m3) Q := by
    intro cs hx' f0 f1 s1 r m2 a m3 v c hr hrv e2 hv hcs x3 A3 b3
    subst hx'
    have ex : Ex (rdM m) m3 (900 * n + 900) := e2.f hr x3.f (by have := e2.2.2.2; omega)
    have e21 : m.2.2.1 ≤ m2.2.2.1 := e2.1
    have x31 := x3.1
    have kv : m3.2.1 v = 18 := by rw [x3.2.1 v hv.2.1]; exact hv.2.2
    have A4 : AM (v + 1) m3.2.2.1 m3 a c := A3.cg (by omega) (Int.le_refl _) (fun _ _ _ _ => rfl) (fun _ _ _ => rfl)
    have fin := h1 f0 f1 s1 m3 ex v a c hcs ⟨hv.1, by omega, kv⟩ A4
    have bud : m.2.2.2 - (900 * n + 900) ≤ m3.2.2.2 := ex.2.2.2
    have hl1 : m3.2.1 1014 = 10112 := by rw [ex.2.2.1 1014 (by show (1014 : Int) < m.2.2.1; omega)]; exact hl.1
    have hl2 : m3.1 20112 1014 0 = m.1 20112 1014 0 := by rw [ex.2.1 20112 1014 (by show (1014 : Int) < m.2.2.1; omega), ds_n (by decide), ds_n (by decide)]
    have e5 : (dst (dst m3 1800 v 0 a) 1801 v 0 mk).2 = m3.2 := rfl
    have e6 : (dst (dst m3 1800 v 0 a) 1801 v 0 mk).1 20112 1014 0 = m.1 20112 1014 0 := by rw [ds_n (by decide), ds_n (by decide)]; exact hl2
    have e7 : (neM m m3 v a mk).1 20112 1014 0 = m.1 20112 1014 0 + 1 := by
      show (dst (dst (dst (dst m3 1800 v 0 a) 1801 v 0 mk) 10112 1014 (m.1 20112 1014 0) v) 20112 1014 0 (m.1 20112 1014 0 + 1)).1 20112 1014 0 = _
      rw [dsz_0]
    have e8 : (neM m m3 v a mk).2.1 1014 = 10112 := hl1
    have add : RD (d + 70) 16 (46, [some (mR 1000), some (mI mk), x2], [mR v, mR 1014], dst (dst m3 1800 v 0 a) 1801 v 0 mk) Q := by
      have fin' : RD (d + 70) 16 (50, [some (mR 1000), some (mI mk), x2], [], neM m m3 v a mk) Q := by
        have fin2 : Q (rI ((neM m m3 v a mk).1 20112 1014 0 - 1)) (neM m m3 v a mk) := by rw [e7, show m.1 20112 1014 0 + 1 - 1 = m.1 20112 1014 0 by omega]; exact fin
        generalize neM m m3 v a mk = m5 at *
        clear h1 h0 flt
        refine RDr [] [] 15 ?_
        repeat' first | (refine ⟨fun _ => ?_, fun _ => ?_⟩ <;> try omega) | (refine ⟨by first | omega | rfl | assumption | (simp only [dst_1, dst_2, up3_ap, upd1_ap, Nat.reduceEqDiff, ↓reduceIte, eq_self] at * <;> omega) | fail, ?_⟩) | (exact fin2) | (simp only [dst_1, dst_2, up3_ap, upd1_ap, Nat.reduceEqDiff, ↓reduceIte, eq_self] at *) | omega | fail
      unfold neM at fin'
      rw [← e6] at fin' s1
      generalize dst (dst m3 1800 v 0 a) 1801 v 0 mk = m4 at *
      have kv4 : m4.2.1 v = 18 := by rw [e5]; exact kv
      have k4 : m4.2.1 1014 = 10112 := by rw [e5]; exact hl1
      clear h1 h0 flt fin e7 e8
      refine RDr [] [160050] 20 ?_
      repeat' first | ((refine ⟨k4, ⟨by omega, by rw [e5]; omega, Or.inr (by omega)⟩, ?_⟩)) | (refine ⟨fun _ => ?_, fun _ => ?_⟩ <;> try omega) | (refine ⟨by first | omega | rfl | assumption | (simp only [dst_1, dst_2, up3_ap, upd1_ap, Nat.reduceEqDiff, ↓reduceIte, eq_self] at * <;> omega) | fail, ?_⟩) | (exact fin') | (simp only [dst_1, dst_2, up3_ap, upd1_ap, Nat.reduceEqDiff, ↓reduceIte, eq_self] at *) | omega | fail
    clear h1 h0 flt fin e7 e8
    refine RDr [] [160046] 20 ?_
    repeat' first | (refine hub_i (by dsimp only [kdD]; omega) (D_Near kv ?_)) | (refine ⟨fun _ => ?_, fun _ => ?_⟩ <;> try omega) | (refine ⟨by first | omega | rfl | assumption | (simp only [dst_1, dst_2, up3_ap, upd1_ap, Nat.reduceEqDiff, ↓reduceIte, eq_self] at * <;> omega) | fail, ?_⟩) | (exact add) | (simp only [dst_1, dst_2, up3_ap, upd1_ap, Nat.reduceEqDiff, ↓reduceIte, eq_self] at *) | omega | fail
  have sub : ∀ v, m.2.2.1 ≤ v → 0 ≤ mk → mk ≤ 255 → m.1 20112 1014 0 < 12 → RD (d + 70) 16 (36, [some (mR 1000), some (mI mk), x2], [mI 10, mR 1000, mR v, mR v, mR 1014], dal m v 18 (((2 : Nat) : Int) + 4)) Q := by
    intro v hv f0 f1 s1
    have T1 : tpe t n (dal m v 18 (((2 : Nat) : Int) + 4)) := ⟨by
      show ∀ i, 0 ≤ i → i < n → (if (1005 : Int) = v then (fun _ => 0) else m.1 10106 1005) i = t i ∧ _
      rw [if_neg (by omega)]
      exact hT.1, hT.2⟩
    have h71 : (dal m v 18 (((2 : Nat) : Int) + 4)).1 107 1000 0 = n := by
      show (if (1000 : Int) = v then (fun _ => 0) else m.1 107 1000) 0 = n
      rw [if_neg (by omega)]
      exact h7
    have nx1 : (dal m v 18 (((2 : Nat) : Int) + 4)).2.2.1 = v + 1 := rfl
    have bd1 : (dal m v 18 (((2 : Nat) : Int) + 4)).2.2.2 = m.2.2.2 - 6 := rfl
    have aft : ∀ r m2, v + 1 ≤ r → Ex (rdM (dal m v 18 (((2 : Nat) : Int) + 4))) m2 14 → DS t n 10 (sk t n 0) 0 0 r m2 → m2.2.1 r = 4 ∧ RD (d + 70) 16 (39, [some (mR 1000), some (mI mk), x2], [mR r, mR v, mR v, mR 1014], m2) Q := by
      intro r m2 hr e2' S2
      obtain ⟨e2, v1, v2⟩ := Ex_dal hv e2'
      have e2 : Ex (rdM m) m2 20 := e2
      have kr := S2.1.1
      have bud : m.2.2.2 - 20 ≤ m2.2.2.2 := e2.2.2.2
      refine ⟨kr, ?_⟩
      rcases x with ⟨k, p⟩ | cs
      · clear got h1 h0
        refine RDr [] [160060] 10 ?_
        repeat' first | ((refine hub_i (by dsimp only [kdD]; omega) (D_alone (d := d + 5) (B := m2.2.2.2 - 900 * n) hx S2 (by omega) (by omega) (fun w m3 g1 => ?_)))) | (refine ⟨fun _ => ?_, fun _ => ?_⟩ <;> try omega) | (refine ⟨by first | omega | rfl | assumption | (simp only [dst_1, dst_2, up3_ap, upd1_ap, Nat.reduceEqDiff, ↓reduceIte, eq_self] at * <;> omega) | fail, ?_⟩) | (exact flt k p rfl f0 f1 s1 r m2 w m3 (by omega) e2 g1) | (simp only [dst_1, dst_2, up3_ap, upd1_ap, Nat.reduceEqDiff, ↓reduceIte, eq_self] at *) | omega | fail
      · clear flt h1 h0
        refine RDr [] [160042] 10 ?_
        repeat' first | ((refine hub_i (by dsimp only [kdD]; omega) (D_alone (d := d + 5) (B := m2.2.2.2 - 900 * n) hx S2 (by omega) (by omega) (fun a m3 c hcs x3 A3 b3 => ?_)))) | (refine ⟨fun _ => ?_, fun _ => ?_⟩ <;> try omega) | (refine ⟨by first | omega | rfl | assumption | (simp only [dst_1, dst_2, up3_ap, upd1_ap, Nat.reduceEqDiff, ↓reduceIte, eq_self] at * <;> omega) | fail, ?_⟩) | (exact got cs rfl f0 f1 s1 r m2 a m3 v c (by omega) (by omega) e2 ⟨hv, v1, v2⟩ hcs x3 A3 b3) | (simp only [dst_1, dst_2, up3_ap, upd1_ap, Nat.reduceEqDiff, ↓reduceIte, eq_self] at *) | omega | fail
    clear flt got h1 h0
    generalize dal m v 18 (((2 : Nat) : Int) + 4) = m9 at *
    refine RDr [] [160039] 10 ?_
    repeat' first | (refine D_reads (nm := 10) T1 h71 rfl (by omega) (by omega) (fun r m2 hr e2 S2 => ?_)) | (refine ⟨fun _ => ?_, fun _ => ?_⟩ <;> try omega) | (refine ⟨by first | omega | rfl | assumption | (simp only [dst_1, dst_2, up3_ap, upd1_ap, Nat.reduceEqDiff, ↓reduceIte, eq_self] at * <;> omega) | fail, ?_⟩) | (exact (aft r m2 (by omega) e2 S2).2) | (simp only [dst_1, dst_2, up3_ap, upd1_ap, Nat.reduceEqDiff, ↓reduceIte, eq_self] at *) | omega | fail
  have lk := hl.1
  clear flt got h1
  refine RDr [] [160036] 40 ?_
  repeat' first | (refine D_in (fun _ _ => ?_) (fun _ => ?_)) | ((refine ⟨by show ((2 : Nat) : Int) + 4 ≤ _; omega, fun v hv => ?_⟩)) | (refine ⟨fun _ => ?_, fun _ => ?_⟩ <;> try omega) | (refine ⟨by first | omega | rfl | assumption | (simp only [dst_1, dst_2, up3_ap, upd1_ap, Nat.reduceEqDiff, ↓reduceIte, eq_self] at * <;> omega) | fail, ?_⟩) | (exact h0 (by omega)) | (exact sub v hv (by omega) (by omega) (by omega)) | (simp only [dst_1, dst_2, up3_ap, upd1_ap, Nat.reduceEqDiff, ↓reduceIte, eq_self] at *) | omega | fail
end
