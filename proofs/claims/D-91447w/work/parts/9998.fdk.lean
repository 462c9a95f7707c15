/-! THE DESK: fund -/
set_option maxHeartbeats 3200000
set_option maxRecDepth 100000
section
variable {t : Int → Int} {n : Int} {nm : Nat} {ai r L lo : Int} {d : Nat} {m m0 m1 : mD} {Q : mQ mD}
abbrev fuM (m m' : mD) (F : Int) : mD := dpy (dst (dst m' 10111 1012 (m.1 20111 1012 0) F) 20111 1012 0 (m.1 20111 1012 0 + 1)) (2 * m.1 20111 1012 0 + 20)
/-- a fund put up: the deed is read (m2), the fund made (m') -/
def fuP (t : Int → Int) (n : Int) (m : mD) (ac st : Int) (cs : List Cl) (F : Int) (m' : mD) : Prop := ∃ m2 dd el tl pa, (m.2.2.1 ≤ F ∧ F < m2.2.2.1) ∧ (m2.1 1409 F 0 = 0 ∧ m2.1 1410 F 0 = 0 ∧ m2.1 1411 F 0 = 0) ∧ DDp t n (F + 1) m2 dd cs (mks cs 0) (tmo cs 7) (tye cs 1) ∧ FNp m2 F (m.1 20111 1012 0) dd ac st el tl pa ((edl cs).length) m'
theorem DA_fund {ac st : Int} {x3 : Option mV} {f g : Nat} {x : (Int × Int) ⊕ List Cl} (hT : tpe t n m) (h7 : m.1 107 1000 0 = n) (hl : m.2.1 1012 = 10111 ∧ 0 ≤ m.1 20111 1012 0 ∧ m.1 20111 1012 0 ≤ 12) (hnx : 1076 ≤ m.2.2.1) (hB : 3200 + 900 * n ≤ m.2.2.2) (hx : deedC t n f g (sk t n 0) [] = some x) (h0 : ¬ ((0 ≤ ac ∧ ac ≤ 999) ∧ (0 ≤ st ∧ st ≤ 99999) ∧ m.1 20111 1012 0 ≠ 12) → Q (rI (-1)) m)
    (h1 : 0 ≤ ac ∧ ac ≤ 999 → 0 ≤ st ∧ st ≤ 99999 → m.1 20111 1012 0 < 12 → aPost m (900 * n + 1700) x (fun k p m' => Q (rI (-1 - k)) (dst m' 108 1000 0 p)) (fun cs m' => ∀ F, fuP t n m ac st cs F m' → Q (rI (m.1 20111 1012 0)) (fuM m m' F))) : RD (d + 70) 15 (0, [some (mR 1000), some (mI ac), some (mI st), x3], [], m) Q := by
  have hsk := sk_b (t := t) (n := n) (k := 0) hT.2.1
  have flt : ∀ k p, x = .inl (k, p) → 0 ≤ ac ∧ ac ≤ 999 → 0 ≤ st ∧ st ≤ 99999 → m.1 20111 1012 0 < 12 → ∀ r m2 w m3, m.2.2.1 ≤ r → Ex (rdM m) m2 30 → WQ r m2 k p (m2.2.2.2 - 900 * n - 700) w m3 → kdD m3 w = 5 ∧ RD (d + 70) 15 (78, [some (mR 1000), some (mI ac), some (mI st), x3], [mR w], m3) Q := by
    intro k p hx' f0 f1 s1 r m2 w m3 hr e2 g1
    subst hx'
    obtain ⟨q1, ⟨q2, q3, q4, q5, q6⟩, q7, q8⟩ := g1
    have ex : Ex (rdM m) m3 (900 * n + 1700) := e2.f hr q1 (by have := e2.2.2.2; omega)
    have fin := h1 f0 f1 s1 m3 ex q7.1 q7.2
    rw [← q3, ← q4] at fin
    rw [← q3] at q7
    have hw : w ≠ 1000 := by have : m.2.2.1 ≤ m2.2.2.1 := e2.1; omega
    refine ⟨q2, ?_⟩
    clear h1 h0
    refine RDr [] [] 20 ?_
    repeat' first | (refine D_wrong q2 q7 hw ?_) | (refine ⟨fun _ => ?_, fun _ => ?_⟩ <;> try omega) | (refine ⟨by first | omega | rfl | assumption | (simp only [dst_1, dst_2, up3_ap, upd1_ap, Nat.reduceEqDiff, ↓reduceIte, eq_self] at * <;> omega) | fail, ?_⟩) | (exact fin) | (simp only [dst_1, dst_2, up3_ap, upd1_ap, Nat.reduceEqDiff, ↓reduceIte, eq_self] at *) | omega | fail
  have got : ∀ cs, x = .inr cs → 0 ≤ ac ∧ ac ≤ 999 → 0 ≤ st ∧ st ≤ 99999 → m.1 20111 1012 0 < 12 → ∀ r m2 dd m3 F, (m.2.2.1 ≤ r ∧ F < r) → Ex (rdM m) m2 30 → (m.2.2.1 ≤ F ∧ F < m2.2.2.1 ∧ m2.2.1 F = 14) → (m2.1 1409 F 0 = 0 ∧ m2.1 1410 F 0 = 0 ∧ m2.1 1411 F 0 = 0) → RX r 0 m2 m3 → DDp t n m2.2.2.1 m3 dd cs (mks cs 0) (tmo cs 7) (tye cs 1) → (nms cs).length ≤ 6 → m2.2.2.2 - 900 * n - 100 ≤ m3.2.2.2 → m3.2.1 F = 14 ∧ RD (d + 70) 15 (59, [some (mR 1000), some (mI ac), some (mI st), x3], [mR dd, mI (m.1 20111 1012 0), mR F, mR F, mR 1012], m3) Q := by
    intro cs hx' f0 f1 s1 r m2 dd m3 F hr e2 hF hz x3' D3 hl6 b3
    subst hx'
    have e21 : m.2.2.1 ≤ m2.2.2.1 := e2.1
    have x31 := x3'.1
    have bud : m.2.2.2 - 30 ≤ m2.2.2.2 := e2.2.2.2
    have kF : m3.2.1 F = 14 := by rw [x3'.2.1 F hF.2.1]; exact hF.2.2
    have oF : ∀ g, m3.1 g F = m2.1 g F := fun g => x3'.o hF.2.1 (by omega) (by omega) g
    have ex3 : Ex (rdM m) m3 (900 * n + 200) := e2.f hr.1 x3'.f (by show m.2.2.2 - _ ≤ _; omega)
    have D4 : DDp t n (F + 1) m3 dd cs (mks cs 0) (tmo cs 7) (tye cs 1) := ⟨D3.1, ⟨by have := D3.2.1.1; omega, D3.2.1.2⟩, D3.2.2⟩
    obtain ⟨⟨⟨a1, a2, a3⟩, ⟨a4, a5, a6⟩, a7, a8⟩, ⟨b1, b2⟩, _, b4⟩ := D3
    refine ⟨kF, ?_⟩
    have aft : ∀ el tl pa m', FNp m3 F (m.1 20111 1012 0) dd ac st el tl pa ((nms cs).length : Int) m' → m3.2.2.2 - 500 ≤ m'.2.2.2 → RD (d + 70) 15 (64, [some (mR 1000), some (mI ac), some (mI st), x3], [mR F, mR 1012], m') Q := by
      intro el tl pa m' hP hB'
      have hP' := hP
      obtain ⟨⟨⟨p1, p1b, p1c, p1d⟩, p2, p3, p4, p5⟩, q, s, e, kk, gg⟩ := hP
      have ex : Ex (rdM m) m' (900 * n + 1700) := ⟨by show m.2.2.1 ≤ _; omega, fun g b hb => by
        have hb : b < m.2.2.1 := hb
        rw [gg g b (by omega) (by omega)]
        exact ex3.2.1 g b hb, fun b hb => by
        have hb : b < m.2.2.1 := hb
        rw [kk b (by omega)]
        exact ex3.2.2.1 b hb, by show m.2.2.2 - _ ≤ _; omega⟩
      rw [edl_nms] at hP'
      have fin := h1 f0 f1 s1 m' ex F ⟨m3, dd, el, tl, pa, ⟨hF.1, by omega⟩, ⟨by rw [oF]; exact hz.1, by rw [oF]; exact hz.2.1, by rw [oF]; exact hz.2.2⟩, D4, hP'⟩
      have hl1 : m'.2.1 1012 = 10111 := by rw [ex.2.2.1 1012 (by show (1012 : Int) < m.2.2.1; omega)]; exact hl.1
      have hl2 : m'.1 20111 1012 0 = m.1 20111 1012 0 := by rw [ex.2.1 20111 1012 (by show (1012 : Int) < m.2.2.1; omega), ds_n (by decide), ds_n (by decide)]
      have e7 : (fuM m m' F).1 20111 1012 0 = m.1 20111 1012 0 + 1 := by
        show (dst (dst m' 10111 1012 (m.1 20111 1012 0) F) 20111 1012 0 (m.1 20111 1012 0 + 1)).1 20111 1012 0 = _
        rw [dsz_0]
      have e8 : (fuM m m' F).2.1 1012 = 10111 := hl1
      have fin' : RD (d + 70) 15 (68, [some (mR 1000), some (mI ac), some (mI st), x3], [], fuM m m' F) Q := by
        have fin2 : Q (rI ((fuM m m' F).1 20111 1012 0 - 1)) (fuM m m' F) := by rw [e7, show m.1 20111 1012 0 + 1 - 1 = m.1 20111 1012 0 by omega]; exact fin
        generalize fuM m m' F = m5 at *
        clear h1 h0 flt gg kk e s q
        refine RDr [] [] 15 ?_
        repeat' first | (refine ⟨fun _ => ?_, fun _ => ?_⟩ <;> try omega) | (refine ⟨by first | omega | rfl | assumption | (simp only [dst_1, dst_2, up3_ap, upd1_ap, Nat.reduceEqDiff, ↓reduceIte, eq_self] at * <;> omega) | fail, ?_⟩) | (exact fin2) | (simp only [dst_1, dst_2, up3_ap, upd1_ap, Nat.reduceEqDiff, ↓reduceIte, eq_self] at *) | omega | fail
      unfold fuM at fin'
      rw [← hl2] at fin' s1
      clear h1 h0 flt fin e7 e8 gg kk e s q ex hP' ex3 a8 b4
      have bb : m3.2.2.2 - 500 ≤ m'.2.2.2 := hB'
      refine RDr [] [150068] 20 ?_
      repeat' first | ((refine ⟨hl1, ⟨by omega, by omega, Or.inr (by omega)⟩, ?_⟩)) | (refine ⟨fun _ => ?_, fun _ => ?_⟩ <;> try omega) | (refine ⟨by first | omega | rfl | assumption | (simp only [dst_1, dst_2, up3_ap, upd1_ap, Nat.reduceEqDiff, ↓reduceIte, eq_self] at * <;> omega) | fail, ?_⟩) | (exact fin') | (simp only [dst_1, dst_2, up3_ap, upd1_ap, Nat.reduceEqDiff, ↓reduceIte, eq_self] at *) | omega | fail
    clear h1 h0 flt
    refine RDr [] [150064] 20 ?_
    repeat' first | ((refine hub_i (by dsimp only [kdD]; omega) (D_Fund (d := d + 67) (dl := m3.1 1500 dd 0) (N := ((nms cs).length : Int)) kF ⟨by omega, by omega⟩ ⟨by omega, by omega⟩ ⟨a1, a2, by omega⟩ ⟨rfl, a4, a5, by omega⟩ ⟨a7, by omega, by omega⟩ (fun i i0 i1 => ?_) (by omega) (fun el tl pa m' hP hB' => ?_)))) | (refine ⟨fun _ => ?_, fun _ => ?_⟩ <;> try omega) | (refine ⟨by first | omega | rfl | assumption | (simp only [dst_1, dst_2, up3_ap, upd1_ap, Nat.reduceEqDiff, ↓reduceIte, eq_self] at * <;> omega) | fail, ?_⟩) | (exact aft el tl pa m' hP hB') | (simp only [dst_1, dst_2, up3_ap, upd1_ap, Nat.reduceEqDiff, ↓reduceIte, eq_self] at *) | omega | fail
    have h := (a8 i.toNat (by omega)).1
    rw [show ((i.toNat : Nat) : Int) = i by omega] at h
    exact ⟨h.1, h.2.2⟩
  have sub : ∀ F, m.2.2.1 ≤ F → 0 ≤ ac ∧ ac ≤ 999 → 0 ≤ st ∧ st ≤ 99999 → m.1 20111 1012 0 < 12 → RD (d + 70) 15 (42, [some (mR 1000), some (mI ac), some (mI st), x3], [mR F, mR 1012], dal m F 14 (((12 : Nat) : Int) + 4)) Q := by
    intro F hF f0 f1 s1
    have T1 : tpe t n (dal m F 14 (((12 : Nat) : Int) + 4)) := ⟨by
      show ∀ i, 0 ≤ i → i < n → (if (1005 : Int) = F then (fun _ => 0) else m.1 10106 1005) i = t i ∧ _
      rw [if_neg (by omega)]
      exact hT.1, hT.2⟩
    have oo : ∀ g b, b < m.2.2.1 → (dal m F 14 (((12 : Nat) : Int) + 4)).1 g b = m.1 g b := fun g b hb => by
      show (if b = F then (fun _ => 0) else m.1 g b) = _
      rw [if_neg (by omega)]
    have dx := dal_x (m := m) (r := 0) (L := 0) (k := 14) (c := ((12 : Nat) : Int) + 4) hF
    have h71 : (dal m F 14 (((12 : Nat) : Int) + 4)).1 107 1000 0 = n := by rw [oo _ _ (by omega)]; exact h7
    have h20 : (dal m F 14 (((12 : Nat) : Int) + 4)).1 20111 1012 0 = m.1 20111 1012 0 := by rw [oo _ _ (by omega)]
    have k20 : (dal m F 14 (((12 : Nat) : Int) + 4)).2.1 1012 = 10111 := by rw [dx.1.2.1 1012 (by omega)]; exact hl.1
    have zF : ∀ g, (dal m F 14 (((12 : Nat) : Int) + 4)).1 g F 0 = 0 := fun g => dx.2.1 g 0
    have nx1 : (dal m F 14 (((12 : Nat) : Int) + 4)).2.2.1 = F + 1 := rfl
    have bd1 : (dal m F 14 (((12 : Nat) : Int) + 4)).2.2.2 = m.2.2.2 - 16 := rfl
    have aft : ∀ r m2, F + 1 ≤ r → Ex (rdM (dal m F 14 (((12 : Nat) : Int) + 4))) m2 14 → DS t n 10 (sk t n 0) 0 0 r m2 → m2.2.1 r = 4 ∧ RD (d + 70) 15 (56, [some (mR 1000), some (mI ac), some (mI st), x3], [mR r, mI (m.1 20111 1012 0), mR F, mR F, mR 1012], m2) Q := by
      intro r m2 hr e2' S2
      obtain ⟨e2, v1, v2⟩ := Ex_dal hF e2'
      have e2 : Ex (rdM m) m2 30 := e2
      have oz : ∀ g, m2.1 g F 0 = 0 := fun g => by
        rw [e2'.2.1 g F (by show F < F + 1; omega)]
        show (dst (dst (dal m F 14 (((12 : Nat) : Int) + 4)) 107 1000 0 0) 108 1000 0 (-1)).1 g F 0 = 0
        rw [ds_o (by omega), ds_o (by omega)]
        exact zF g
      have kr := S2.1.1
      have bud : m.2.2.2 - 30 ≤ m2.2.2.2 := e2.2.2.2
      refine ⟨kr, ?_⟩
      rcases x with ⟨k, p⟩ | cs
      · clear got h1 h0
        refine RDr [] [150078] 10 ?_
        repeat' first | ((refine hub_i (by dsimp only [kdD]; omega) (D_deed (d := d + 5) (B := m2.2.2.2 - 900 * n) hx S2 (by omega) (by omega) (fun w m3 g1 => ?_)))) | (refine ⟨fun _ => ?_, fun _ => ?_⟩ <;> try omega) | (refine ⟨by first | omega | rfl | assumption | (simp only [dst_1, dst_2, up3_ap, upd1_ap, Nat.reduceEqDiff, ↓reduceIte, eq_self] at * <;> omega) | fail, ?_⟩) | (exact flt k p rfl f0 f1 s1 r m2 w m3 (by omega) e2 g1) | (simp only [dst_1, dst_2, up3_ap, upd1_ap, Nat.reduceEqDiff, ↓reduceIte, eq_self] at *) | omega | fail
      · have hok := deed_ok g _ [] cs ⟨hsk.1, hsk.2⟩ ⟨by show (0 : Int) ≤ _; exact hsk.1, by show 0 ≤ 12; omega, by show 0 ≤ 6; omega, fun c hc => absurd hc (by simp)⟩ hx
        clear flt h1 h0
        refine RDr [] [150059] 10 ?_
        repeat' first | ((refine hub_i (by dsimp only [kdD]; omega) (D_deed (d := d + 5) (B := m2.2.2.2 - 900 * n) hx S2 (by omega) (by omega) (fun dd m3 x3' A3 b3 => ?_)))) | (refine ⟨fun _ => ?_, fun _ => ?_⟩ <;> try omega) | (refine ⟨by first | omega | rfl | assumption | (simp only [dst_1, dst_2, up3_ap, upd1_ap, Nat.reduceEqDiff, ↓reduceIte, eq_self] at * <;> omega) | fail, ?_⟩) | (exact (got cs rfl f0 f1 s1 r m2 dd m3 F ⟨by omega, by omega⟩ e2 ⟨hF, v1, v2⟩ ⟨oz _, oz _, oz _⟩ x3' A3 hok.2.2.1 b3).2) | (simp only [dst_1, dst_2, up3_ap, upd1_ap, Nat.reduceEqDiff, ↓reduceIte, eq_self] at *) | omega | fail
    clear flt got h1 h0
    rw [← h20] at aft
    generalize dal m F 14 (((12 : Nat) : Int) + 4) = m9 at *
    refine RDr [] [150056] 15 ?_
    repeat' first | (refine D_reads (nm := 10) T1 h71 rfl (by omega) (by omega) (fun r m2 hr e2 S2 => ?_)) | (refine ⟨fun _ => ?_, fun _ => ?_⟩ <;> try omega) | (refine ⟨by first | omega | rfl | assumption | (simp only [dst_1, dst_2, up3_ap, upd1_ap, Nat.reduceEqDiff, ↓reduceIte, eq_self] at * <;> omega) | fail, ?_⟩) | (exact (aft r m2 (by omega) e2 S2).2) | (simp only [dst_1, dst_2, up3_ap, upd1_ap, Nat.reduceEqDiff, ↓reduceIte, eq_self] at *) | omega | fail
  have lk := hl.1
  clear flt got h1
  refine RDr [] [150042] 40 ?_
  repeat' first | (refine D_in (fun _ _ => ?_) (fun _ => ?_)) | ((refine ⟨by show ((12 : Nat) : Int) + 4 ≤ _; omega, fun F hF => ?_⟩)) | (refine ⟨fun _ => ?_, fun _ => ?_⟩ <;> try omega) | (refine ⟨by first | omega | rfl | assumption | (simp only [dst_1, dst_2, up3_ap, upd1_ap, Nat.reduceEqDiff, ↓reduceIte, eq_self] at * <;> omega) | fail, ?_⟩) | (exact h0 (by omega)) | (exact sub F hF (by omega) (by omega) (by omega)) | (simp only [dst_1, dst_2, up3_ap, upd1_ap, Nat.reduceEqDiff, ↓reduceIte, eq_self] at *) | omega | fail
end
