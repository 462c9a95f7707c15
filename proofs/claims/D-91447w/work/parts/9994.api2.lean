/-! THE DESK: act, near -/
set_option maxHeartbeats 3200000
set_option maxRecDepth 100000
section
variable {t : Int → Int} {n : Int} {nm : Nat} {ai r L lo : Int} {d : Nat} {m m0 m1 : mD} {Q : mQ mD}
theorem Ex.f {m2 m3 : mD} {c c' : Int} (h : Ex m m2 c) (hr : m.2.2.1 ≤ r) (hf : RF0 r m2 m3) (hb : m.2.2.2 - c' ≤ m3.2.2.2) : Ex m m3 c' := by
  obtain ⟨h1, h2, h3, h4⟩ := h
  exact ⟨Int.le_trans h1 hf.1, fun g b hb => (hf.2.2 g b (by omega) (by omega)).trans (h2 g b hb), fun b hb => (hf.2.1 b (by omega)).trans (h3 b hb), hb⟩
/-- an act is put down -/
abbrev acM (m m' : mD) (a fr : Int) : mD := dpy (dst (dst (dst m' 302 a 0 fr) 10109 1006 (m.1 20109 1006 0) a) 20109 1006 0 (m.1 20109 1006 0 + 1)) (2 * m.1 20109 1006 0 + 20)
abbrev aPost (m : mD) (C : Int) (x : (Int × Int) ⊕ List Cl) (F : Int → Int → mD → Prop) (G : List Cl → mD → Prop) : Prop := match x with
  | .inl (k, p) => ∀ m', Ex (rdM m) m' C → 1 ≤ k → k ≤ 4 → F k p m'
  | .inr cs => ∀ m', Ex (rdM m) m' C → G cs m'
theorem DA_act {fr : Int} {x2 : Option mV} {f g : Nat} {x : (Int × Int) ⊕ List Cl} (hT : tpe t n m) (h7 : m.1 107 1000 0 = n) (hl : m.2.1 1006 = 10109 ∧ 0 ≤ m.1 20109 1006 0 ∧ m.1 20109 1006 0 ≤ 20) (hnx : 1076 ≤ m.2.2.1) (hB : 2200 + 900 * n ≤ m.2.2.2) (hx : actC t n f g (sk t n 0) [] = some x) (h0 : ¬ (0 ≤ fr ∧ fr ≤ 36000 ∧ m.1 20109 1006 0 ≠ 20) → Q (rI (-1)) m)
    (h1 : 0 ≤ fr → fr ≤ 36000 → m.1 20109 1006 0 < 20 → aPost m (900 * n + 900) x (fun k p m' => Q (rI (-1 - k)) (dst m' 108 1000 0 p)) (fun cs m' => ∀ a, ACp m.2.2.1 m'.2.2.1 m' a cs → Q (rI cs.length) (acM m m' a fr))) : RD (d + 70) 9 (0, [some (mR 1000), some (mI fr), x2], [], m) Q := by
  have hsk := sk_b (t := t) (n := n) (k := 0) hT.2.1
  -- the fault
  have flt : ∀ k p, x = .inl (k, p) → 0 ≤ fr → fr ≤ 36000 → m.1 20109 1006 0 < 20 → ∀ r m2 w m3, m.2.2.1 ≤ r → Ex (rdM m) m2 14 → WQ r m2 k p (m2.2.2.2 - 900 * n - 800) w m3 → kdD m3 w = 5 ∧ RD (d + 70) 9 (53, [some (mR 1000), some (mI fr), x2], [mR w], m3) Q := by
    intro k p hx' f0 f1 s1 r m2 w m3 hr e2 g1
    subst hx'
    obtain ⟨q1, ⟨q2, q3, q4, q5, q6⟩, q7, q8⟩ := g1
    have ex : Ex (rdM m) m3 (900 * n + 900) := e2.f hr q1 (by have := e2.2.2.2; omega)
    have fin := h1 f0 f1 s1 m3 ex q7.1 q7.2
    rw [← q3, ← q4] at fin
    rw [← q3] at q7
    have hw : w ≠ 1000 := by have := e2.1; have : m.2.2.1 ≤ m2.2.2.1 := this; omega
    refine ⟨q2, ?_⟩
    clear h1 h0
    refine RDr [] [] 20 ?_
    repeat' first | (refine D_wrong q2 q7 hw ?_) | (refine ⟨fun _ => ?_, fun _ => ?_⟩ <;> try omega) | (refine ⟨by first | omega | rfl | assumption | (simp only [dst_1, dst_2, up3_ap, upd1_ap, Nat.reduceEqDiff, ↓reduceIte, eq_self] at * <;> omega) | fail, ?_⟩) | (exact fin) | (simp only [dst_1, dst_2, up3_ap, upd1_ap, Nat.reduceEqDiff, ↓reduceIte, eq_self] at *) | omega | fail
  -- the act
  have got : ∀ cs, x = .inr cs → 0 ≤ fr → fr ≤ 36000 → m.1 20109 1006 0 < 20 → ∀ r m2 a m3, m.2.2.1 ≤ r → Ex (rdM m) m2 14 → RX r 0 m2 m3 → ACp m2.2.2.1 m3.2.2.1 m3 a cs → m2.2.2.2 - 900 * n - 100 ≤ m3.2.2.2 → RD (d + 70) 9 (33, [some (mR 1000), some (mI fr), x2], [mR a], m3) Q := by
    intro cs hx' f0 f1 s1 r m2 a m3 hr e2 x3 A3 b3
    subst hx'
    have ex : Ex (rdM m) m3 (900 * n + 900) := e2.f hr x3.f (by have := e2.2.2.2; omega)
    have e21 : m.2.2.1 ≤ m2.2.2.1 := e2.1
    have A4 : ACp m.2.2.1 m3.2.2.1 m3 a cs := A3.cg e21 (Int.le_refl _) (fun _ _ _ _ => rfl) (fun _ _ _ => rfl)
    have fin := h1 f0 f1 s1 m3 ex a A4
    have ka := A3.1.2.1
    have hab := A3.1.1
    have bud := ex.2.2.2
    have bud : m.2.2.2 - (900 * n + 900) ≤ m3.2.2.2 := bud
    have hl1 : m3.2.1 1006 = 10109 := by rw [ex.2.2.1 1006 (by show (1006 : Int) < m.2.2.1; omega)]; exact hl.1
    have hl2 : m3.1 20109 1006 0 = m.1 20109 1006 0 := by rw [ex.2.1 20109 1006 (by show (1006 : Int) < m.2.2.1; omega), ds_n (by decide), ds_n (by decide)]
    have e5 : (dst m3 302 a 0 fr).2 = m3.2 := rfl
    have e6 : (dst m3 302 a 0 fr).1 20109 1006 0 = m.1 20109 1006 0 := by rw [ds_n (by decide)]; exact hl2
    have e7 : (acM m m3 a fr).1 303 a 0 = (cs.length : Int) := by
      show (dst (dst (dst m3 302 a 0 fr) 10109 1006 (m.1 20109 1006 0) a) 20109 1006 0 (m.1 20109 1006 0 + 1)).1 303 a 0 = _
      rw [ds_n (by decide), ds_n (by decide), ds_n (by decide)]
      exact A3.2.1
    have e8 : (acM m m3 a fr).2.1 a = 3 := ka
    rw [← e7] at fin
    have k4 : (dst m3 302 a 0 fr).2.1 1006 = 10109 := hl1
    have add : RD (d + 70) 9 (39, [some (mR 1000), some (mI fr), some (mR a)], [], dst m3 302 a 0 fr) Q := by
      have fin' : RD (d + 70) 9 (48, [some (mR 1000), some (mI fr), some (mR a)], [], acM m m3 a fr) Q := by
        generalize acM m m3 a fr = m5 at *
        clear h1 h0 flt
        refine RDr [] [] 10 ?_
        repeat' first | (refine ⟨fun _ => ?_, fun _ => ?_⟩ <;> try omega) | (refine ⟨by first | omega | rfl | assumption | (simp only [dst_1, dst_2, up3_ap, upd1_ap, Nat.reduceEqDiff, ↓reduceIte, eq_self] at * <;> omega) | fail, ?_⟩) | (exact fin) | (simp only [dst_1, dst_2, up3_ap, upd1_ap, Nat.reduceEqDiff, ↓reduceIte, eq_self] at *) | omega | fail
      unfold acM at fin'
      rw [← e6] at fin' s1
      generalize dst m3 302 a 0 fr = m4 at *
      have ka4 : m4.2.1 a = 3 := by rw [e5]; exact ka
      clear h1 h0 flt fin e7 e8
      refine RDr [] [90048] 20 ?_
      repeat' first | ((refine ⟨k4, ⟨by omega, by rw [e5]; omega, Or.inr (by omega)⟩, ?_⟩)) | (refine ⟨fun _ => ?_, fun _ => ?_⟩ <;> try omega) | (refine ⟨by first | omega | rfl | assumption | (simp only [dst_1, dst_2, up3_ap, upd1_ap, Nat.reduceEqDiff, ↓reduceIte, eq_self] at * <;> omega) | fail, ?_⟩) | (exact fin') | (simp only [dst_1, dst_2, up3_ap, upd1_ap, Nat.reduceEqDiff, ↓reduceIte, eq_self] at *) | omega | fail
    clear h1 h0 flt fin e7 e8
    refine RDr [] [90039] 20 ?_
    repeat' first | (refine ⟨fun _ => ?_, fun _ => ?_⟩ <;> try omega) | (refine ⟨by first | omega | rfl | assumption | (simp only [dst_1, dst_2, up3_ap, upd1_ap, Nat.reduceEqDiff, ↓reduceIte, eq_self] at * <;> omega) | fail, ?_⟩) | (exact add) | (simp only [dst_1, dst_2, up3_ap, upd1_ap, Nat.reduceEqDiff, ↓reduceIte, eq_self] at *) | omega | fail
  have sub : ∀ r m2, m.2.2.1 ≤ r → Ex (rdM m) m2 14 → DS t n 13 (sk t n 0) 0 0 r m2 → 0 ≤ fr → fr ≤ 36000 → m.1 20109 1006 0 < 20 → m2.2.1 r = 4 ∧ RD (d + 70) 9 (30, [some (mR 1000), some (mI fr), x2], [mR r], m2) Q := by
    intro r m2 hr e2 S2 f0 f1 s1
    have kr := S2.1.1
    have bud := e2.2.2.2
    have bud : m.2.2.2 - 14 ≤ m2.2.2.2 := bud
    refine ⟨kr, ?_⟩
    rcases x with ⟨k, p⟩ | cs
    · clear got h1 h0
      refine RDr [] [90053] 10 ?_
      repeat' first | ((refine hub_i (by dsimp only [kdD]; omega) (D_act (d := d + 5) (B := m2.2.2.2 - 900 * n) hx S2 (by omega) (by omega) (fun w m3 g1 => ?_)))) | (refine ⟨fun _ => ?_, fun _ => ?_⟩ <;> try omega) | (refine ⟨by first | omega | rfl | assumption | (simp only [dst_1, dst_2, up3_ap, upd1_ap, Nat.reduceEqDiff, ↓reduceIte, eq_self] at * <;> omega) | fail, ?_⟩) | (exact flt k p rfl f0 f1 s1 r m2 w m3 hr e2 g1) | (simp only [dst_1, dst_2, up3_ap, upd1_ap, Nat.reduceEqDiff, ↓reduceIte, eq_self] at *) | omega | fail
    · clear flt h1 h0
      refine RDr [] [90033] 10 ?_
      repeat' first | ((refine hub_i (by dsimp only [kdD]; omega) (D_act (d := d + 5) (B := m2.2.2.2 - 900 * n) hx S2 (by omega) (by omega) (fun a m3 x3 A3 b3 => ?_)))) | (refine ⟨fun _ => ?_, fun _ => ?_⟩ <;> try omega) | (refine ⟨by first | omega | rfl | assumption | (simp only [dst_1, dst_2, up3_ap, upd1_ap, Nat.reduceEqDiff, ↓reduceIte, eq_self] at * <;> omega) | fail, ?_⟩) | (exact got cs rfl f0 f1 s1 r m2 a m3 hr e2 x3 A3 b3) | (simp only [dst_1, dst_2, up3_ap, upd1_ap, Nat.reduceEqDiff, ↓reduceIte, eq_self] at *) | omega | fail
  have lk := hl.1
  clear flt got h1
  refine RDr [] [90030] 40 ?_
  repeat' first | (refine D_in (fun _ _ => ?_) (fun _ => ?_)) | (refine D_reads (nm := 13) hT h7 rfl (by omega) hnx (fun r m2 hr e2 S2 => ?_)) | (refine ⟨fun _ => ?_, fun _ => ?_⟩ <;> try omega) | (refine ⟨by first | omega | rfl | assumption | (simp only [dst_1, dst_2, up3_ap, upd1_ap, Nat.reduceEqDiff, ↓reduceIte, eq_self] at * <;> omega) | fail, ?_⟩) | (exact h0 (by omega)) | (exact (sub r m2 hr e2 S2 (by omega) (by omega) (by omega)).2) | (simp only [dst_1, dst_2, up3_ap, upd1_ap, Nat.reduceEqDiff, ↓reduceIte, eq_self] at *) | omega | fail
end
