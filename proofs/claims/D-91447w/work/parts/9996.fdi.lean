/-! THE DESK: a new fund -/
set_option maxHeartbeats 3200000
set_option maxRecDepth 100000
section
variable {t : Int → Int} {n : Int} {nm : Nat} {ai r L lo : Int} {d : Nat} {m m0 m1 : mD} {Q : mQ mD}
/-- a new list in the field g of F -/
def newL (g R R' : Nat) (F l : Int) (m m' : mD) : Prop := (m.2.2.1 ≤ l ∧ m'.2.2.1 = l + 1 ∧ m'.2.2.2 = m.2.2.2 - 13) ∧ (m'.2.1 l = R ∧ ∀ x, x < m.2.2.1 → m'.2.1 x = m.2.1 x) ∧ (m'.1 R' l 0 = 0 ∧ m'.1 g F 0 = l) ∧ (∀ g', g' ≠ g → m'.1 g' F = m.1 g' F) ∧ ∀ g' x, x < m.2.2.1 → x ≠ F → m'.1 g' x = m.1 g' x
theorem nl_mk {g R R' : Nat} {F l : Int} (hF : F < m.2.2.1) (hl : m.2.2.1 ≤ l) (hg : R' ≠ g) : newL g R R' F l m (dst (dst (dkd (dal m l 99 7) l R (2 + 4)) R' l 0 0) g F 0 l) := by
  refine ⟨⟨hl, rfl, ?_⟩, ⟨?_, fun x hx => ?_⟩, ⟨?_, dsz_0⟩, fun g' hg' => ?_, fun g' x hx hxF => ?_⟩
  · show m.2.2.2 - 7 - (2 + 4) = _
    omega
  · show (if l = l then R else _) = _
    rw [if_pos rfl]
  · show (if x = l then R else (if x = l then 99 else m.2.1 x)) = _
    rw [if_neg (by omega), if_neg (by omega)]
  · rw [ds_n hg, dsz_0]
  · rw [ds_n hg', ds_o (by omega)]
    show (if F = l then (fun _ => 0) else m.1 g' F) = _
    rw [if_neg (by omega)]
  · rw [ds_o hxF, ds_o (by omega)]
    show (if x = l then (fun _ => 0) else m.1 g' x) = _
    rw [if_neg (by omega)]
/-- a fund as made from a deed: its ends k of them -/
def FNp (m0 : mD) (F num dd ac st el tl pa : Int) (k : Int) (m : mD) : Prop := ((m0.2.2.1 ≤ el ∧ el < tl ∧ tl < pa ∧ pa < m.2.2.1) ∧ m.2.1 F = 14 ∧ m.2.1 el = 11403 ∧ m.2.1 tl = 11404 ∧ m.2.1 pa = 11405) ∧
  (m.1 1400 F 0 = num ∧ m.1 1401 F 0 = m0.1 1502 dd 0 ∧ m.1 1402 F 0 = m0.1 1503 dd 0 ∧ m.1 1403 F 0 = el ∧ m.1 1404 F 0 = tl ∧ m.1 1405 F 0 = pa ∧ m.1 1406 F 0 = ac ∧ m.1 1407 F 0 = st ∧ m.1 1408 F 0 = m0.1 1501 dd 0 ∧ m.1 1409 F 0 = m0.1 1409 F 0 ∧ m.1 1410 F 0 = m0.1 1410 F 0 ∧ m.1 1411 F 0 = m0.1 1411 F 0) ∧
  (m.1 21404 tl 0 = 0 ∧ (∀ i, m.1 11405 pa i = if i = num then 1000000 else 0) ∧ m.1 21403 el 0 = k) ∧
  (∀ i, 0 ≤ i → i < k → (pa < m.1 11403 el i ∧ m.1 11403 el i < m.2.2.1 ∧ m.2.1 (m.1 11403 el i) = 17) ∧ m.1 1700 (m.1 11403 el i) 0 = m0.1 11500 (m0.1 1500 dd 0) i ∧ m.1 1701 (m.1 11403 el i) 0 = 0 ∧ m.1 1702 (m.1 11403 el i) 0 = 0 ∧ m.1 1703 (m.1 11403 el i) 0 = -1 ∧ ∀ j, 0 ≤ j → j < k → m.1 11403 el i = m.1 11403 el j → i = j) ∧
  (∀ b, b < m0.2.2.1 → m.2.1 b = m0.2.1 b) ∧ (∀ g b, b < m0.2.2.1 → b ≠ F → m.1 g b = m0.1 g b)
theorem D_End {e a : Int} (he : m.2.1 e = 17) (hQ : Q rV (dst (dst m 1703 e 0 (-1)) 1700 e 0 a)) : RD d 314 (0, [some (mR e), some (mR a)], [], m) Q := by
  have kz : m.2.1 e ≠ 0 := by omega
  refine RDr [] [] 30 ?_
  repeat' first | (refine ⟨fun _ => ?_, fun _ => ?_⟩ <;> try omega) | (refine ⟨by first | omega | rfl | assumption | (simp only [dst_1, dst_2, up3_ap, upd1_ap, Nat.reduceEqDiff, ↓reduceIte, eq_self] at * <;> omega) | fail, ?_⟩) | (exact hQ) | (simp only [dst_1, dst_2, up3_ap, upd1_ap, Nat.reduceEqDiff, ↓reduceIte, eq_self] at *) | omega | fail
theorem D_fdL {F num dd ac st el tl pa dl N : Int} (hF : F < m0.2.2.1 ∧ 1075 < F) (hd : m0.2.1 dd = 15 ∧ dd < m0.2.2.1 ∧ dd ≠ F) (hdl : m0.1 1500 dd 0 = dl ∧ m0.2.1 dl = 11500 ∧ dl < m0.2.2.1 ∧ dl ≠ F) (hN : m0.1 21500 dl 0 = N ∧ 0 ≤ N ∧ N ≤ 6) (ha : ∀ i, 0 ≤ i → i < N → m0.2.1 (m0.1 11500 dl i) = 16 ∧ m0.1 11500 dl i < m0.2.2.1) (hQ : ∀ m', FNp m0 F num dd ac st el tl pa N m' → m0.2.2.2 - 500 ≤ m'.2.2.2 → Q rV m') : ∀ k, 0 ≤ k → k ≤ N → ∀ m, FNp m0 F num dd ac st el tl pa k m → m0.2.2.2 - 500 + 50 * (N - k) ≤ m.2.2.2 → 1000 ≤ m0.2.2.2 → RD (d + 2) 290 (87, [some (mR F), some (mI num), some (mR dd), some (mI ac), some (mI st), some (mI k)], [], m) Q := by
  refine up_ind ?_ ?_
  · intro m hP hB hB0
    have fin := hQ m hP (by omega)
    obtain ⟨⟨p1, p2, p3, p4, p5⟩, q, s, e, kk, gg⟩ := hP
    have g1 : m.1 1500 dd 0 = dl := by rw [gg _ _ hd.2.1 hd.2.2]; exact hdl.1
    have g2 : m.1 21500 dl 0 = N := by rw [gg _ _ hdl.2.2.1 hdl.2.2.2]; exact hN.1
    have g3 : m.2.1 dd = 15 := by rw [kk _ hd.2.1]; exact hd.1
    have g4 : m.2.1 dl = 11500 := by rw [kk _ hdl.2.2.1]; exact hdl.2.1
    rw [← g1] at g2 g4
    clear hQ
    refine RDr [] [2900087] 20 ?_
    repeat' first | (refine ⟨fun _ => ?_, fun _ => ?_⟩ <;> try omega) | (refine ⟨by first | omega | rfl | assumption | (simp only [dst_1, dst_2, up3_ap, upd1_ap, Nat.reduceEqDiff, ↓reduceIte, eq_self] at * <;> omega) | fail, ?_⟩) | (exact fin) | (simp only [dst_1, dst_2, up3_ap, upd1_ap, Nat.reduceEqDiff, ↓reduceIte, eq_self] at *) | omega | fail
  · intro k k0 k1 ih m hP hB hB0
    have hPP := hP
    obtain ⟨⟨⟨p1, p1b, p1c, p1d⟩, p2, p3, p4, p5⟩, q, s, e, kk, gg⟩ := hP
    have g1 : m.1 1500 dd 0 = dl := by rw [gg _ _ hd.2.1 hd.2.2]; exact hdl.1
    have g2 : m.1 21500 dl 0 = N := by rw [gg _ _ hdl.2.2.1 hdl.2.2.2]; exact hN.1
    have g3 : m.2.1 dd = 15 := by rw [kk _ hd.2.1]; exact hd.1
    have g4 : m.2.1 dl = 11500 := by rw [kk _ hdl.2.2.1]; exact hdl.2.1
    have g5 : m.1 11500 dl k = m0.1 11500 dl k := by rw [gg _ _ hdl.2.2.1 hdl.2.2.2]
    have ak := ha k k0 k1
    have g6 : m.2.1 (m0.1 11500 dl k) = 16 := by rw [kk _ ak.2]; exact ak.1
    have g7 : m.1 1403 F 0 = el := q.2.2.2.1
    have g8 : m.1 21403 el 0 = k := s.2.2
    -- one more end
    have go : ∀ x, m.2.2.1 ≤ x → ∀ m5, m5 = dst (dst (dal m x 17 (((4 : Nat) : Int) + 4)) 1703 x 0 (-1)) 1700 x 0 (m0.1 11500 dl k) → (m5.2.1 el = 11403 ∧ m5.1 21403 el 0 = k ∧ m5.2.1 x = 17 ∧ m5.2.2.2 = m.2.2.2 - 8) ∧ RD (d + 2) 290 (87, [some (mR F), some (mI num), some (mR dd), some (mI ac), some (mI st), some (mI (k + 1))], [], dpy (dst (dst m5 11403 el k x) 21403 el 0 (k + 1)) (2 * k + 20)) Q := by
      intro x hx m5 hm5
      have dx := dal_x (m := m) (r := 0) (L := 0) (k := 17) (c := ((4 : Nat) : Int) + 4) hx
      have o5 : ∀ g b, b ≠ x → m5.1 g b = m.1 g b := fun g b hb => by
        rw [hm5, ds_o hb, ds_o hb]
        show (if b = x then (fun _ => 0) else m.1 g b) = _
        rw [if_neg hb]
      have k5 : ∀ b, b < m.2.2.1 → m5.2.1 b = m.2.1 b := fun b hb => by rw [hm5]; exact dx.1.2.1 b hb
      have kx : m5.2.1 x = 17 := by rw [hm5]; exact dx.2.2.1
      have n5 : m5.2.2.1 = x + 1 := by rw [hm5]; rfl
      have b5 : m5.2.2.2 = m.2.2.2 - 8 := by rw [hm5]; rfl
      have v0 : m5.1 1700 x 0 = m0.1 11500 dl k := by rw [hm5, dsz_0]
      have v1 : m5.1 1701 x 0 = 0 := by rw [hm5, ds_n (by decide), ds_n (by decide)]; exact dx.2.1 _ _
      have v2 : m5.1 1702 x 0 = 0 := by rw [hm5, ds_n (by decide), ds_n (by decide)]; exact dx.2.1 _ _
      have v3 : m5.1 1703 x 0 = -1 := by rw [hm5, ds_n (by decide), dsz_0]
      clear hm5
      refine ⟨⟨by rw [k5 el (by omega)]; exact p3, by rw [o5 _ _ (by omega)]; exact g8, kx, b5⟩, ?_⟩
      have o6 : ∀ g b, b ≠ el → (dpy (dst (dst m5 11403 el k x) 21403 el 0 (k + 1)) (2 * k + 20)).1 g b = m5.1 g b := fun g b hb => by
        show (dst (dst m5 11403 el k x) 21403 el 0 (k + 1)).1 g b = _
        rw [ds_o hb, ds_o hb]
      have e6 : ∀ i, (dpy (dst (dst m5 11403 el k x) 21403 el 0 (k + 1)) (2 * k + 20)).1 11403 el i = if i = k then x else m.1 11403 el i := fun i => by
        show (dst (dst m5 11403 el k x) 21403 el 0 (k + 1)).1 11403 el i = _
        rw [ds_n (by decide), ds_u, upd1_ap, o5 _ _ (by omega)]
      have s6 : (dpy (dst (dst m5 11403 el k x) 21403 el 0 (k + 1)) (2 * k + 20)).1 21403 el 0 = k + 1 := by
        show (dst (dst m5 11403 el k x) 21403 el 0 (k + 1)).1 21403 el 0 = _
        rw [dsz_0]
      have kk6 : (dpy (dst (dst m5 11403 el k x) 21403 el 0 (k + 1)) (2 * k + 20)).2.1 = m5.2.1 := rfl
      have nn6 : (dpy (dst (dst m5 11403 el k x) 21403 el 0 (k + 1)) (2 * k + 20)).2.2.1 = x + 1 := n5
      have bb6 : (dpy (dst (dst m5 11403 el k x) 21403 el 0 (k + 1)) (2 * k + 20)).2.2.2 = m.2.2.2 - 8 - (2 * k + 20) := by show m5.2.2.2 - _ = _; rw [b5]
      generalize dpy (dst (dst m5 11403 el k x) 21403 el 0 (k + 1)) (2 * k + 20) = m6 at *
      refine ih m6 ⟨⟨⟨p1, p1b, p1c, by omega⟩, by rw [kk6, k5 F (by omega)]; exact p2, by rw [kk6, k5 el (by omega)]; exact p3, by rw [kk6, k5 tl (by omega)]; exact p4, by rw [kk6, k5 pa (by omega)]; exact p5⟩, ?_, ⟨by rw [o6 _ _ (by omega), o5 _ _ (by omega)]; exact s.1, fun i => by rw [o6 _ _ (by omega), o5 _ _ (by omega)]; exact s.2.1 i, s6⟩, fun i i0 i1 => ?_, fun b hb => by rw [kk6, k5 b (by omega)]; exact kk b hb, fun g b hb hbF => by rw [o6 _ _ (by omega), o5 _ _ (by omega)]; exact gg g b hb hbF⟩ (by rw [bb6]; omega) hB0
      · have oF : ∀ g, m6.1 g F = m.1 g F := fun g => by rw [o6 _ _ (by omega), o5 _ _ (by omega)]
        rw [oF, oF, oF, oF, oF, oF, oF, oF, oF, oF, oF, oF]
        exact q
      · rw [e6]
        by_cases ei : i = k
        · rw [if_pos ei, ei]
          refine ⟨⟨by omega, by omega, by rw [kk6]; exact kx⟩, by rw [o6 _ _ (by omega), v0, hdl.1], by rw [o6 _ _ (by omega)]; exact v1, by rw [o6 _ _ (by omega)]; exact v2, by rw [o6 _ _ (by omega)]; exact v3, fun j j0 j1 hj => ?_⟩
          rw [e6] at hj
          by_cases ej : j = k
          · exact ej.symm
          · rw [if_neg ej] at hj
            have := (e j j0 (by omega)).1.2.1
            omega
        · rw [if_neg ei]
          obtain ⟨⟨z1, z2, z3⟩, z4, z5, z6, z7, z8⟩ := e i i0 (by omega)
          refine ⟨⟨z1, by omega, by rw [kk6, k5 _ z2]; exact z3⟩, by rw [o6 _ _ (by omega), o5 _ _ (by omega)]; exact z4, by rw [o6 _ _ (by omega), o5 _ _ (by omega)]; exact z5, by rw [o6 _ _ (by omega), o5 _ _ (by omega)]; exact z6, by rw [o6 _ _ (by omega), o5 _ _ (by omega)]; exact z7, fun j j0 j1 hj => ?_⟩
          rw [e6] at hj
          by_cases ej : j = k
          · rw [if_pos ej] at hj
            omega
          · rw [if_neg ej] at hj
            exact z8 j j0 (by omega) hj
    have h14 := p2
    have kal : ∀ x, m.2.2.1 ≤ x → ∀ m4, m4 = dal m x 17 (((4 : Nat) : Int) + 4) → m4.2.1 x = 17 ∧ m4.1 1500 dd 0 = dl ∧ m4.2.1 dd = 15 ∧ m4.2.1 dl = 11500 ∧ m4.1 21500 dl 0 = N ∧ m4.1 11500 dl k = m0.1 11500 dl k ∧ m4.2.1 (m0.1 11500 dl k) = 16 := by
      intro x hx m4 e4
      subst e4
      have dx := dal_x (m := m) (r := 0) (L := 0) (k := 17) (c := ((4 : Nat) : Int) + 4) hx
      have oo : ∀ g b, b < m.2.2.1 → (dal m x 17 (((4 : Nat) : Int) + 4)).1 g b = m.1 g b := fun g b hb => by
        show (if b = x then (fun _ => 0) else m.1 g b) = _
        rw [if_neg (by omega)]
      exact ⟨dx.2.2.1, by rw [oo _ _ (by omega)]; exact g1, by rw [dx.1.2.1 dd (by omega)]; exact g3, by rw [dx.1.2.1 _ (by omega)]; exact g4, by rw [oo _ _ (by omega)]; exact g2, by rw [oo _ _ (by omega)]; exact g5, by rw [dx.1.2.1 _ (by omega)]; exact g6⟩
    have st3 : ∀ x, m.2.2.1 ≤ x → RD (d + 2) 290 (122, [some (mR F), some (mI num), some (mR dd), some (mI ac), some (mI st), some (mI k)], [mR x, mR el], dst (dst (dal m x 17 (((4 : Nat) : Int) + 4)) 1703 x 0 (-1)) 1700 x 0 (m0.1 11500 dl k)) Q := by
      intro x hx
      obtain ⟨⟨a1, a2, a3, a4⟩, fin⟩ := go x hx _ rfl
      generalize dst (dst (dal m x 17 (((4 : Nat) : Int) + 4)) 1703 x 0 (-1)) 1700 x 0 (m0.1 11500 dl k) = m5 at *
      clear ih hQ hPP e gg kk go kal
      rw [← a2] at fin
      refine RDr [] [2900087] 20 ?_
      repeat' first | ((refine ⟨a1, ⟨by omega, by omega, Or.inr (by omega)⟩, ?_⟩)) | (refine ⟨fun _ => ?_, fun _ => ?_⟩ <;> try omega) | (refine ⟨by first | omega | rfl | assumption | (simp only [dst_1, dst_2, up3_ap, upd1_ap, Nat.reduceEqDiff, ↓reduceIte, eq_self] at * <;> omega) | fail, ?_⟩) | ((rw [a2] at fin ⊢; exact fin)) | (simp only [dst_1, dst_2, up3_ap, upd1_ap, Nat.reduceEqDiff, ↓reduceIte, eq_self] at *) | omega | fail
    have st2 : ∀ x, m.2.2.1 ≤ x → RD (d + 2) 290 (106, [some (mR F), some (mI num), some (mR dd), some (mI ac), some (mI st), some (mI k)], [mR x, mR el], dal m x 17 (((4 : Nat) : Int) + 4)) Q := by
      intro x hx
      obtain ⟨a1, a2, a3, a4, a5, a6, a7⟩ := kal x hx _ rfl
      have fin := st3 x hx
      clear ih hQ hPP e gg kk go kal st3
      generalize dal m x 17 (((4 : Nat) : Int) + 4) = m4 at *
      rw [← a6] at fin a7
      rw [← a2] at fin a7 a4 a5
      refine RDr [] [2900122] 20 ?_
      repeat' first | (refine hub_i (by dsimp only [kdD]; omega) (D_End a1 ?_)) | (refine ⟨fun _ => ?_, fun _ => ?_⟩ <;> try omega) | (refine ⟨by first | omega | rfl | assumption | (simp only [dst_1, dst_2, up3_ap, upd1_ap, Nat.reduceEqDiff, ↓reduceIte, eq_self] at * <;> omega) | fail, ?_⟩) | (exact fin) | (simp only [dst_1, dst_2, up3_ap, upd1_ap, Nat.reduceEqDiff, ↓reduceIte, eq_self] at *) | omega | fail
    clear ih hQ hPP e gg kk go kal st3
    rw [← g7] at st2
    rw [← g1] at g2 g4
    refine RDr [] [2900106] 20 ?_
    repeat' first | ((refine ⟨by show ((4 : Nat) : Int) + 4 ≤ _; omega, fun x hx => ?_⟩)) | (refine ⟨fun _ => ?_, fun _ => ?_⟩ <;> try omega) | (refine ⟨by first | omega | rfl | assumption | (simp only [dst_1, dst_2, up3_ap, upd1_ap, Nat.reduceEqDiff, ↓reduceIte, eq_self] at * <;> omega) | fail, ?_⟩) | (exact st2 x hx) | (simp only [dst_1, dst_2, up3_ap, upd1_ap, Nat.reduceEqDiff, ↓reduceIte, eq_self] at *) | omega | fail
end
