/-! THE DESK: Fund.<init>, fund -/
set_option maxHeartbeats 3200000
set_option maxRecDepth 100000
section
variable {t : Int → Int} {n : Int} {nm : Nat} {ai r L lo : Int} {d : Nat} {m m0 m1 : mD} {Q : mQ mD}
abbrev fdM (m : mD) (F num dd ac st : Int) : mD := dst (dst (dst (dst (dst (dst (dst m 1400 F 0 num) 1406 F 0 ac) 1407 F 0 st) 1401 F 0 (m.1 1502 dd 0)) 1402 F 0 (m.1 1503 dd 0)) 1408 F 0 (m.1 1501 dd 0)) 11405 (m.1 1405 F 0) num 1000000
theorem D_fd3 {F num dd ac st : Int} {x5 : Option mV} (hF : m.2.1 F = 14) (hd : m.2.1 dd = 15) (hp : m.2.1 (m.1 1405 F 0) = 11405) (hn : 0 ≤ num ∧ num < 12) (hQ : RD (d + 2) 290 (87, [some (mR F), some (mI num), some (mR dd), some (mI ac), some (mI st), some (mI 0)], [], fdM m F num dd ac st) Q) : RD (d + 2) 290 (36, [some (mR F), some (mI num), some (mR dd), some (mI ac), some (mI st), x5], [], m) Q := by
  refine RDr [] [2900087] 40 ?_
  repeat' first | ((refine ⟨hp, ⟨by omega, by omega⟩, ?_⟩)) | (refine ⟨fun _ => ?_, fun _ => ?_⟩ <;> try omega) | (refine ⟨by first | omega | rfl | assumption | (simp only [dst_1, dst_2, up3_ap, upd1_ap, Nat.reduceEqDiff, ↓reduceIte, eq_self] at * <;> omega) | fail, ?_⟩) | (exact hQ) | (simp only [dst_1, dst_2, up3_ap, upd1_ap, Nat.reduceEqDiff, ↓reduceIte, eq_self] at *) | omega | fail
theorem D_Fund {F num dd ac st dl N : Int} {x5 : Option mV} (hk : m0.2.1 F = 14) (hF : F < m0.2.2.1 ∧ 1075 < F) (hn : 0 ≤ num ∧ num < 12) (hd : m0.2.1 dd = 15 ∧ dd < m0.2.2.1 ∧ dd ≠ F) (hdl : m0.1 1500 dd 0 = dl ∧ m0.2.1 dl = 11500 ∧ dl < m0.2.2.1 ∧ dl ≠ F) (hN : m0.1 21500 dl 0 = N ∧ 0 ≤ N ∧ N ≤ 6) (ha : ∀ i, 0 ≤ i → i < N → m0.2.1 (m0.1 11500 dl i) = 16 ∧ m0.1 11500 dl i < m0.2.2.1) (hB : 1000 ≤ m0.2.2.2) (hQ : ∀ el tl pa m', FNp m0 F num dd ac st el tl pa N m' → m0.2.2.2 - 500 ≤ m'.2.2.2 → Q rV m') : RD (d + 2) 290 (0, [some (mR F), some (mI num), some (mR dd), some (mI ac), some (mI st), x5], [], m0) Q := by
  have s3 : ∀ el tl pa m1 m2 m3, newL 1403 11403 21403 F el m0 m1 → newL 1404 11404 21404 F tl m1 m2 → (m2.2.2.1 ≤ pa ∧ m3 = dst (dal m2 pa 11405 (((12 : Nat) : Int) + 4)) 1405 F 0 pa) → RD (d + 2) 290 (36, [some (mR F), some (mI num), some (mR dd), some (mI ac), some (mI st), x5], [], m3) Q := by
    intro el tl pa m1 m2 m3 h1 h2 h3
    obtain ⟨⟨a1, a2, a3⟩, ⟨a4, a5⟩, ⟨a6, a7⟩, a8, a9⟩ := h1
    obtain ⟨⟨b1, b2, b3⟩, ⟨b4, b5⟩, ⟨b6, b7⟩, b8, b9⟩ := h2
    obtain ⟨c1, e3⟩ := h3
    have dx := dal_x (m := m2) (r := 0) (L := 0) (k := 11405) (c := ((12 : Nat) : Int) + 4) c1
    have oo : ∀ g b, b < m2.2.2.1 → (dal m2 pa 11405 (((12 : Nat) : Int) + 4)).1 g b = m2.1 g b := fun g b hb => by
      show (if b = pa then (fun _ => 0) else m2.1 g b) = _
      rw [if_neg (by omega)]
    have k3 : ∀ b, b < m2.2.2.1 → m3.2.1 b = m2.2.1 b := fun b hb => by rw [e3]; exact dx.1.2.1 b hb
    have kp : m3.2.1 pa = 11405 := by rw [e3]; exact dx.2.2.1
    have f3 : m3.1 1405 F 0 = pa := by rw [e3, dsz_0]
    have o3 : ∀ g b, b < m2.2.2.1 → b ≠ F → m3.1 g b = m2.1 g b := fun g b hb hbF => by rw [e3, ds_o hbF, oo g b hb]
    have z3 : ∀ i, m3.1 11405 pa i = 0 := fun i => by rw [e3, ds_n (by decide)]; exact dx.2.1 _ _
    have q3 : ∀ g, g ≠ 1405 → m3.1 g F = m2.1 g F := fun g hg => by rw [e3, ds_n hg, oo g F (by omega)]
    have n3 : m3.2.2.1 = pa + 1 := by rw [e3]; rfl
    have B3 : m3.2.2.2 = m2.2.2.2 - 16 := by rw [e3]; rfl
    have kF : m3.2.1 F = 14 := by rw [k3 F (by omega), b5 F (by omega), a5 F (by omega)]; exact hk
    have kd : m3.2.1 dd = 15 := by rw [k3 dd (by omega), b5 dd (by omega), a5 dd (by omega)]; exact hd.1
    have od : ∀ g, m3.1 g dd = m0.1 g dd := fun g => by rw [o3 g dd (by omega) hd.2.2, b9 g dd (by omega) hd.2.2, a9 g dd (by omega) hd.2.2]
    clear e3
    refine D_fd3 kF kd (by rw [f3]; exact kp) hn ?_
    refine D_fdL (m0 := m0) (el := el) (tl := tl) (pa := pa) hF hd hdl hN ha (hQ el tl pa) 0 (by omega) (by omega) _ ?_ ?_ hB
    · show FNp m0 F num dd ac st el tl pa 0 (dst (dst (dst (dst (dst (dst (dst m3 1400 F 0 num) 1406 F 0 ac) 1407 F 0 st) 1401 F 0 (m3.1 1502 dd 0)) 1402 F 0 (m3.1 1503 dd 0)) 1408 F 0 (m3.1 1501 dd 0)) 11405 (m3.1 1405 F 0) num 1000000)
      rw [f3]
      have g1 : ∀ g b, b ≠ F → b ≠ pa → (dst (dst (dst (dst (dst (dst (dst m3 1400 F 0 num) 1406 F 0 ac) 1407 F 0 st) 1401 F 0 (m3.1 1502 dd 0)) 1402 F 0 (m3.1 1503 dd 0)) 1408 F 0 (m3.1 1501 dd 0)) 11405 pa num 1000000).1 g b = m3.1 g b := fun g b h1 h2 => by
        rw [ds_o h2, ds_o h1, ds_o h1, ds_o h1, ds_o h1, ds_o h1, ds_o h1]
      refine ⟨⟨⟨by omega, by omega, by omega, by show pa < m3.2.2.1; omega⟩, kF, by show m3.2.1 el = _; rw [k3 el (by omega), b5 el (by omega)]; exact a4, by show m3.2.1 tl = _; rw [k3 tl (by omega)]; exact b4, kp⟩, ?_, ⟨?_, fun i => ?_, ?_⟩, fun i i0 i1 => by omega, fun b hb => ?_, fun g b hb hbF => ?_⟩
      · have w : ∀ g, g ≠ 1403 → g ≠ 1404 → g ≠ 1405 → m3.1 g F = m0.1 g F := fun g h1 h2 h3 => by rw [q3 g h3, b8 g h2, a8 g h1]
        have fp : F ≠ pa := by omega
        refine ⟨?_, ?_, ?_, ?_, ?_, ?_, ?_, ?_, ?_, ?_, ?_, ?_⟩
        · rw [ds_n (by decide), ds_n (by decide), ds_n (by decide), ds_n (by decide), ds_n (by decide), ds_n (by decide), dsz_0]
        · rw [ds_n (by decide), ds_n (by decide), ds_n (by decide), dsz_0, od]
        · rw [ds_n (by decide), ds_n (by decide), dsz_0, od]
        · rw [ds_n (by decide), ds_n (by decide), ds_n (by decide), ds_n (by decide), ds_n (by decide), ds_n (by decide), ds_n (by decide), q3 _ (by decide), b8 _ (by decide)]
          exact a7
        · rw [ds_n (by decide), ds_n (by decide), ds_n (by decide), ds_n (by decide), ds_n (by decide), ds_n (by decide), ds_n (by decide), q3 _ (by decide)]
          exact b7
        · rw [ds_n (by decide), ds_n (by decide), ds_n (by decide), ds_n (by decide), ds_n (by decide), ds_n (by decide), ds_n (by decide)]
          exact f3
        · rw [ds_n (by decide), ds_n (by decide), ds_n (by decide), ds_n (by decide), ds_n (by decide), dsz_0]
        · rw [ds_n (by decide), ds_n (by decide), ds_n (by decide), ds_n (by decide), dsz_0]
        · rw [ds_n (by decide), dsz_0, od]
        · rw [ds_n (by decide), ds_n (by decide), ds_n (by decide), ds_n (by decide), ds_n (by decide), ds_n (by decide), ds_n (by decide), w _ (by decide) (by decide) (by decide)]
        · rw [ds_n (by decide), ds_n (by decide), ds_n (by decide), ds_n (by decide), ds_n (by decide), ds_n (by decide), ds_n (by decide), w _ (by decide) (by decide) (by decide)]
        · rw [ds_n (by decide), ds_n (by decide), ds_n (by decide), ds_n (by decide), ds_n (by decide), ds_n (by decide), ds_n (by decide), w _ (by decide) (by decide) (by decide)]
      · rw [g1 _ _ (by omega) (by omega), o3 _ _ (by omega) (by omega)]
        exact b6
      · rw [ds_u, upd1_ap, ds_n (by decide), ds_n (by decide), ds_n (by decide), ds_n (by decide), ds_n (by decide), ds_n (by decide), z3]
      · rw [g1 _ _ (by omega) (by omega), o3 _ _ (by omega) (by omega), b9 _ _ (by omega) (by omega)]
        exact a6
      · show m3.2.1 b = _
        rw [k3 b (by omega), b5 b (by omega), a5 b hb]
      · rw [g1 _ _ hbF (by omega), o3 _ _ (by omega) hbF, b9 _ _ (by omega) hbF, a9 _ _ hb hbF]
    · show _ ≤ m3.2.2.2
      omega
  have s2 : ∀ el tl m1 m2, newL 1403 11403 21403 F el m0 m1 → newL 1404 11404 21404 F tl m1 m2 → RD (d + 2) 290 (28, [some (mR F), some (mI num), some (mR dd), some (mI ac), some (mI st), x5], [], m2) Q := by
    intro el tl m1 m2 h1 h2
    have s3 := fun pa m3 h3 => s3 el tl pa m1 m2 m3 h1 h2 h3
    obtain ⟨⟨a1, a2, a3⟩, ⟨a4, a5⟩, ⟨a6, a7⟩, a8, a9⟩ := h1
    obtain ⟨⟨b1, b2, b3⟩, ⟨b4, b5⟩, ⟨b6, b7⟩, b8, b9⟩ := h2
    have kF : m2.2.1 F = 14 := by rw [b5 F (by omega), a5 F (by omega)]; exact hk
    have kF' : ∀ pa, m2.2.2.1 ≤ pa → 14 ≤ (dal m2 pa 11405 (((12 : Nat) : Int) + 4)).2.1 F ∧ (dal m2 pa 11405 (((12 : Nat) : Int) + 4)).2.1 F ≤ 14 := fun pa hp => by
      rw [(dal_x (m := m2) (r := 0) (L := 0) (k := 11405) (c := ((12 : Nat) : Int) + 4) hp).1.2.1 F (by omega), kF]; omega
    clear hQ a9 b9 a8 b8 a5 b5
    refine RDr [] [2900036] 20 ?_
    repeat' first | ((refine ⟨rfl, by show ((12 : Nat) : Int) + 4 ≤ _; omega, fun pa hpa => ?_⟩)) | ((refine ⟨kF' pa hpa, ?_⟩)) | (refine ⟨fun _ => ?_, fun _ => ?_⟩ <;> try omega) | (refine ⟨by first | omega | rfl | assumption | (simp only [dst_1, dst_2, up3_ap, upd1_ap, Nat.reduceEqDiff, ↓reduceIte, eq_self] at * <;> omega) | fail, ?_⟩) | (exact s3 pa _ ⟨hpa, rfl⟩) | (simp only [dst_1, dst_2, up3_ap, upd1_ap, Nat.reduceEqDiff, ↓reduceIte, eq_self] at *) | omega | fail
  have s1 : ∀ el m1, newL 1403 11403 21403 F el m0 m1 → RD (d + 2) 290 (16, [some (mR F), some (mI num), some (mR dd), some (mI ac), some (mI st), x5], [], m1) Q := by
    intro el m1 h1
    have s2 := fun tl m2 h2 => s2 el tl m1 m2 h1 h2
    obtain ⟨⟨a1, a2, a3⟩, ⟨a4, a5⟩, ⟨a6, a7⟩, a8, a9⟩ := h1
    have kF : m1.2.1 F = 14 := by rw [a5 F (by omega)]; exact hk
    have mk := fun l hl => nl_mk (m := m1) (g := 1404) (R := 11404) (R' := 21404) (F := F) (l := l) (by omega) hl (by decide)
    have kl : ∀ l, (dal m1 l 99 7).2.1 l = 99 := fun l => by show (if l = l then 99 else _) = _; rw [if_pos rfl]
    have kF2 : ∀ l, m1.2.2.1 ≤ l → 14 ≤ (dst (dkd (dal m1 l 99 7) l 11404 (2 + 4)) 21404 l 0 0).2.1 F ∧ (dst (dkd (dal m1 l 99 7) l 11404 (2 + 4)) 21404 l 0 0).2.1 F ≤ 14 := fun l hl => by
      have : (dst (dkd (dal m1 l 99 7) l 11404 (2 + 4)) 21404 l 0 0).2.1 F = 14 := by
        show (if F = l then _ else if F = l then _ else m1.2.1 F) = 14
        rw [if_neg (by omega), if_neg (by omega), kF]
      omega
    clear hQ s3 a5 a8 a9
    refine RDr [] [2900028] 20 ?_
    repeat' first | ((refine ⟨by omega, fun l hl => ?_⟩)) | ((refine ⟨kl l, ⟨by omega, by omega⟩, by show (2 : Int) + 4 ≤ m1.2.2.2 - 7; omega, ?_⟩)) | ((refine ⟨kF2 l hl, ?_⟩)) | (refine ⟨fun _ => ?_, fun _ => ?_⟩ <;> try omega) | (refine ⟨by first | omega | rfl | assumption | (simp only [dst_1, dst_2, up3_ap, upd1_ap, Nat.reduceEqDiff, ↓reduceIte, eq_self] at * <;> omega) | fail, ?_⟩) | (exact s2 l _ (mk l hl)) | (simp only [dst_1, dst_2, up3_ap, upd1_ap, Nat.reduceEqDiff, ↓reduceIte, eq_self] at *) | omega | fail
  have mk := fun l hl => nl_mk (m := m0) (g := 1403) (R := 11403) (R' := 21403) (F := F) (l := l) (by omega) hl (by decide)
  have kl : ∀ l, (dal m0 l 99 7).2.1 l = 99 := fun l => by show (if l = l then 99 else _) = _; rw [if_pos rfl]
  have kF2 : ∀ l, m0.2.2.1 ≤ l → 14 ≤ (dst (dkd (dal m0 l 99 7) l 11403 (2 + 4)) 21403 l 0 0).2.1 F ∧ (dst (dkd (dal m0 l 99 7) l 11403 (2 + 4)) 21403 l 0 0).2.1 F ≤ 14 := fun l hl => by
    have : (dst (dkd (dal m0 l 99 7) l 11403 (2 + 4)) 21403 l 0 0).2.1 F = 14 := by
      show (if F = l then _ else if F = l then _ else m0.2.1 F) = 14
      rw [if_neg (by omega), if_neg (by omega), hk]
    omega
  have kz : m0.2.1 F ≠ 0 := by omega
  clear hQ s3 s2 ha
  refine RDr [] [2900016] 20 ?_
  repeat' first | ((refine ⟨by omega, fun l hl => ?_⟩)) | ((refine ⟨kl l, ⟨by omega, by omega⟩, by show (2 : Int) + 4 ≤ m0.2.2.2 - 7; omega, ?_⟩)) | ((refine ⟨kF2 l hl, ?_⟩)) | (refine ⟨fun _ => ?_, fun _ => ?_⟩ <;> try omega) | (refine ⟨by first | omega | rfl | assumption | (simp only [dst_1, dst_2, up3_ap, upd1_ap, Nat.reduceEqDiff, ↓reduceIte, eq_self] at * <;> omega) | fail, ?_⟩) | (exact s1 l _ (mk l hl)) | (simp only [dst_1, dst_2, up3_ap, upd1_ap, Nat.reduceEqDiff, ↓reduceIte, eq_self] at *) | omega | fail
end
