/-! THE DESK: readers, acts -/
set_option maxHeartbeats 3200000
set_option maxRecDepth 100000
section
variable {t : Int → Int} {n : Int} {nm : Nat} {ai r L lo : Int} {d : Nat} {m m0 m1 : mD} {Q : mQ mD}
abbrev dPostG (r : Int) (m0 : mD) (B : Int) (x : (Int × Int) ⊕ List Cl) (Q : mQ mD) : Prop := match x with
  | .inl (k, p) => ∀ w m', WQ r m0 k p (B - 800) w m' → Q (Sum.inr w) m'
  | .inr cs => ∀ a m', RX r 0 m0 m' → ACp m0.2.2.1 m'.2.2.1 m' a cs → B - 100 ≤ m'.2.2.2 → Q (rR a) m'
theorem D_act {f g : Nat} {q B : Int} {x1 x2 x3 : Option mV} {x : (Int × Int) ⊕ List Cl} (h : actC t n f g q [] = some x) (hS : DS t n 13 q 0 0 r m) (hB1 : 2100 ≤ B) (hB : B + 900 * (n - q) ≤ m.2.2.2) (hQ : dPostG r m B x Q) : RD (d + 64) 191 (0, [some (mR r), x1, x2, x3], [], m) Q := by
  have hq := hS.2.2.2.1
  have hr := hS.rb
  have go : ∀ a, m.2.2.1 ≤ a → (dal m a 3 (((4 : Nat) : Int) + 4)).2.1 a = 3 ∧ (dal m a 3 (((4 : Nat) : Int) + 4)).2.2.1 = a + 1 ∧ (dal m a 3 (((4 : Nat) : Int) + 4)).2.2.2 = m.2.2.2 - 8 ∧ ∀ l hh m1, actN a l hh (dal m a 3 (((4 : Nat) : Int) + 4)) m1 → RD (d + 64) 191 (8, [some (mR r), some (mR a), x2, x3], [], m1) Q := by
    intro a ha
    have dx := dal_x (r := r) (L := 0) (k := 3) (c := ((4 : Nat) : Int) + 4) ha
    refine ⟨dx.2.2.1, dx.2.2.2.1, dx.2.2.2.2, fun l hh m1 hm => ?_⟩
    obtain ⟨⟨e1, e2, e3⟩, ⟨e4, e5⟩, e6, ⟨e7, e8, e9, e10⟩, ⟨h0, h1, h2, h3, h4, h5⟩, e11, e12⟩ := hm
    have nxa := dx.2.2.2.1
    have same : ∀ g b, b < m.2.2.1 → m1.1 g b = m.1 g b := fun g b hb => by
      rw [e12 g b (by omega) (by omega)]
      show (if b = a then (fun _ => 0) else m.1 g b) = _
      rw [if_neg (by omega)]
    have X : RX r 0 m m1 := ⟨by omega, fun b hb => by rw [e6 b (by omega)]; exact dx.1.2.1 b hb, fun g b hb => Or.inl (same g b hb)⟩
    have S : DS t n 13 q 0 0 r m1 := hS.y X (by omega) (fun g _ => same g r hr.2)
    have A : ACp m.2.2.1 m1.2.2.1 m1 a [] := by
      unfold ACp
      rw [e8, e9]
      refine ⟨⟨by omega, by rw [e6 a (by omega)]; exact dx.2.2.1, e4, e5⟩, by rw [e10]; exact dx.2.1 303 0, fun w w0 w1 => ?_, e7, fun i hi => absurd hi (Nat.not_lt_zero _)⟩
      have hw : w = 0 ∨ w = 1 ∨ w = 2 ∨ w = 3 ∨ w = 4 ∨ w = 5 := by omega
      rcases hw with z | z | z | z | z | z <;> subst z
      · exact h0
      · exact h1
      · exact h2
      · exact h3
      · exact h4
      · exact h5
    refine D_actL (m0 := m) (B := B - 31) (x2 := x2) (x3 := x3) hr.2 (by omega) ?_ g q [] m1 x2 x3 h S X A ⟨by show ((0 : Nat) : Int) ≤ _; omega, by show 0 ≤ 20; omega, fun c hc => by cases hc⟩ (by rw [e11, dx.2.2.2.2]; show _ ≤ m.2.2.2 - (((4 : Nat) : Int) + 4) - 23; omega)
    rcases x with ⟨k, p⟩ | cs
    · exact fun w m' g1 => hQ w m' (g1.le (by omega))
    · exact fun m' X' D' B' => hQ a m' X' D' (by omega)
  clear hQ
  refine RDr [] [1910008] 20 ?_
  repeat' first | ((refine ⟨by show ((4 : Nat) : Int) + 4 ≤ _; omega, fun a ha => ?_⟩; obtain ⟨z1, z2, z3, z4⟩ := go a ha)) | (refine hub_i (by dsimp only [kdD]; omega) (D_ActI z1 (by omega) (by omega) (fun l hh m1 hm => ?_))) | (refine ⟨fun _ => ?_, fun _ => ?_⟩ <;> try omega) | (refine ⟨by first | omega | rfl | assumption | (simp only [dst_1, dst_2, up3_ap, upd1_ap, Nat.reduceEqDiff, ↓reduceIte, eq_self] at * <;> omega) | fail, ?_⟩) | (exact z4 l hh m1 hm) | (simp only [dst_1, dst_2, up3_ap, upd1_ap, Nat.reduceEqDiff, ↓reduceIte, eq_self] at *) | omega | fail
/-- the tape -/
def tpe (t : Int → Int) (n : Int) (m : mD) : Prop := (∀ i, 0 ≤ i → i < n → m.1 10106 1005 i = t i ∧ -128 ≤ t i ∧ t i ≤ 127) ∧ (0 ≤ n ∧ n ≤ 400)
theorem D_RdI {nn : Int} (hT : tpe t n m) (hn : nn = (nm : Int)) (hk : m.2.1 r = 4) (hz : m.1 402 r 0 = 0 ∧ m.1 403 r 0 = 0 ∧ m.1 405 r 0 = 0 ∧ m.1 409 r 0 = 0) (hr : 1075 < r ∧ r < m.2.2.1) (hQ : ∀ m', (m'.2 = m.2 ∧ ∀ g b, b ≠ r → m'.1 g b = m.1 g b) → DS t n nm (sk t n 0) 0 0 r m' → Q rV m') : RD (d + 3) 188 (0, [some (mR r), some (mR 1005), some (mI n), some (mI nn)], [], m) Q := by
  have kz : m.2.1 r ≠ 0 := by omega
  have oo : ∀ g, g ≠ 400 → g ≠ 401 → g ≠ 406 → (dst (dst (dst m 400 r 0 1005) 401 r 0 n) 406 r 0 nn).1 g = m.1 g := fun g a b c => by rw [ds_n c, ds_n b, ds_n a]
  have T1 : DT t n r (dst (dst (dst m 400 r 0 1005) 401 r 0 n) 406 r 0 nn) := ⟨hk, by rw [ds_n (by decide), ds_n (by decide), dsz_0], by rw [ds_n (by decide), dsz_0], by rw [oo _ (by decide) (by decide) (by decide)]; exact hT.1, hT.2.2⟩
  have e6 : (dst (dst (dst m 400 r 0 1005) 401 r 0 n) 406 r 0 nn).1 406 r 0 = (nm : Int) := by rw [dsz_0]; exact hn
  have z1 : (dst (dst (dst m 400 r 0 1005) 401 r 0 n) 406 r 0 nn).1 402 r 0 = 0 ∧ (dst (dst (dst m 400 r 0 1005) 401 r 0 n) 406 r 0 nn).1 403 r 0 = 0 ∧ (dst (dst (dst m 400 r 0 1005) 401 r 0 n) 406 r 0 nn).1 405 r 0 = 0 ∧ (dst (dst (dst m 400 r 0 1005) 401 r 0 n) 406 r 0 nn).1 409 r 0 = 0 := by rw [oo _ (by decide) (by decide) (by decide), oo _ (by decide) (by decide) (by decide), oo _ (by decide) (by decide) (by decide), oo _ (by decide) (by decide) (by decide)]; exact hz
  have o1 : ∀ g b, b ≠ r → (dst (dst (dst m 400 r 0 1005) 401 r 0 n) 406 r 0 nn).1 g b = m.1 g b := fun g b hb => by rw [ds_o hb, ds_o hb, ds_o hb]
  have b1 : (dst (dst (dst m 400 r 0 1005) 401 r 0 n) 406 r 0 nn).2 = m.2 := rfl
  have nxt : RD (d + 3) 188 (19, [some (mR r), some (mR 1005), some (mI n), some (mI nn)], [], dst (dst (dst m 400 r 0 1005) 401 r 0 n) 406 r 0 nn) Q := by
    generalize dst (dst (dst m 400 r 0 1005) 401 r 0 n) 406 r 0 nn = m2 at *
    have kr2 := T1.1
    have hsk := sk_b (t := t) (n := n) (k := 0) hT.2.1
    have fin : ∀ m', RC r m2 m' → DK t n (sk t n 0) r m' → Q rV m' := by
      intro m' c1 k1
      refine hQ m' ⟨by rw [c1.1]; exact b1, fun g b hb => ?_⟩ ⟨T1.c c1, k1, ⟨by rw [c1.n (by decide)]; exact z1.2.2.1, by rw [c1.n (by decide)]; exact e6, by rw [c1.n (by decide)]; exact z1.2.2.2⟩, by omega, by omega, by rw [c1.1, b1]; exact hr⟩
      rcases c1.2 g b with z | z
      · rw [z, o1 g b hb]
      · exact absurd z.1 hb
    clear hQ
    refine RDr [] [] 10 ?_
    repeat' first | (refine hub_i (by dsimp only [kdD]; omega) (D_cut (p := 0) T1 (by omega) (by omega) (fun m' c1 k1 => ?_))) | (refine ⟨fun _ => ?_, fun _ => ?_⟩ <;> try omega) | (refine ⟨by first | omega | rfl | assumption | (simp only [dst_1, dst_2, up3_ap, upd1_ap, Nat.reduceEqDiff, ↓reduceIte, eq_self] at * <;> omega) | fail, ?_⟩) | (exact fin m' c1 k1) | (simp only [dst_1, dst_2, up3_ap, upd1_ap, Nat.reduceEqDiff, ↓reduceIte, eq_self] at *) | omega | fail
  clear hQ T1 e6 z1 o1 b1 oo
  refine RDr [] [1880019] 20 ?_
  repeat' first | (refine ⟨fun _ => ?_, fun _ => ?_⟩ <;> try omega) | (refine ⟨by first | omega | rfl | assumption | (simp only [dst_1, dst_2, up3_ap, upd1_ap, Nat.reduceEqDiff, ↓reduceIte, eq_self] at * <;> omega) | fail, ?_⟩) | (exact nxt) | (simp only [dst_1, dst_2, up3_ap, upd1_ap, Nat.reduceEqDiff, ↓reduceIte, eq_self] at *) | omega | fail
/-- the tape is empty then -/
abbrev rdM (m : mD) : mD := dst (dst m 107 1000 0 0) 108 1000 0 (-1)
theorem D_reads {nn : Int} {x2 : Option mV} (hT : tpe t n m) (h7 : m.1 107 1000 0 = n) (hn : nn = (nm : Int)) (hB : 14 ≤ m.2.2.2) (hnx : 1076 ≤ m.2.2.1) (hQ : ∀ r m', m.2.2.1 ≤ r → Ex (rdM m) m' 14 → DS t n nm (sk t n 0) 0 0 r m' → Q (rR r) m') : RD (d + 4) 10 (0, [some (mR 1000), some (mI nn), x2], [], m) Q := by
  have T1 : tpe t n (rdM m) := ⟨by show ∀ i, 0 ≤ i → i < n → (rdM m).1 10106 1005 i = t i ∧ _; rw [ds_o (by decide), ds_o (by decide)]; exact hT.1, hT.2⟩
  have go : ∀ r, m.2.2.1 ≤ r → (dal (rdM m) r 4 (((10 : Nat) : Int) + 4)).2.1 r = 4 ∧ ∀ m', (m'.2 = (dal (rdM m) r 4 (((10 : Nat) : Int) + 4)).2 ∧ ∀ g b, b ≠ r → m'.1 g b = (dal (rdM m) r 4 (((10 : Nat) : Int) + 4)).1 g b) → DS t n nm (sk t n 0) 0 0 r m' → Q (rR r) m' := by
    intro r hr
    have dx := dal_x (m := rdM m) (r := r) (L := 0) (k := 4) (c := ((10 : Nat) : Int) + 4) hr
    refine ⟨dx.2.2.1, fun m' hm S => hQ r m' hr ⟨by rw [hm.1]; show m.2.2.1 ≤ r + 1; omega, fun g b hb => ?_, fun b hb => by rw [hm.1]; exact dx.1.2.1 b hb, by rw [hm.1, dx.2.2.2.2]; show m.2.2.2 - 14 ≤ m.2.2.2 - (((10 : Nat) : Int) + 4); omega⟩ S⟩
    have hb : b < m.2.2.1 := hb
    rw [hm.2 g b (by omega)]
    show (if b = r then (fun _ => 0) else (rdM m).1 g b) = _
    rw [if_neg (by omega)]
  have T2 : ∀ r, m.2.2.1 ≤ r → tpe t n (dal (rdM m) r 4 (((10 : Nat) : Int) + 4)) := fun r hr => ⟨by
    show ∀ i, 0 ≤ i → i < n → (if (1005 : Int) = r then (fun _ => 0) else (rdM m).1 10106 1005) i = t i ∧ _
    rw [if_neg (by omega)]
    exact T1.1, T1.2⟩
  have z2 : ∀ r, m.2.2.1 ≤ r → (dal (rdM m) r 4 (((10 : Nat) : Int) + 4)).1 402 r 0 = 0 ∧ (dal (rdM m) r 4 (((10 : Nat) : Int) + 4)).1 403 r 0 = 0 ∧ (dal (rdM m) r 4 (((10 : Nat) : Int) + 4)).1 405 r 0 = 0 ∧ (dal (rdM m) r 4 (((10 : Nat) : Int) + 4)).1 409 r 0 = 0 := fun r hr => by
    have dx := dal_x (m := rdM m) (r := r) (L := 0) (k := 4) (c := ((10 : Nat) : Int) + 4) hr
    exact ⟨dx.2.1 _ _, dx.2.1 _ _, dx.2.1 _ _, dx.2.1 _ _⟩
  subst h7
  clear hQ hT
  refine RDr [] [] 40 ?_
  repeat' first | ((refine ⟨by show ((10 : Nat) : Int) + 4 ≤ m.2.2.2; omega, fun r hr => ?_⟩; obtain ⟨g1, g2⟩ := go r hr; have g1' : (dal (dst (dst m 107 1000 0 0) 108 1000 0 (-1)) r 4 (((10 : Nat) : Int) + 4)).2.1 r = 4 := g1; have g3 := T2 r hr; have g4 := z2 r hr)) | (refine hub_i (by dsimp only [kdD]; omega) (D_RdI g3 hn g1 g4 ⟨by show 1075 < r; have : m.2.2.1 ≤ r := hr; omega, by show r < r + 1; omega⟩ (fun m' hm S => ?_))) | (refine ⟨fun _ => ?_, fun _ => ?_⟩ <;> try omega) | (refine ⟨by first | omega | rfl | assumption | (simp only [dst_1, dst_2, up3_ap, upd1_ap, Nat.reduceEqDiff, ↓reduceIte, eq_self] at * <;> omega) | fail, ?_⟩) | (exact g2 m' hm S) | (simp only [dst_1, dst_2, up3_ap, upd1_ap, Nat.reduceEqDiff, ↓reduceIte, eq_self] at *) | omega | fail
theorem D_wrong {w : Int} (hk : m.2.1 w = 5) (hv : 1 ≤ m.1 506 w 0 ∧ m.1 506 w 0 ≤ 4) (hw : w ≠ 1000) (hQ : Q (rI (-1 - m.1 506 w 0)) (dst m 108 1000 0 (m.1 507 w 0))) : RD d 11 (0, [some (mR 1000), some (mR w)], [], m) Q := by
  have e : (dst m 108 1000 0 (m.1 507 w 0)).1 506 w 0 = m.1 506 w 0 := by rw [ds_n (by decide)]
  have k2 : (dst m 108 1000 0 (m.1 507 w 0)).2.1 w = 5 := hk
  rw [← e] at hQ hv
  refine RDr [] [] 20 ?_
  repeat' first | ((refine ⟨⟨Nat.le_of_eq k2.symm, Nat.le_of_eq k2⟩, ?_⟩)) | (refine ⟨fun _ => ?_, fun _ => ?_⟩ <;> try omega) | (refine ⟨by first | omega | rfl | assumption | (simp only [dst_1, dst_2, up3_ap, upd1_ap, Nat.reduceEqDiff, ↓reduceIte, eq_self] at * <;> omega) | fail, ?_⟩) | (exact hQ) | (simp only [dst_1, dst_2, up3_ap, upd1_ap, Nat.reduceEqDiff, ↓reduceIte, eq_self] at *) | omega | fail
end
