/-! THE DESK READS an end: its name -/
set_option maxHeartbeats 3200000
set_option maxRecDepth 100000
section
variable {t : Int → Int} {n : Int} {nm : Nat} {ai r L lo0 : Int} {d : Nat} {m m0 m1 : mD} {Q : mQ mD}
theorem zi2c_y {x : Int} (h : 0 ≤ x ∧ x ≤ 255) : zi2c x = x := by unfold zi2c; omega
theorem byd_b {k : Int} (hT : DT t n r m) (hk : 0 ≤ k) : 0 ≤ byd t n k ∧ byd t n k ≤ 255 := by
  have := hT.by hk
  unfold byd
  split <;> omega
theorem DS.ag {q o : Int} (h : DS t n nm q o ai r m) (h1 : ∀ g, m1.1 g r = m.1 g r) (h2 : m1.1 10106 1005 = m.1 10106 1005) (h3 : m1.2.1 r = m.2.1 r) (h4 : m.2.2.1 ≤ m1.2.2.1) : DS t n nm q o ai r m1 := by
  obtain ⟨⟨a1, a2, a3, a4, a5⟩, ⟨b1, b2, b3, b4, b5⟩, ⟨c1, c2, c3⟩, hq, ho2, hr1⟩ := h
  exact ⟨⟨by rw [h3]; exact a1, by rw [h1]; exact a2, by rw [h1]; exact a3, by rw [h2]; exact a4, a5⟩, ⟨by rw [h1]; exact b1, by rw [h1]; exact b2, by rw [h1]; exact b3, by rw [h1]; exact b4, by rw [h1]; exact b5⟩, ⟨by rw [h1]; exact c1, by rw [h1]; exact c2, by rw [h1]; exact c3⟩, hq, ho2, by omega⟩
/-- a name: so many signs, the bytes from q on -/
def NMs (t : Int → Int) (n : Int) (m : mD) (s q k : Int) : Prop := m.2.1 s = 27 ∧ m.1 22700 s 0 = k ∧ ∀ i, 0 ≤ i → i < k → m.1 12700 s i = byd t n (q + i)
/-- the builder's loop -/
theorem D_bld {q o dd b : Int} {x4 : Option mV} (hq8 : tke t n q - q ≤ 8) : ∀ (j : Nat) (k : Int) (m : mD), k + j = tke t n q - q → 0 ≤ k → DS t n nm q o ai r m → m.2.1 b = 12500 → (m0.2.2.1 ≤ b ∧ b < m.2.2.1) → RX r 0 m0 m → r < m0.2.2.1 → m.1 22500 b 0 = k → (∀ i, 0 ≤ i → i < k → m.1 12500 b i = byd t n (q + i)) → 100 ≤ m.2.2.2 →
    (∀ s m', RX r 0 m0 m' → DS t n nm q o ai r m' → (m0.2.2.1 ≤ s ∧ s < m'.2.2.1) → NMs t n m' s q (tke t n q - q) → m.2.2.2 - 20 ≤ m'.2.2.2 → RD (d + 3) 209 (77, [some (mR r), some (mR dd), some (mR b), some (mR s), x4], [], m') Q) → RD (d + 3) 209 (42, [some (mR r), some (mR dd), some (mR b), some (mI k), x4], [], m) Q
  | 0, k, m, hkj, hk0, hS, hb, hbb, hX, hr0, hl, hsg, hB, hQ => by
    have kr := hS.1.1
    have k3 := hS.2.1.2.1
    have htk := tke_b (t := t) hS.2.2.2.1.2
    have hkk : k = tke t n q - q := by omega
    have go : ∀ s, m.2.2.1 ≤ s → RD (d + 3) 209 (77, [some (mR r), some (mR dd), some (mR b), some (mR s), x4], [], drow (dst (dal m s 27 (m.1 22500 b 0 + 12)) 22700 s 0 (m.1 22500 b 0)) 12700 s (m.1 12500 b)) Q := by
      intro s hs
      have dx := dal_x (r := r) (L := 0) (k := 27) (c := m.1 22500 b 0 + 12) hs
      have ee : ∀ g x, x ≠ s → (drow (dst (dal m s 27 (m.1 22500 b 0 + 12)) 22700 s 0 (m.1 22500 b 0)) 12700 s (m.1 12500 b)).1 g x = m.1 g x := by
        intro g x hx
        have e1 : (dst (dal m s 27 (m.1 22500 b 0 + 12)) 22700 s 0 (m.1 22500 b 0)).1 g x = m.1 g x := by
          rw [ds_o hx]
          show (if x = s then (fun _ => 0) else m.1 g x) = _
          rw [if_neg hx]
        show (if g = 12700 then (fun a' => if a' = s then (m.1 12500 b) else (dst (dal m s 27 (m.1 22500 b 0 + 12)) 22700 s 0 (m.1 22500 b 0)).1 12700 a') else (dst (dal m s 27 (m.1 22500 b 0 + 12)) 22700 s 0 (m.1 22500 b 0)).1 g) x = _
        by_cases eg : g = 12700
        · rw [if_pos eg]
          show (if x = s then (m.1 12500 b) else (dst (dal m s 27 (m.1 22500 b 0 + 12)) 22700 s 0 (m.1 22500 b 0)).1 12700 x) = _
          rw [if_neg hx, ← eg]
          exact e1
        · rw [if_neg eg]
          exact e1
      have hr := hS.rb
      have x1 : RX r 0 m (drow (dst (dal m s 27 (m.1 22500 b 0 + 12)) 22700 s 0 (m.1 22500 b 0)) 12700 s (m.1 12500 b)) := ⟨dx.1.1, dx.1.2.1, fun g x hx => Or.inl (ee g x (by omega))⟩
      have hX1 := hX.1
      refine hQ s _ (hX.tr x1) (hS.ag (fun g => ee g r (by omega)) (ee _ _ (by omega)) (dx.1.2.1 r (by omega)) dx.1.1) ⟨by omega, by show s < s + 1; omega⟩ ⟨dx.2.2.1, ?_, fun i i0 i1 => ?_⟩ ?_
      · show (dst (dal m s 27 (m.1 22500 b 0 + 12)) 22700 s 0 (m.1 22500 b 0)).1 22700 s 0 = _
        rw [dsz_0, hl]; exact hkk
      · show (if s = s then (m.1 12500 b) else _) i = _
        rw [if_pos rfl]
        exact hsg i i0 (by omega)
      · show _ ≤ m.2.2.2 - (m.1 22500 b 0 + 12)
        omega
    clear hQ
    refine RDr [] [2090042, 2090077] 30 ?_
    repeat' first | ((refine ⟨hb, by omega, fun s hs => ?_⟩)) | (refine ⟨fun _ => ?_, fun _ => ?_⟩ <;> try omega) | (refine ⟨by first | omega | rfl | assumption | (simp only [dst_1, dst_2, up3_ap, upd1_ap, Nat.reduceEqDiff, ↓reduceIte, eq_self] at * <;> omega) | fail, ?_⟩) | (exact go s hs) | (simp only [dst_1, dst_2, up3_ap, upd1_ap, Nat.reduceEqDiff, ↓reduceIte, eq_self] at *) | omega | fail
  | j + 1, k, m, hkj, hk0, hS, hb, hbb, hX, hr0, hl, hsg, hB, hQ => by
    have kr := hS.1.1
    have k3 := hS.2.1.2.1
    have k2 := hS.2.1.1
    have hq := hS.2.2.2.1
    have hn4 := hS.1.2.2.2.2
    have hr := hS.rb
    have bb := byd_b (k := q + k) hS.1 (by omega)
    have oo : ∀ v g x, x ≠ b → (dst (dst m 12500 b (m.1 22500 b 0) v) 22500 b 0 (m.1 22500 b 0 + 1)).1 g x = m.1 g x := fun v g x hx => by rw [ds_o hx, ds_o hx]
    have go : ∀ v, v = byd t n (m.1 402 r 0 + k) → RD (d + 3) 209 (42, [some (mR r), some (mR dd), some (mR b), some (mI (k + 1)), x4], [], dst (dst m 12500 b (m.1 22500 b 0) v) 22500 b 0 (m.1 22500 b 0 + 1)) Q := by
      intro v hv
      refine D_bld hq8 j (k + 1) _ (by omega) (by omega) (hS.ag (fun g => oo v g r (by omega)) (oo v _ _ (by omega)) rfl (Int.le_refl _)) hb hbb ((hX.st hbb.1).st hbb.1) hr0 (by rw [dsz_0]; omega) (fun i i0 i1 => ?_) hB hQ
      rw [ds_n (by decide), dst_1, up3_s, upd1_ap, hl]
      by_cases e : i = k
      · rw [if_pos e, hv, k2, e]
      · rw [if_neg e]; exact hsg i i0 (by omega)
    rw [← k2] at bb
    have zc := zi2c_y bb
    clear hQ
    refine RDr [] [2090042, 2090077] 40 ?_
    repeat' first | ((refine hub_i (by dsimp only [kdD]; omega) (D_byteAt hS.1 (by omega) ?_))) | ((rw [zc])) | ((refine ⟨hb, by omega, by omega, ?_⟩)) | (refine ⟨fun _ => ?_, fun _ => ?_⟩ <;> try omega) | (refine ⟨by first | omega | rfl | assumption | (simp only [dst_1, dst_2, up3_ap, upd1_ap, Nat.reduceEqDiff, ↓reduceIte, eq_self] at * <;> omega) | fail, ?_⟩) | (exact go _ rfl) | (simp only [dst_1, dst_2, up3_ap, upd1_ap, Nat.reduceEqDiff, ↓reduceIte, eq_self] at *) | omega | fail
/-- from the word on to its name -/
theorem D_name {q o dd : Int} {x2 x3 x4 : Option mV} (hS : DS t n nm q o ai r m) (hq8 : tke t n q - q ≤ 8) (hB : 200 ≤ m.2.2.2)
    (hQ : ∀ s b m', RX r 0 m m' → DS t n nm q o ai r m' → (m.2.2.1 ≤ s ∧ s < m'.2.2.1) → NMs t n m' s q (tke t n q - q) → m.2.2.2 - 40 ≤ m'.2.2.2 → RD (d + 3) 209 (77, [some (mR r), some (mR dd), some (mR b), some (mR s), x4], [], m') Q) : RD (d + 3) 209 (30, [some (mR r), some (mR dd), x2, x3, x4], [], m) Q := by
  have htk := tke_b (t := t) hS.2.2.2.1.2
  have hr := hS.rb
  have go : ∀ b, m.2.2.1 ≤ b → (dal m b 98 8).2.1 b = 98 ∧ (dal m b 98 8).2.2.2 = m.2.2.2 - 8 ∧ RD (d + 3) 209 (42, [some (mR r), some (mR dd), some (mR b), some (mI 0), x4], [], dst (dkd (dal m b 98 8) b 12500 12) 22500 b 0 0) Q := by
    intro b hb
    have dx := dal_x (r := r) (L := 0) (k := 98) (c := 8) hb
    refine ⟨dx.2.2.1, dx.2.2.2.2, ?_⟩
    have oo : ∀ g x, x ≠ b → (dst (dkd (dal m b 98 8) b 12500 12) 22500 b 0 0).1 g x = m.1 g x := fun g x hx => by
      rw [ds_o hx]
      show (if x = b then (fun _ => 0) else m.1 g x) = _
      rw [if_neg hx]
    have kk : ∀ x, x ≠ b → (dst (dkd (dal m b 98 8) b 12500 12) 22500 b 0 0).2.1 x = m.2.1 x := fun x hx => by
      show (if x = b then 12500 else (if x = b then 98 else m.2.1 x)) = _
      rw [if_neg hx, if_neg hx]
    have x1 : RX r 0 m (dst (dkd (dal m b 98 8) b 12500 12) 22500 b 0 0) := ⟨dx.1.1, fun x hx => kk x (by omega), fun g x hx => Or.inl (oo g x (by omega))⟩
    refine D_bld (m0 := m) hq8 (tke t n q - q).toNat 0 _ (by omega) (Int.le_refl _) (hS.ag (fun g => oo g r (by omega)) (oo _ _ (by omega)) (kk r (by omega)) dx.1.1) ?_ ⟨hb, by show b < b + 1; omega⟩ x1 hr.2 dsz_0 (fun i i0 i1 => by omega) ?_ (fun s m' a1 a2 a3 a4 a5 => hQ s b m' a1 a2 a3 a4 ?_)
    · show (if b = b then 12500 else _) = _
      rw [if_pos rfl]
    · show 100 ≤ m.2.2.2 - 8 - 12
      omega
    · have : m.2.2.2 - 8 - 12 - 20 ≤ m'.2.2.2 := a5
      omega
  clear hQ
  refine RDr [] [2090042] 30 ?_
  repeat' first | ((refine ⟨by omega, fun b hb => ?_⟩; obtain ⟨g1, g2, g3⟩ := go b hb)) | (refine ⟨fun _ => ?_, fun _ => ?_⟩ <;> try omega) | (refine ⟨by first | omega | rfl | assumption | (simp only [dst_1, dst_2, up3_ap, upd1_ap, Nat.reduceEqDiff, ↓reduceIte, eq_self] at * <;> omega) | fail, ?_⟩) | (exact g3) | (simp only [dst_1, dst_2, up3_ap, upd1_ap, Nat.reduceEqDiff, ↓reduceIte, eq_self] at *) | omega | fail
end
