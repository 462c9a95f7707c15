/-! THE MODEL: act, near, fund -/
set_option maxHeartbeats 3200000
set_option maxRecDepth 100000
section
variable {d : Nat} {m m0 m' : sg} {Q : mQ sg} {t : Int → Int} {n : Int}
/-- before a text is read -/
theorem fr_st {v : Int} (h : frY (upm (upm m 0 0 0) 23 0 v) m') : frR 44 m m' ∧ m' 0 0 = 0 := ⟨frR.tr ((frR.rfl.up (by decide)).up (by decide)) h.r, by rw [h.1 0 (by decide)]; rfl⟩
abbrev xPost (m : sg) (a : Int) (x : (Int × Int) ⊕ List Cl) (F : Int → Int → sg → Prop) (G : List Cl → sg → Prop) : Prop := match x with
  | .inl (k, p) => ∀ m', frR 44 m m' → m' 0 0 = 0 → m' 14 0 = 0 → m' 21 0 = p → 1 ≤ k → k ≤ 4 → F k p m'
  | .inr cs => ∀ m', frR a m m' → m' 0 0 = 0 → m' 14 0 = 0 → m' 21 0 = -1 → TX m' a cs → G cs m'
theorem M_act {fr : Int} {x2 : Option mV} {f g : Nat} {x : (Int × Int) ⊕ List Cl} (h13 : m 13 = t) (h14 : m 14 0 = n) (ha : 0 ≤ m 27 0 ∧ m 27 0 ≤ 20) (hn : 0 ≤ n ∧ n ≤ 400) (hx : actC t n f g (sk t n 0) [] = some x) (h0 : ¬ (0 ≤ fr ∧ fr ≤ 36000 ∧ m 27 0 ≠ 20) → Q (rI (-1)) (upm m 0 0 0))
    (h1 : 0 ≤ fr → fr ≤ 36000 → m 27 0 < 20 → xPost m (m 27 0) x (fun k _ m' => Q (rI (-1 - k)) m') (fun cs m' => Q (rI cs.length) (upm (upm m' 28 (m 27 0) fr) 27 0 (m 27 0 + 1)))) : RM (d + 64) 88 (0, [some (mR 1026), some (mI fr), x2], [], m) Q := by
  have hsk := sk_b (t := t) (n := n) (k := 0) hn.1
  have tail : 0 ≤ fr → fr ≤ 36000 → m 27 0 < 20 → ∀ m1, frY (upm (upm m 0 0 0) 23 0 1) m1 → MD t n 13 (sk t n 0) [] 0 [] [] m1 → RM (d + 64) 88 (33, [some (mR 1026), some (mI fr), x2], [], m1) Q := by
    intro f0 f1 a1 m1 hY hD
    have h1 := h1 f0 f1 a1
    have hok : ∀ cs', x = .inr cs' → akOk n cs' := fun cs' e => act_ok g _ [] _ (by omega) ⟨by show ((0 : Nat) : Int) ≤ _; omega, by show 0 ≤ 20; omega, fun c hc => by cases hc⟩ (by rw [← e]; exact hx)
    refine C_actL (d := d + 2) g _ [] m1 x hx hD hY ⟨by show ((0 : Nat) : Int) ≤ _; omega, by show 0 ≤ 20; omega, fun c hc => by cases hc⟩ ?_
    rcases x with ⟨kf, pf⟩ | cs
    · intro m2 g1
      obtain ⟨r1, r2⟩ := fr_st g1.1
      have fin := h1 (upm (upm m2 14 0 0) 21 0 pf) ((r1.up (by decide)).up (by decide)) r2 rfl rfl g1.2.2.1.1 g1.2.2.1.2
      have hk := g1.2.2.1
      refine RMr [] [] 60 ?_
      repeat' first | (refine ⟨fun _ => ?_, fun _ => ?_⟩ <;> try omega) | (refine ⟨by first | omega | (simp only [upm_ap, upd1_ap, Nat.reduceEqDiff, ↓reduceIte, eq_self] at * <;> omega) | fail, ?_⟩) | (refine M_stopsX g1.2 ?_) | (exact fin) | (simp only [upm_ap, upd1_ap, Nat.reduceEqDiff, ↓reduceIte, eq_self] at *) | omega | fail
    · intro m2 hY2 w2 hT
      obtain ⟨r1, r2⟩ := fr_st hY2
      have e27 : m2 27 = m 27 := r1.1 27 (by decide)
      have e28 : m2 28 = m 28 := r1.1 28 (by decide)
      have hok := hok cs rfl
      have fin : ∀ m3, frR (m 27 0) m2 m3 → TX m3 (m 27 0) cs → m3 14 0 = 0 → m3 21 0 = -1 → m3 0 0 = m2 0 0 → Q (rI cs.length) (upm (upm m3 28 (m 27 0) fr) 27 0 (m 27 0 + 1)) ∧ m3 27 0 = m 27 0 ∧ m3 6 (m 27 0) = cs.length :=
        fun m3 hr hT3 e14 e21 e0 => ⟨h1 m3 (r1.tr hr) (e0.trans r2) e14 e21 hT3, by rw [hr.1 27 (by decide), e27], hT3.2.1⟩
      refine RMr [] [880062] 60 ?_
      repeat' first | (refine ⟨fun _ => ?_, fun _ => ?_⟩ <;> try omega) | (refine ⟨by first | omega | (simp only [upm_ap, upd1_ap, Nat.reduceEqDiff, ↓reduceIte, eq_self] at * <;> omega) | fail, ?_⟩) | (refine M_stops w2 hT (by rw [e27]; omega) (by have := hok.1; have := hok.2.1; omega) (fun m3 hr hT3 e14 e21 e0 => ?_)) | (simp only [upm_ap, upd1_ap, Nat.reduceEqDiff, ↓reduceIte, eq_self] at *) | omega | fail
      rw [e27] at hr hT3
      obtain ⟨f1, f2, f3⟩ := fin m3 hr hT3 e14 e21 e0
      clear fin
      rw [← f2] at f1 f3
      rw [← f3] at f1
      have a27 : 0 ≤ m3 27 0 ∧ m3 27 0 < 20 := by omega
      have f1' : Q (rI ((upm (upm m3 28 (m3 27 0) fr) 27 0 (m3 27 0 + 1)) 6 (m3 27 0 + 1 - 1))) (upm (upm m3 28 (m3 27 0) fr) 27 0 (m3 27 0 + 1)) := by
        rw [show m3 27 0 + 1 - 1 = m3 27 0 by omega, upm_n (by decide), upm_n (by decide)]
        exact f1
      refine RMr [] [] 60 ?_
      repeat' first | (refine ⟨fun _ => ?_, fun _ => ?_⟩ <;> try omega) | (refine ⟨by first | omega | (simp only [upm_ap, upd1_ap, Nat.reduceEqDiff, ↓reduceIte, eq_self] at * <;> omega) | fail, ?_⟩) | (exact f1') | (exact f1) | (simp only [upm_ap, upd1_ap, Nat.reduceEqDiff, ↓reduceIte, eq_self] at *) | omega | fail
  refine RMr [] [880033] 60 ?_
  repeat' first | (refine ⟨fun _ => ?_, fun _ => ?_⟩ <;> try omega) | (refine ⟨by first | omega | (simp only [upm_ap, upd1_ap, Nat.reduceEqDiff, ↓reduceIte, eq_self] at * <;> omega) | fail, ?_⟩) | (refine M_within (fun _ _ => ?_) (fun _ => ?_)) | (refine M_starts (nm := 13) rfl (by omega) h13 h14 hn (fun m1 hY hD => ?_)) | (exact tail (by omega) (by omega) (by omega) _ hY hD) | (exact h0 (by omega)) | (simp only [upm_ap, upd1_ap, Nat.reduceEqDiff, ↓reduceIte, eq_self] at *) | omega | fail
end
