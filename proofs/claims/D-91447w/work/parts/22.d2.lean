/-! the Desk: funds and their lists -/
set_option maxHeartbeats 400000
/-- the memory m' has all of m's cells as they were -/
def Ex (m m' : mD) (cost : Int) : Prop := m.2.2.1 ≤ m'.2.2.1 ∧ (∀ r b, b < m.2.2.1 → m'.1 r b = m.1 r b) ∧ (∀ b, b < m.2.2.1 → m'.2.1 b = m.2.1 b) ∧ m.2.2.2 - cost ≤ m'.2.2.2
theorem Ex.rfl {m : mD} {c : Int} (h : 0 ≤ c) : Ex m m c := ⟨Int.le_refl _, fun _ _ _ => Eq.refl _, fun _ _ => Eq.refl _, by omega⟩
theorem fstN_spec (p : Int → Bool) : ∀ (n : Nat) (k : Int), (fstN p n k = -1 ∧ ∀ i, k ≤ i → i < k + n → p i = false) ∨ (k ≤ fstN p n k ∧ fstN p n k < k + n ∧ p (fstN p n k) = true ∧ ∀ i, k ≤ i → i < fstN p n k → p i = false)
  | 0, k => Or.inl ⟨Eq.refl _, fun i h0 h1 => by omega⟩
  | n + 1, k => by
    unfold fstN
    by_cases hp : p k = true
    · rw [if_pos hp]
      exact Or.inr ⟨Int.le_refl _, by omega, hp, fun i h0 h1 => by omega⟩
    · rw [if_neg hp]
      have hpf : p k = false := by cases h : p k with
        | true => exact absurd h hp
        | false => exact Eq.refl _
      rcases fstN_spec p n (k + 1) with ⟨h1, h2⟩ | ⟨h1, h2, h3, h4⟩
      · refine Or.inl ⟨h1, fun i hi0 hi1 => ?_⟩
        by_cases e : i = k
        · rw [e]; exact hpf
        · exact h2 i (by omega) (by omega)
      · refine Or.inr ⟨by omega, by omega, h3, fun i hi0 hi1 => ?_⟩
        by_cases e : i = k
        · rw [e]; exact hpf
        · exact h4 i (by omega) (by omega)
theorem fst_spec (p : Int → Bool) {n : Int} (hn : 0 ≤ n) : (fst p n = -1 ∧ ∀ i, 0 ≤ i → i < n → p i = false) ∨ (0 ≤ fst p n ∧ fst p n < n ∧ p (fst p n) = true ∧ ∀ i, 0 ≤ i → i < fst p n → p i = false) := by
  have e : (0 : Int) + (n.toNat : Int) = n := by omega
  have h := fstN_spec p n.toNat 0
  rw [e] at h
  exact h
/-- a list of Integers has a value -/
def hasV (m : mD) (r rs : Nat) (a v : Int) : Prop := ∃ i, 0 ≤ i ∧ i < m.1 rs a 0 ∧ m.1 2600 (m.1 r a i) 0 = v
/-- a list of Integers -/
def boxL (m : mD) (r rs : Nat) (a : Int) : Prop := m.2.1 a = r ∧ 1000 ≤ a ∧ a < m.2.2.1 ∧ (0 ≤ m.1 rs a 0 ∧ m.1 rs a 0 ≤ 100) ∧ ∀ i, 0 ≤ i → i < m.1 rs a 0 → m.2.1 (m.1 r a i) = 26 ∧ m.1 r a i < m.2.2.1
/-- the funds' list -/
def fnd (m : mD) : Prop := m.2.1 1012 = 10111 ∧ (0 ≤ (m.1 20111 1012 0) ∧ (m.1 20111 1012 0) ≤ 12) ∧ ∀ k, 0 ≤ k → k < (m.1 20111 1012 0) → m.2.1 ((m.1 10111 1012 k)) = 14 ∧ 1075 < (m.1 10111 1012 k) ∧ (m.1 10111 1012 k) < m.2.2.1
section
variable {d : Nat} {m : mD} {Q : mQ mD}
theorem D_fundAt {f : Int} (hf : fnd m) (h1 : 0 ≤ f → f < (m.1 20111 1012 0) → Q (rR ((m.1 10111 1012 f))) m) (h0 : ¬ (0 ≤ f ∧ f < (m.1 20111 1012 0)) → Q (rR 0) m) : RD (d + 1) 29 (0, [some (mR 1000), some (mI f)], [], m) Q := by
  obtain ⟨hk, hn, hF⟩ := hf
  by_cases hc : 0 ≤ f ∧ f < (m.1 20111 1012 0)
  · have hF : m.2.1 (m.1 10111 1012 f) = 14 ∧ 1075 < m.1 10111 1012 f ∧ m.1 10111 1012 f < m.2.2.1 := hF f hc.1 hc.2
    have h1 := h1 hc.1 hc.2
    refine RDr [] [] 100 ?_
    repeat' first | (refine ⟨fun _ => ?_, fun _ => ?_⟩ <;> try omega) | (refine ⟨by first | omega | rfl | assumption | (simp only [dst_1, dst_2, up3_ap, upd1_ap, Nat.reduceEqDiff, ↓reduceIte, eq_self] at * <;> omega) | fail, ?_⟩) | (refine D_in (fun _ _ => ?_) (fun _ => ?_)) | (exact h1) | (simp only [dst_1, dst_2, up3_ap, upd1_ap, Nat.reduceEqDiff, ↓reduceIte, eq_self] at *) | omega | fail
  · refine RDr [] [] 100 ?_
    repeat' first | (refine ⟨fun _ => ?_, fun _ => ?_⟩ <;> try omega) | (refine ⟨by first | omega | rfl | assumption | (simp only [dst_1, dst_2, up3_ap, upd1_ap, Nat.reduceEqDiff, ↓reduceIte, eq_self] at * <;> omega) | fail, ?_⟩) | (refine D_in (fun _ _ => ?_) (fun _ => ?_)) | (exact h0 hc) | (simp only [dst_1, dst_2, up3_ap, upd1_ap, Nat.reduceEqDiff, ↓reduceIte, eq_self] at *) | omega | fail
theorem D_isThere {a : Int} (ka : m.2.1 a = 14) (h1 : m.1 1411 a 0 = 0 → Q (rI 1) m) (h0 : m.1 1411 a 0 ≠ 0 → Q (rI 0) m) : RD d 291 (0, [some (mR a)], [], m) Q := by
  refine RDr [] [] 100 ?_
  repeat' first | (refine ⟨fun _ => ?_, fun _ => ?_⟩ <;> try omega) | (refine ⟨by first | omega | rfl | assumption | (simp only [dst_1, dst_2, up3_ap, upd1_ap, Nat.reduceEqDiff, ↓reduceIte, eq_self] at * <;> omega) | fail, ?_⟩) | (exact h1 (by omega)) | (exact h0 (by omega)) | (simp only [dst_1, dst_2, up3_ap, upd1_ap, Nat.reduceEqDiff, ↓reduceIte, eq_self] at *) | omega | fail
theorem D_thereAt {f : Int} (hf : fnd m) (h1 : 0 ≤ f → f < (m.1 20111 1012 0) → m.1 1411 ((m.1 10111 1012 f)) 0 = 0 → Q (rR ((m.1 10111 1012 f))) m) (h0 : ¬ (0 ≤ f ∧ f < (m.1 20111 1012 0) ∧ m.1 1411 ((m.1 10111 1012 f)) 0 = 0) → Q (rR 0) m) : RD (d + 2) 28 (0, [some (mR 1000), some (mI f)], [], m) Q := by
  have hf' := hf
  obtain ⟨hk, hn, hF⟩ := hf'
  by_cases hc : 0 ≤ f ∧ f < (m.1 20111 1012 0)
  · have hF : m.2.1 (m.1 10111 1012 f) = 14 ∧ 1075 < m.1 10111 1012 f ∧ m.1 10111 1012 f < m.2.2.1 := hF f hc.1 hc.2
    have h1 := h1 hc.1 hc.2
    refine RDr [] [] 100 ?_
    repeat' first | (refine ⟨fun _ => ?_, fun _ => ?_⟩ <;> try omega) | (refine ⟨by first | omega | rfl | assumption | (simp only [dst_1, dst_2, up3_ap, upd1_ap, Nat.reduceEqDiff, ↓reduceIte, eq_self] at * <;> omega) | fail, ?_⟩) | (refine D_fundAt hf (fun _ _ => ?_) (fun _ => ?_)) | (refine hub_i (by dsimp only [kdD]; omega) (D_isThere hF.1 (fun _ => ?_) (fun _ => ?_))) | (exact h1 (by assumption)) | (exact h0 (by omega)) | (simp only [dst_1, dst_2, up3_ap, upd1_ap, Nat.reduceEqDiff, ↓reduceIte, eq_self] at *) | omega | fail
  · refine RDr [] [] 100 ?_
    repeat' first | (refine ⟨fun _ => ?_, fun _ => ?_⟩ <;> try omega) | (refine ⟨by first | omega | rfl | assumption | (simp only [dst_1, dst_2, up3_ap, upd1_ap, Nat.reduceEqDiff, ↓reduceIte, eq_self] at * <;> omega) | fail, ?_⟩) | (refine D_fundAt hf (fun _ _ => ?_) (fun _ => ?_)) | (exact h0 (by omega)) | (simp only [dst_1, dst_2, up3_ap, upd1_ap, Nat.reduceEqDiff, ↓reduceIte, eq_self] at *) | omega | fail
theorem D_fgets {a v : Int} (ka : m.2.1 a = 14) (hi : i64 (m.1 1410 a 0 + v)) (hQ : Q rV (dst m 1410 a 0 (min 1000000000000000 (m.1 1410 a 0 + v)))) : RD (d + 1) 292 (0, [some (mR a), some (mJ v), none], [], m) Q := by
  refine RDr [] [] 100 ?_
  repeat' first | (refine ⟨fun _ => ?_, fun _ => ?_⟩ <;> try omega) | (refine ⟨by first | omega | rfl | assumption | (simp only [dst_1, dst_2, up3_ap, upd1_ap, Nat.reduceEqDiff, ↓reduceIte, eq_self] at * <;> omega) | fail, ?_⟩) | (exact hQ) | (simp only [dst_1, dst_2, up3_ap, upd1_ap, Nat.reduceEqDiff, ↓reduceIte, eq_self] at *) | omega | fail
def eds (m : mD) (a : Int) : Prop := m.2.1 a = 14 ∧ m.2.1 (m.1 1403 a 0) = 11403 ∧ (0 ≤ (m.1 21403 (m.1 1403 a 0) 0) ∧ (m.1 21403 (m.1 1403 a 0) 0) ≤ 80) ∧ ∀ e, 0 ≤ e → e < (m.1 21403 (m.1 1403 a 0) 0) → m.2.1 ((m.1 11403 (m.1 1403 a 0) e)) = 17 ∧ 1075 < (m.1 11403 (m.1 1403 a 0) e) ∧ (m.1 11403 (m.1 1403 a 0) e) < m.2.2.1
theorem D_many {a st : Int} {x2 x3 : Option mV} (he : eds m a) (hQ : Q (rI (cnt (fun e => decide (m.1 1701 ((m.1 11403 (m.1 1403 a 0) e)) 0 = st)) ((m.1 21403 (m.1 1403 a 0) 0)))) m) : RD (d + 1) 293 (0, [some (mR a), some (mI st), x2, x3], [], m) Q := by
  obtain ⟨ka, kl, hn, hE⟩ := he
  refine RDr [] [2930004] 20 ?_
  refine up_ind (n := (m.1 21403 (m.1 1403 a 0) 0)) (P := fun k => ∀ x, x = cnt (fun e => decide (m.1 1701 ((m.1 11403 (m.1 1403 a 0) e)) 0 = st)) k → RD (d + 1) 293 (4, [some (mR a), some (mI st), some (mI x), some (mI k)], [], m) Q) ?_ ?_ 0 (by omega) (by omega) 0 (cnt_0 _).symm
  · intro x hx
    rw [← hx] at hQ
    refine RDr [] [2930004] 40 ?_
    repeat' first | (refine ⟨fun _ => ?_, fun _ => ?_⟩ <;> try omega) | (refine ⟨by first | omega | rfl | assumption | (simp only [dst_1, dst_2, up3_ap, upd1_ap, Nat.reduceEqDiff, ↓reduceIte, eq_self] at * <;> omega) | fail, ?_⟩) | (exact hQ) | (simp only [dst_1, dst_2, up3_ap, upd1_ap, Nat.reduceEqDiff, ↓reduceIte, eq_self] at *) | omega | fail
  · intro k h0 h1 ih x hx
    have hb := cnt_b (fun e => decide (m.1 1701 ((m.1 11403 (m.1 1403 a 0) e)) 0 = st)) k h0
    have hs := cnt_s (fun e => decide (m.1 1701 ((m.1 11403 (m.1 1403 a 0) e)) 0 = st)) h0
    have hE : m.2.1 (m.1 11403 (m.1 1403 a 0) k) = 17 ∧ 1075 < m.1 11403 (m.1 1403 a 0) k ∧ m.1 11403 (m.1 1403 a 0) k < m.2.2.1 := hE k h0 h1
    refine RDr [] [2930004] 40 ?_
    repeat' first | (refine ⟨fun _ => ?_, fun _ => ?_⟩ <;> try omega) | (refine ⟨by first | omega | rfl | assumption | (simp only [dst_1, dst_2, up3_ap, upd1_ap, Nat.reduceEqDiff, ↓reduceIte, eq_self] at * <;> omega) | fail, ?_⟩) | (refine ih _ ?_) | (simp only [dst_1, dst_2, up3_ap, upd1_ap, Nat.reduceEqDiff, ↓reduceIte, eq_self] at *) | omega | fail
    all_goals (rw [hs, hx]; simp [*])
theorem D_firstDead {a : Int} {x1 : Option mV} (he : eds m a) (h1 : ∀ e, 0 ≤ e → e < (m.1 21403 (m.1 1403 a 0) 0) → e = fst (fun e => decide (m.1 1701 ((m.1 11403 (m.1 1403 a 0) e)) 0 = 1)) ((m.1 21403 (m.1 1403 a 0) 0)) → Q (rR ((m.1 11403 (m.1 1403 a 0) e))) m) (h0 : fst (fun e => decide (m.1 1701 ((m.1 11403 (m.1 1403 a 0) e)) 0 = 1)) ((m.1 21403 (m.1 1403 a 0) 0)) = -1 → Q (rR 0) m) : RD (d + 1) 295 (0, [some (mR a), x1], [], m) Q := by
  obtain ⟨ka, kl, hn, hE⟩ := he
  refine RDr [] [2950002] 20 ?_
  refine up_ind (n := (m.1 21403 (m.1 1403 a 0) 0)) (P := fun k => fstN (fun e => decide (m.1 1701 ((m.1 11403 (m.1 1403 a 0) e)) 0 = 1)) ((m.1 21403 (m.1 1403 a 0) 0) - k).toNat k = fst (fun e => decide (m.1 1701 ((m.1 11403 (m.1 1403 a 0) e)) 0 = 1)) ((m.1 21403 (m.1 1403 a 0) 0)) → RD (d + 1) 295 (2, [some (mR a), some (mI k)], [], m) Q) ?_ ?_ 0 (by omega) (by omega) (by rw [Int.sub_zero]; exact Eq.refl _)
  · intro hx
    have e : ((m.1 21403 (m.1 1403 a 0) 0) - (m.1 21403 (m.1 1403 a 0) 0)).toNat = 0 := by omega
    rw [e] at hx
    have h0 := h0 hx.symm
    refine RDr [] [2950002] 40 ?_
    repeat' first | (refine ⟨fun _ => ?_, fun _ => ?_⟩ <;> try omega) | (refine ⟨by first | omega | rfl | assumption | (simp only [dst_1, dst_2, up3_ap, upd1_ap, Nat.reduceEqDiff, ↓reduceIte, eq_self] at * <;> omega) | fail, ?_⟩) | (exact h0) | (simp only [dst_1, dst_2, up3_ap, upd1_ap, Nat.reduceEqDiff, ↓reduceIte, eq_self] at *) | omega | fail
  · intro k hk0 hk1 ih hx
    have hE : m.2.1 (m.1 11403 (m.1 1403 a 0) k) = 17 ∧ 1075 < m.1 11403 (m.1 1403 a 0) k ∧ m.1 11403 (m.1 1403 a 0) k < m.2.2.1 := hE k hk0 hk1
    rw [fstN_s _ hk1] at hx
    have f1 : m.1 1701 ((m.1 11403 (m.1 1403 a 0) k)) 0 = 1 → Q (rR ((m.1 11403 (m.1 1403 a 0) k))) m := fun h => h1 k hk0 hk1 (by rw [← hx]; simp [h])
    have f2 : m.1 1701 ((m.1 11403 (m.1 1403 a 0) k)) 0 ≠ 1 → RD (d + 1) 295 (2, [some (mR a), some (mI (k + 1))], [], m) Q := fun h => ih (by rw [← hx]; simp [h])
    clear ih hx h0 h1
    refine RDr [] [2950002] 60 ?_
    repeat' first | (refine ⟨fun _ => ?_, fun _ => ?_⟩ <;> try omega) | (refine ⟨by first | omega | rfl | assumption | (simp only [dst_1, dst_2, up3_ap, upd1_ap, Nat.reduceEqDiff, ↓reduceIte, eq_self] at * <;> omega) | fail, ?_⟩) | (exact f1 (by omega)) | (exact f2 (by omega)) | (simp only [dst_1, dst_2, up3_ap, upd1_ap, Nat.reduceEqDiff, ↓reduceIte, eq_self] at *) | omega | fail
theorem bIdx_iff {r rs : Nat} {a x : Int} (hn : 0 ≤ m.1 rs a 0) : 0 ≤ bIdx m r rs a x ↔ hasV m r rs a (m.1 2600 x 0) := by
  unfold bIdx hasV
  rcases fst_spec (fun i => decide (m.1 2600 (m.1 r a i) 0 = m.1 2600 x 0)) hn with ⟨h1, h2⟩ | ⟨h1, h2, h3, h4⟩
  · constructor
    · intro h; omega
    · rintro ⟨i, hi0, hi1, hi2⟩
      have := h2 i hi0 hi1
      simp [hi2] at this
  · constructor
    · intro _
      exact ⟨_, h1, h2, by simpa using h3⟩
    · intro _; exact h1
theorem Bx_ex {s v : Int} (hs : m.2.2.1 ≤ s) : Ex m (dst (dal m s 26 5) 2600 s 0 v) 5 := by
  refine ⟨by show m.2.2.1 ≤ s + 1; omega, fun r b hb => ?_, fun b hb => ?_, Int.le_refl _⟩
  · have e : b ≠ s := by omega
    show up3 (dal m s 26 5).1 2600 s 0 v r b = m.1 r b
    by_cases hr : r = 2600
    · subst hr
      rw [up3_o e]
      show (if b = s then _ else m.1 2600 b) = _
      rw [if_neg e]
    · rw [up3_n hr]
      show (if b = s then _ else m.1 r b) = _
      rw [if_neg e]
  · have e : b ≠ s := by omega
    show (if b = s then 26 else m.2.1 b) = _
    rw [if_neg e]
theorem Bx_v {s v : Int} : (dst (dal m s 26 5) 2600 s 0 v).1 2600 s 0 = v := by
  rw [dst_1, up3_s, upd1_s]
theorem Bx_k {s v : Int} : (dst (dal m s 26 5) 2600 s 0 v).2.1 s = 26 := by
  show (if s = s then 26 else m.2.1 s) = 26
  rw [if_pos (Eq.refl s)]
theorem hasV_ex {m' : mD} {c : Int} {r rs : Nat} {a v : Int} (hL : boxL m r rs a) (he : Ex m m' c) : hasV m' r rs a v ↔ hasV m r rs a v := by
  obtain ⟨-, -, h1, -, h3⟩ := hL
  obtain ⟨-, e1, -, -⟩ := he
  unfold hasV
  constructor
  · rintro ⟨i, a0, a1, a2⟩
    rw [e1 rs a h1] at a1
    rw [e1 r a h1, e1 2600 _ (h3 i a0 a1).2] at a2
    exact ⟨i, a0, a1, a2⟩
  · rintro ⟨i, a0, a1, a2⟩
    refine ⟨i, a0, by rw [e1 rs a h1]; exact a1, ?_⟩
    rw [e1 r a h1, e1 2600 _ (h3 i a0 a1).2]
    exact a2
theorem boxL_ex {m' : mD} {c : Int} {r rs : Nat} {a : Int} (hL : boxL m r rs a) (he : Ex m m' c) : boxL m' r rs a := by
  obtain ⟨h0, h00, h1, h2, h3⟩ := hL
  obtain ⟨e0, e1, e2, -⟩ := he
  refine ⟨by rw [e2 a h1]; exact h0, h00, by omega, by rw [e1 rs a h1]; exact h2, fun i a0 a1 => ?_⟩
  rw [e1 rs a h1] at a1
  rw [e1 r a h1, e2 _ (h3 i a0 a1).2]
  exact ⟨(h3 i a0 a1).1, by have := (h3 i a0 a1).2; omega⟩
/-- a question to a list of Integers: the Integer is made, or it is there -/
theorem D_box {v : Int} {r rs : Nat} {a : Int} (hL : boxL m r rs a) (hbud : 5 ≤ m.2.2.2) {K : mQ mD}
    (h : ∀ m' x, Ex m m' 5 → x < m'.2.2.1 → m'.2.1 x = 26 → m'.1 2600 x 0 = v → (0 ≤ bIdx m' r rs a x ↔ hasV m r rs a v) → (∀ i, 0 ≤ i → i < m'.1 rs a 0 → m'.2.1 (m'.1 r a i) = 26) → m'.2.1 a = r → K (rR x) m') : PD 320 [] [mI v] m K := by
  have fin : ∀ m' x, Ex m m' 5 → x < m'.2.2.1 → m'.2.1 x = 26 → m'.1 2600 x 0 = v → K (rR x) m' := by
    intro m' x he hx hk hv
    have hL' := boxL_ex hL he
    refine h m' x he hx hk hv ?_ (fun i h0 h1 => (hL'.2.2.2.2 i h0 h1).1) hL'.1
    rw [bIdx_iff hL'.2.2.2.1.1, hv, hasV_ex hL he]
  exact ⟨hbud, fun b hb0 hb hv => fin m b (Ex.rfl (by omega)) hb0 hb hv, fun s hs => fin _ s (Bx_ex hs) (by show s < s + 1; omega) Bx_k Bx_v⟩
theorem D_hasTrustee {a p : Int} (ka : m.2.1 a = 14) (hT : boxL m 11404 21404 (m.1 1404 a 0)) (hbud : 5 ≤ m.2.2.2)
    (h1 : hasV m 11404 21404 (m.1 1404 a 0) p → ∀ m', Ex m m' 5 → Q (rI 1) m') (h0 : ¬ hasV m 11404 21404 (m.1 1404 a 0) p → ∀ m', Ex m m' 5 → Q (rI 0) m') : RD (d + 1) 294 (0, [some (mR a), some (mI p)], [], m) Q := by
  refine RDr [] [] 100 ?_
  refine ⟨by omega, ?_⟩
  refine D_box hT hbud (fun m' x he hx hk hv hi hl ka' => ?_)
  refine ⟨ka', ⟨hk, hl⟩, fun hb => ?_, fun hb => ?_⟩
  · exact ⟨by omega, h0 (fun hh => by have := hi.mpr hh; omega) m' he⟩
  · exact ⟨by omega, h1 (hi.mp hb) m' he⟩
end
