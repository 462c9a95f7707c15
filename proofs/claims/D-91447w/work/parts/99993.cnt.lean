/-! COUNTS: of a list's places, of persons -/
set_option maxHeartbeats 3200000
set_option maxRecDepth 100000
theorem cnt_cg {p q : Int → Bool} : ∀ n : Nat, (∀ i : Int, 0 ≤ i → i < n → p i = q i) → cnt p n = cnt q n
  | 0, _ => by rw [show ((0 : Nat) : Int) = 0 from rfl, cnt_0, cnt_0]
  | n + 1, h => by
    rw [show ((n + 1 : Nat) : Int) = (n : Int) + 1 by omega, cnt_s _ (by omega), cnt_s _ (by omega), cnt_cg n (fun i i0 i1 => h i i0 (by omega)), h n (by omega) (by omega)]
theorem cnt_cgz {p q : Int → Bool} {n : Int} (hn : 0 ≤ n) (h : ∀ i : Int, 0 ≤ i → i < n → p i = q i) : cnt p n = cnt q n := by
  have := cnt_cg (p := p) (q := q) n.toNat (fun i i0 i1 => h i i0 (by omega))
  rw [show ((n.toNat : Nat) : Int) = n by omega] at this
  exact this
theorem cnt_z {p : Int → Bool} : ∀ n : Nat, (∀ i : Int, 0 ≤ i → i < n → p i = false) → cnt p n = 0
  | 0, _ => cnt_0 _
  | n + 1, h => by
    rw [show ((n + 1 : Nat) : Int) = (n : Int) + 1 by omega, cnt_s _ (by omega), cnt_z n (fun i i0 i1 => h i i0 (by omega)), h n (by omega) (by omega)]
    rfl
theorem cnt_one {p q : Int → Bool} {x : Int} (h0 : q x = false) (h1 : ∀ i : Int, i ≠ x → p i = q i) (hx : 0 ≤ x) : ∀ n : Nat, x < n → cnt p n = cnt q n + (if p x then 1 else 0)
  | 0, h => by omega
  | n + 1, h => by
    rw [show ((n + 1 : Nat) : Int) = (n : Int) + 1 by omega, cnt_s _ (by omega), cnt_s _ (by omega)]
    by_cases e : x = n
    · subst e
      rw [cnt_cg n (fun i i0 i1 => h1 i (by omega)), h0]
      simp
    · rw [cnt_one h0 h1 hx n (by omega), h1 n (by omega)]
      omega
theorem cnt_bij {v : Int → Int} {q : Int → Bool} {N : Nat} : ∀ (n : Nat) (P : Int → Bool), (∀ i : Int, 0 ≤ i → i < n → (0 ≤ v i ∧ v i < N) ∧ ∀ j : Int, 0 ≤ j → j < n → v i = v j → i = j) → (∀ p : Int, 0 ≤ p → p < N → (P p = true ↔ ∃ i : Int, 0 ≤ i ∧ i < n ∧ v i = p)) → cnt (fun i => q (v i)) n = cnt (fun p => P p && q p) N
  | 0, P, _, hP => by
    rw [show ((0 : Nat) : Int) = 0 from rfl, cnt_0, cnt_z]
    intro p p0 p1
    cases e : P p with
    | false => rfl
    | true =>
      obtain ⟨i, i0, i1, _⟩ := (hP p p0 p1).mp e
      omega
  | n + 1, P, hv, hP => by
    have ih := cnt_bij n (fun p => P p && decide (p ≠ v n)) (q := q) (v := v) (N := N) (fun i i0 i1 => ⟨(hv i i0 (by omega)).1, fun j j0 j1 e => (hv i i0 (by omega)).2 j j0 (by omega) e⟩) (fun p p0 p1 => by
      constructor
      · intro h
        rw [Bool.and_eq_true] at h
        obtain ⟨i, i0, i1, i2⟩ := (hP p p0 p1).mp h.1
        have h2 : p ≠ v n := of_decide_eq_true h.2
        have : i ≠ n := fun e => h2 (by rw [← i2, e])
        exact ⟨i, i0, by omega, i2⟩
      · rintro ⟨i, i0, i1, i2⟩
        rw [Bool.and_eq_true]
        refine ⟨(hP p p0 p1).mpr ⟨i, i0, by omega, i2⟩, decide_eq_true (fun e => ?_)⟩
        have := (hv i i0 (by omega)).2 n (by omega) (by omega) (by rw [i2, e])
        omega)
    have hn := (hv n (by omega) (by omega)).1
    have one := cnt_one (p := fun p => P p && q p) (q := fun p => (P p && decide (p ≠ v n)) && q p) (x := v n) (by simp) (fun i hi => by simp [hi]) hn.1 N hn.2
    have hPn : P (v n) = true := (hP _ hn.1 hn.2).mpr ⟨n, by omega, by omega, rfl⟩
    rw [show ((n + 1 : Nat) : Int) = (n : Int) + 1 by omega, cnt_s _ (by omega), ih, one, hPn]
    simp
section
variable {h : mD} {r rs : Nat} {a : Int} {P : Int → Prop}
/-- over a list of persons, over all persons -/
theorem PL.ct (hP : PL h r rs a P) (q : Int → Bool) (B : Int → Bool) (hB : ∀ p : Int, 0 ≤ p → p < 100 → (B p = true ↔ P p)) : cnt (fun i => q (h.1 2600 (h.1 r a i) 0)) (h.1 rs a 0) = cnt (fun p => B p && q p) 100 := by
  have hs := hP.1.2.2.2.1
  have := cnt_bij (v := fun i => h.1 2600 (h.1 r a i) 0) (q := q) (N := 100) (h.1 rs a 0).toNat B (fun i i0 i1 => ⟨(hP.2.1 i i0 (by omega)).1, fun j j0 j1 e => (hP.2.1 i i0 (by omega)).2 j j0 (by omega) e⟩) (fun p p0 p1 => by
    rw [hB p p0 (by omega)]
    have hc := hP.2.2 p
    constructor
    · intro hp
      obtain ⟨i, i0, i1, i2⟩ := hc.mpr ⟨p0, by omega, hp⟩
      exact ⟨i, i0, by omega, i2⟩
    · rintro ⟨i, i0, i1, i2⟩
      exact (hc.mp ⟨i, i0, by omega, i2⟩).2.2)
  rw [show (((h.1 rs a 0).toNat : Nat) : Int) = h.1 rs a 0 by omega] at this
  exact this
theorem cnt_tt : ∀ n : Nat, cnt (fun _ => true) n = n
  | 0 => cnt_0 _
  | n + 1 => by
    rw [show ((n + 1 : Nat) : Int) = (n : Int) + 1 by omega, cnt_s _ (by omega), cnt_tt n]
    rfl
theorem PL.size (hP : PL h r rs a P) (B : Int → Bool) (hB : ∀ p : Int, 0 ≤ p → p < 100 → (B p = true ↔ P p)) : h.1 rs a 0 = cnt B 100 := by
  have hs := hP.1.2.2.2.1
  have e := hP.ct (fun _ => true) B hB
  have e2 := cnt_tt (h.1 rs a 0).toNat
  rw [show (((h.1 rs a 0).toNat : Nat) : Int) = h.1 rs a 0 by omega] at e2
  rw [e2] at e
  rw [e]
  have := cnt_cg (p := fun p => B p && true) (q := B) 100 (fun i _ _ => Bool.and_true _)
  exact this
end
