/-! THE PASSAGE for the Model: its memory in the raw one -/
set_option maxHeartbeats 3200000
set_option maxRecDepth 100000
def mU (y : Nat) : Bool := Nat.beq (cNo y) 6
/-- the raw memory mb, the Model's cells as mm has them -/
def eM (mb : mM) (mm : sg) : mM := (fun z j => if z = 1026 then (if j < 0 then mb.1 z j else if tgOf (ty_2 j.toNat) = 2 then nmM j.toNat else mm j.toNat 0) else if 1027 ≤ z ∧ z ≤ 1074 then mm (rgN z.toNat).1 j else mb.1 z j, mb.2)
/-- the cells that the Model's code leans on -/
def okB (mb : mM) : Prop := (mb.2.1 1000 = 1 ∧ mb.2.1 1026 = 2) ∧ (∀ z : Nat, 1027 ≤ z → z ≤ 1074 → mb.2.1 z = (rgN z).2.2 ∧ mb.2.2.1 z = (rgN z).2.1) ∧
  (∀ z : Int, 100 ≤ z → z < 159 → mb.2.1 z = 28 ∧ mb.1 z 0 = z + 100 ∧ mb.1 z 1 = 0) ∧ (∀ z : Int, 200 ≤ z → z < 259 → mb.2.1 z = 102 ∧ mb.2.2.1 z = ((lit (z - 100)).length : Int) ∧ ∀ j : Int, 0 ≤ j → j < ((lit (z - 100)).length : Int) → mb.1 z j = (lit (z - 100)).getD j.toNat 0)
def EM (mb : mM) (mm : sg) (m : mM) : Prop := m = eM mb mm
theorem rg_in : ∀ z : Nat, 1027 ≤ z → z ≤ 1074 → tgOf (ty_2 (rgN z).1) = 2 ∧ nmM (rgN z).1 = (z : Int) ∧ (103 ≤ (rgN z).2.2 ∧ (rgN z).2.2 ≤ 106) := by
  have h : ∀ i : Nat, i < 48 → tgOf (ty_2 (rgN (1027 + i)).1) = 2 ∧ nmM (rgN (1027 + i)).1 = ((1027 + i : Nat) : Int) ∧ (103 ≤ (rgN (1027 + i)).2.2 ∧ (rgN (1027 + i)).2.2 ≤ 106) := by decide +kernel
  intro z h0 h1
  have := h (z - 1027) (by omega)
  rw [show 1027 + (z - 1027) = z by omega] at this
  exact this
theorem rg_out : ∀ z : Nat, ¬ (1027 ≤ z ∧ z ≤ 1074) → rgN z = (999, 0, 0) := by
  intro z hz
  unfold rgN
  by_cases h : z ≤ 1026
  · have hb : ∀ k, 1026 ≤ k → Nat.ble z k = true := fun k hk => Nat.ble_eq_true_of_le (by omega)
    simp only [hb 1050 (by omega), hb 1037 (by omega), hb 1031 (by omega), hb 1028 (by omega), hb 1026 (by omega), cond_true]
  · have hb : ∀ k, k ≤ 1074 → Nat.ble z k = false := fun k hk => by
      cases hc : Nat.ble z k with
      | false => rfl
      | true => exact absurd (Nat.le_of_ble_eq_true hc) (by omega)
    simp only [hb 1050 (by omega), hb 1062 (by omega), hb 1068 (by omega), hb 1071 (by omega), hb 1073 (by omega), hb 1074 (by omega), cond_false]
theorem rg_k0 {z : Nat} {j : Nat} {n : Int} (h : rgN z = (j, n, 0)) : n = 0 := by
  by_cases hz : 1027 ≤ z ∧ z ≤ 1074
  · have := (rg_in z hz.1 hz.2).2.2
    rw [h] at this
    have : 103 ≤ 0 := this.1
    omega
  · rw [rg_out _ hz] at h
    cases h
    rfl
/-- a store into one of the Model's arrays -/
theorem eM_st {mb : mM} {mm : sg} {a : Int} {j : Nat} {n : Int} {k : Nat} (hr : rgN a.toNat = (j, n, k)) (hk : k ≠ 0) (i v : Int) : (1027 ≤ a ∧ a ≤ 1074) ∧ mst (eM mb mm) a i v = eM mb (upm mm j i v) := by
  have ha : 1027 ≤ a.toNat ∧ a.toNat ≤ 1074 := by
    by_cases h : 1027 ≤ a.toNat ∧ a.toNat ≤ 1074
    · exact h
    · rw [rg_out _ h] at hr
      cases hr
      exact absurd rfl hk
  have hb : 1027 ≤ a ∧ a ≤ 1074 := by omega
  refine ⟨hb, ?_⟩
  obtain ⟨r1, r2, -⟩ := rg_in a.toNat ha.1 ha.2
  rw [hr] at r1 r2
  dsimp only at r1 r2
  refine Prod.ext ?_ rfl
  funext z x
  show (if z = a ∧ x = i then v else (eM mb mm).1 z x) = (eM mb (upm mm j i v)).1 z x
  unfold eM
  dsimp only
  by_cases h1 : z = 1026
  · rw [if_pos h1, if_pos h1, if_neg (by omega)]
    by_cases hx0 : x < 0
    · rw [if_pos hx0, if_pos hx0]
    · rw [if_neg hx0, if_neg hx0]
      by_cases ht : tgOf (ty_2 x.toNat) = 2
      · rw [if_pos ht, if_pos ht]
      · rw [if_neg ht, if_neg ht, upm_ap, if_neg (fun e => ht (by rw [e]; exact r1))]
  · rw [if_neg h1, if_neg h1]
    by_cases h2 : 1027 ≤ z ∧ z ≤ 1074
    · rw [if_pos h2, if_pos h2, upm_ap]
      by_cases hz : z = a
      · subst hz
        rw [hr]
        dsimp only
        rw [if_pos rfl, upd1_ap]
        by_cases hx : x = i
        · rw [if_pos ⟨rfl, hx⟩, if_pos hx]
        · rw [if_neg (fun h => hx h.2), if_neg hx]
      · rw [if_neg (fun h => hz h.1), if_neg]
        intro e
        obtain ⟨-, q2, -⟩ := rg_in z.toNat (by omega) (by omega)
        rw [e] at q2
        omega
    · rw [if_neg h2, if_neg h2, if_neg (by omega)]
/-- a store into one of the Model's number fields -/
theorem eM_sf {mb : mM} {mm : sg} {j : Nat} (ht : tgOf (ty_2 j) ≠ 2) (v : Int) : mst (eM mb mm) 1026 j v = eM mb (upm mm j 0 v) := by
  refine Prod.ext ?_ rfl
  funext z x
  show (if z = 1026 ∧ x = (j : Int) then v else (eM mb mm).1 z x) = (eM mb (upm mm j 0 v)).1 z x
  unfold eM
  dsimp only
  by_cases h1 : z = 1026
  · rw [if_pos h1, if_pos h1]
    by_cases hx : x = (j : Int)
    · rw [if_pos ⟨h1, hx⟩, hx, if_neg (by omega), Int.toNat_natCast, if_neg ht, upm_ap, if_pos rfl, upd1_ap, if_pos rfl]
    · rw [if_neg (fun h => hx h.2)]
      by_cases hx0 : x < 0
      · rw [if_pos hx0, if_pos hx0]
      · rw [if_neg hx0, if_neg hx0]
        by_cases hq : tgOf (ty_2 x.toNat) = 2
        · rw [if_pos hq, if_pos hq]
        · rw [if_neg hq, if_neg hq, upm_ap, if_neg (by omega)]
  · rw [if_neg h1, if_neg h1, if_neg (fun h => h1 h.1)]
    by_cases h2 : 1027 ≤ z ∧ z ≤ 1074
    · rw [if_pos h2, if_pos h2, upm_ap, if_neg]
      intro e
      obtain ⟨q1, -⟩ := rg_in z.toNat (by omega) (by omega)
      rw [e] at q1
      exact ht q1
    · rw [if_neg h2, if_neg h2]
/-- the check of an item -/
def itM (it : mIt) : Bool := match it with
  | (.getfield _, _, _, j :: t :: lo :: hi :: _, _) => Nat.beq t (tgOf (ty_2 j)) && (Nat.beq lo 2 && Nat.beq hi 2)
  | (.putfield _, _, _, j :: t :: lo :: hi :: _, _) => Nat.beq t 2 || (!(Nat.beq (tgOf (ty_2 j)) 2) && (Nat.beq lo 2 && Nat.beq hi 2))
  | (.getfield _, _, _, _, _) => false
  | (.putfield _, _, _, _, _) => false
  | (.iaload, _, _, au, _) => lbeq au [105]
  | _ => true
theorem eM_n {mb : mM} {mm : sg} {j : Nat} (ht : tgOf (ty_2 j) ≠ 2) : (eM mb mm).1 1026 (j : Int) = mm j 0 := by
  unfold eM
  dsimp only
  rw [if_pos rfl, if_neg (by omega), Int.toNat_natCast, if_neg ht]
theorem eM_r {mb : mM} {mm : sg} {j : Nat} (ht : tgOf (ty_2 j) = 2) : (eM mb mm).1 1026 (j : Int) = nmM j := by
  unfold eM
  dsimp only
  rw [if_pos rfl, if_neg (by omega), Int.toNat_natCast, if_pos ht]
theorem eM_a {mb : mM} {mm : sg} {a : Int} {j : Nat} {n : Int} {k : Nat} (hB : okB mb) (hr : rgN a.toNat = (j, n, k)) (hk : k ≠ 0) : (∀ i, (eM mb mm).1 a i = mm j i) ∧ (eM mb mm).2.1 a = k ∧ (eM mb mm).2.2.1 a = n := by
  have ha := (eM_st (mb := mb) (mm := mm) hr hk 0 0).1
  have hz := hB.2.1 a.toNat (by omega) (by omega)
  rw [hr, show ((a.toNat : Nat) : Int) = a by omega] at hz
  refine ⟨fun i => ?_, hz.1, hz.2⟩
  unfold eM
  dsimp only
  rw [if_neg (by omega), if_pos ha, hr]
theorem H1M {mb : mM} (hB : okB mb) {it : mIt} (hi : itM it = true) {S : List mV} {mm : sg} {K : List mV → sg → Prop} {m : mM} (hE : EM mb mm m) (h : oM it S mm K) : hpE (EM mb) K (rO it S m) := by
  obtain ⟨ins, np, tg, au, cz⟩ := it
  unfold EM at hE
  subst hE
  have h26 : (eM mb mm).2.1 1026 = 2 := hB.1.2
  unfold oM at h
  dsimp only at h
  split at h
  · split at h
    · rename_i a r j t ex
      cases hb : Nat.beq a.toNat 1026 with
      | false => rw [hb] at h; exact h.elim
      | true =>
        rw [hb] at h
        have ea : a = 1026 := by have := Nat.eq_of_beq_eq_true hb; omega
        subst ea
        rcases ex with _ | ⟨lo, _ | ⟨hi', ex⟩⟩
        · cases hi
        · cases hi
        obtain ⟨i1, i2⟩ := two hi
        obtain ⟨i2, i3⟩ := two i2
        have e1 := Nat.eq_of_beq_eq_true i1
        have e2 := Nat.eq_of_beq_eq_true i2
        have e3 := Nat.eq_of_beq_eq_true i3
        subst e2 e3
        refine ⟨⟨Nat.le_of_eq h26.symm, Nat.le_of_eq h26⟩, mm, rfl, ?_⟩
        dsimp only [cond_true] at h
        match t, e1, h with
        | 0, e1, h => rw [eM_n (by omega)]; exact h
        | 1, e1, h => rw [eM_n (by omega)]; exact h
        | 2, e1, h => rw [eM_r e1.symm]; exact h
        | t + 3, e1, h =>
          exfalso
          have : tgOf (ty_2 j) ≤ 2 := by unfold tgOf; split <;> omega
          omega
    · exact h.elim
  · split at h
    · rename_i v a r j ex
      cases hb : Nat.beq a.toNat 1026 with
      | false => rw [hb] at h; exact h.elim
      | true =>
        rw [hb] at h
        have ea : a = 1026 := by have := Nat.eq_of_beq_eq_true hb; omega
        subst ea
        rcases ex with _ | ⟨lo, _ | ⟨hi', ex⟩⟩
        · cases hi
        · cases hi
        obtain ⟨i1, i2⟩ := two (show (!(Nat.beq (tgOf (ty_2 j)) 2) && (Nat.beq lo 2 && Nat.beq hi' 2)) = true from hi)
        obtain ⟨i2, i3⟩ := two i2
        have e2 := Nat.eq_of_beq_eq_true i2
        have e3 := Nat.eq_of_beq_eq_true i3
        subst e2 e3
        exact ⟨⟨Nat.le_of_eq h26.symm, Nat.le_of_eq h26⟩, _, eM_sf (fun e => by rw [e] at i1; cases i1) v, h⟩
    · rename_i v a r j ex
      cases hb : Nat.beq a.toNat 1026 with
      | false => rw [hb] at h; exact h.elim
      | true =>
        rw [hb] at h
        have ea : a = 1026 := by have := Nat.eq_of_beq_eq_true hb; omega
        subst ea
        rcases ex with _ | ⟨lo, _ | ⟨hi', ex⟩⟩
        · cases hi
        · cases hi
        obtain ⟨i1, i2⟩ := two (show (!(Nat.beq (tgOf (ty_2 j)) 2) && (Nat.beq lo 2 && Nat.beq hi' 2)) = true from hi)
        obtain ⟨i2, i3⟩ := two i2
        have e2 := Nat.eq_of_beq_eq_true i2
        have e3 := Nat.eq_of_beq_eq_true i3
        subst e2 e3
        exact ⟨⟨⟨Nat.le_of_eq h26.symm, Nat.le_of_eq h26⟩, h.1⟩, _, eM_sf (fun e => by rw [e] at i1; cases i1) v, h.2⟩
    · rename_i v a r j ex
      cases hb : Nat.beq a.toNat 1026 with
      | false => rw [hb] at h; exact h.elim
      | true =>
        rw [hb] at h
        have ea : a = 1026 := by have := Nat.eq_of_beq_eq_true hb; omega
        subst ea
        rcases ex with _ | ⟨lo, _ | ⟨hi', ex⟩⟩
        · cases hi
        · cases hi
        obtain ⟨i1, i2⟩ := two (show (!(Nat.beq (tgOf (ty_2 j)) 2) && (Nat.beq lo 2 && Nat.beq hi' 2)) = true from hi)
        obtain ⟨i2, i3⟩ := two i2
        have e2 := Nat.eq_of_beq_eq_true i2
        have e3 := Nat.eq_of_beq_eq_true i3
        subst e2 e3
        exact ⟨⟨Nat.le_of_eq h26.symm, Nat.le_of_eq h26⟩, _, eM_sf (fun e => by rw [e] at i1; cases i1) v, h⟩
    · exact h.elim
  · split at h
    · rename_i i a r
      generalize hr : rgN a.toNat = q at h
      obtain ⟨j, n, k⟩ := q
      dsimp only at h
      cases hb : Nat.beq k 105 with
      | false => rw [hb] at h; exact h.elim
      | true =>
        rw [hb] at h
        have ek := Nat.eq_of_beq_eq_true hb
        subst ek
        obtain ⟨e1, e2, e3⟩ := eM_a (mm := mm) hB hr (by omega)
        have hau : au = [105] := lbeq_eq hi
        subst hau
        refine ⟨⟨e2, h.1.1, by rw [e3]; exact h.1.2⟩, mm, rfl, ?_⟩
        rw [e1]; exact h.2
    · exact h.elim
  · split at h
    · rename_i i a r
      generalize hr : rgN a.toNat = q at h
      obtain ⟨j, n, k⟩ := q
      dsimp only at h
      cases hb : Nat.beq k 106 with
      | false => rw [hb] at h; exact h.elim
      | true =>
        rw [hb] at h
        have ek := Nat.eq_of_beq_eq_true hb
        subst ek
        obtain ⟨e1, e2, e3⟩ := eM_a (mm := mm) hB hr (by omega)
        refine ⟨⟨e2, h.1.1, by rw [e3]; exact h.1.2⟩, mm, rfl, ?_⟩
        rw [e1]; exact h.2
    · exact h.elim
  · split at h
    · rename_i i a r lo hi' ex
      generalize hr : rgN a.toNat = q at h
      obtain ⟨j, n, k⟩ := q
      dsimp only at h
      cases hb : (Nat.ble lo k && Nat.ble k hi') with
      | false => rw [hb] at h; exact h.elim
      | true =>
        rw [hb] at h
        have h : (0 ≤ i ∧ i < n) ∧ K (mI (mm j i) :: r) mm := h
        obtain ⟨b1, b2⟩ := two hb
        have hk0 : k ≠ 0 := by
          intro e
          subst e
          have := rg_k0 hr
          omega
        obtain ⟨e1, e2, e3⟩ := eM_a (mm := mm) hB hr hk0
        refine ⟨⟨⟨by rw [e2]; exact Nat.le_of_ble_eq_true b1, by rw [e2]; exact Nat.le_of_ble_eq_true b2⟩, h.1.1, by rw [e3]; exact h.1.2⟩, mm, rfl, ?_⟩
        rw [e1]; exact h.2
    · exact h.elim
  · split at h
    · rename_i v i a r
      generalize hr : rgN a.toNat = q at h
      obtain ⟨j, n, k⟩ := q
      dsimp only at h
      cases hb : Nat.beq k 105 with
      | false => rw [hb] at h; exact h.elim
      | true =>
        rw [hb] at h
        have ek := Nat.eq_of_beq_eq_true hb
        subst ek
        obtain ⟨e1, e2, e3⟩ := eM_a (mm := mm) hB hr (by omega)
        exact ⟨⟨e2, h.1.1, by rw [e3]; exact h.1.2⟩, _, (eM_st hr (by omega) i v).2, h.2⟩
    · exact h.elim
  · split at h
    · rename_i v i a r
      generalize hr : rgN a.toNat = q at h
      obtain ⟨j, n, k⟩ := q
      dsimp only at h
      cases hb : Nat.beq k 106 with
      | false => rw [hb] at h; exact h.elim
      | true =>
        rw [hb] at h
        have ek := Nat.eq_of_beq_eq_true hb
        subst ek
        obtain ⟨e1, e2, e3⟩ := eM_a (mm := mm) hB hr (by omega)
        exact ⟨⟨e2, h.1.1, by rw [e3]; exact h.1.2⟩, _, (eM_st hr (by omega) i v).2, h.2⟩
    · exact h.elim
  · split at h
    · rename_i v i a r ex
      generalize hr : rgN a.toNat = q at h
      obtain ⟨j, n, k⟩ := q
      dsimp only at h
      cases hb : Nat.beq k 103 with
      | false => rw [hb] at h; exact h.elim
      | true =>
        rw [hb] at h
        have ek := Nat.eq_of_beq_eq_true hb
        subst ek
        obtain ⟨e1, e2, e3⟩ := eM_a (mm := mm) hB hr (by omega)
        exact ⟨⟨e2, h.1.1, by rw [e3]; exact h.1.2⟩, _, (eM_st hr (by omega) i (zi2b v)).2, h.2⟩
    · rename_i v i a r ex
      generalize hr : rgN a.toNat = q at h
      obtain ⟨j, n, k⟩ := q
      dsimp only at h
      cases hb : Nat.beq k 104 with
      | false => rw [hb] at h; exact h.elim
      | true =>
        rw [hb] at h
        have ek := Nat.eq_of_beq_eq_true hb
        subst ek
        obtain ⟨e1, e2, e3⟩ := eM_a (mm := mm) hB hr (by omega)
        exact ⟨⟨e2, ⟨h.1.1, by rw [e3]; exact h.1.2⟩, h.2.1⟩, _, (eM_st hr (by omega) i v).2, h.2.2⟩
    · exact h.elim
  · exact h.elim
