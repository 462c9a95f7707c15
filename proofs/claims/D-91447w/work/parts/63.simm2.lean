/-! THE PASSAGE for the Model -/
set_option maxHeartbeats 1600000
set_option maxRecDepth 100000
theorem SMd : (List.range 367).all (fun y => bif mU y then (vP y).all (fun pc => simI (fun _ _ => true) rngP 1 23 isPM mU (tP y pc) && itM (tP y pc)) else true) = true := by decide +kernel
theorem SM_in {y pc : Nat} (hv : VV y pc) (hu : mU y = true) : simI (fun _ _ => true) rngP 1 23 isPM mU (tP y pc) = true ∧ itM (tP y pc) = true := by
  have h1 := List.all_eq_true.mp SMd y (List.mem_range.mpr (vP_lt hv))
  rw [hu] at h1
  exact two (List.all_eq_true.mp h1 pc (m_has_mem hv))
theorem SIMM {mb : mM} (hB : okB mb) {d y pc : Nat} {L : mL} {S : List mV} {mm : sg} {Q : mQ sg} (h : RM d y (pc, L, S, mm) Q) (hv : VV y pc) (hu : mU y = true) : Rn rO rK tQ tU (10 + d) y (pc, L, S, eM mb mm) (fun o m' => ∃ mm', EM mb mm' m' ∧ Q o mm') := by
  have hk : ∀ (mm : sg), (eM mb mm).2 = mb.2 := fun _ => rfl
  have := SIM (s := 10) (pC := fun _ _ => true) (E := EM mb) (rg := rngP) (lm := 1) (hm := 23) (U := mU) (O2 := oM) (isP := isPM) (PR := PM) (kd2 := fun _ _ => 0) (fun y pc hv hu => (SM_in hv hu).1) (fun c hc => ?_) (fun y pc hv hu hH S mm K m hE ho => H1M hB (SM_in hv hu).2 hE ho) (fun c ex as mm Q m hp _ hm hE hq => ?_) (fun c ex as mm Q hm hq => ?_) (fun mm m lo hi od as X hE h1 h2 h3 h4 h5 hq => ?_) (fun mm m a hE h1 _ => absurd h1 (by decide)) h hv hu (eM mb mm) rfl
  · exact this
  · have : ∀ c ∈ [232, 233, 234, 235], isPM c = true := by decide
    exact this c (m_has_mem hc)
  · have hc : c = 211 ∨ c = 219 := by
      have h1 : c ∈ [211, 219, 232, 233, 235, 234] := m_has_mem hp
      have h2 : ∀ c ∈ [211, 219, 232, 233, 235, 234], mthC c = false → c = 211 ∨ c = 219 := by decide
      exact h2 c h1 hm
    unfold EM at hE
    subst hE
    have tx : ∀ a : Int, (100 ≤ a ∧ a < 159) → txA (eM mb mm) a (a + 100) ((lit a).length : Int) ∧ (∀ i : Int, 0 ≤ i → i < ((lit a).length : Int) → (eM mb mm).1 (a + 100) i = (lit a).getD i.toNat 0) ∧ (eM mb mm).2.1 a = 28 := by
      intro a ha
      obtain ⟨s1, s2, s3⟩ := hB.2.2.1 a ha.1 ha.2
      obtain ⟨t1, t2, t3⟩ := hB.2.2.2 (a + 100) (by omega) (by omega)
      rw [show a + 100 - 100 = a by omega] at t2 t3
      have eo : ∀ z : Int, z < 1000 → (eM mb mm).1 z = mb.1 z := by
        intro z hz
        funext j
        unfold eM
        dsimp only
        rw [if_neg (by omega), if_neg (by omega)]
      refine ⟨⟨Or.inr (by rw [hk]; exact s1), by rw [eo a (by omega)]; exact s3, by rw [eo a (by omega)]; exact s2, by rw [hk, t1]; omega, by rw [hk]; exact t2, by omega, ?_⟩, fun i h0 h1 => by rw [eo _ (by omega)]; exact t3 i h0 h1, by rw [hk]; exact s1⟩
      have : ∀ n : Nat, n < 59 → (lit ((100 + n : Nat) : Int)).length ≤ 65536 := by decide +kernel
      have := this (a - 100).toNat (by omega)
      rw [show ((100 + (a - 100).toNat : Nat) : Int) = a by omega] at this
      omega
    rcases hc with rfl | rfl
    · unfold PM at hq
      split at hq
      · rename_i a
        have hq : (100 ≤ a ∧ a < 159) ∧ Q (rI (lit a).length) mm := hq
        obtain ⟨t1, t2, t3⟩ := tx a hq.1
        refine ⟨fun _ => Or.inr t3, fun d => ?_⟩
        rw [show 10 + d = (d + 9) + 1 by omega]
        exact SIMJ (J_len t1 ⟨mm, rfl, hq.2⟩) rfl rfl
      all_goals exact hq.elim
    · unfold PM at hq
      split at hq
      · exact hq.elim
      · rename_i a i
        have hq : ((100 ≤ a ∧ a < 159) ∧ 0 ≤ i ∧ i < (lit a).length) ∧ Q (rI ((lit a).getD i.toNat 0)) mm := hq
        obtain ⟨t1, t2, t3⟩ := tx a hq.1.1
        refine ⟨fun _ => Or.inr t3, fun d => ?_⟩
        rw [show 10 + d = (d + 7) + 3 by omega]
        have e := t2 i hq.1.2.1 hq.1.2.2
        have hr : 0 ≤ (lit a).getD i.toNat 0 ∧ (lit a).getD i.toNat 0 ≤ 127 := by
          have hl : ∀ n : Nat, n < 59 → ∀ x ∈ lit ((100 + n : Nat) : Int), 0 ≤ x ∧ x ≤ 127 := by decide +kernel
          have hl := hl (a - 100).toNat (by omega)
          rw [show ((100 + (a - 100).toNat : Nat) : Int) = a by omega] at hl
          have hlt : i.toNat < (lit a).length := by omega
          rw [List.getD_eq_getElem?_getD, List.getElem?_eq_getElem hlt]
          exact hl _ (List.getElem_mem hlt)
        have e2 : zi2c (zand ((eM mb mm).1 (a + 100) i) 255) = (lit a).getD i.toNat 0 := by rw [e, zand255 hr]
        refine SIMJ (J_charAt t1 hq.1.2 (by rw [e2]; omega) ?_) rfl rfl
        rw [e2]
        exact ⟨mm, rfl, hq.2⟩
      all_goals exact hq.elim
  · unfold PM at hq
    split at hq
    · rename_i a
      have : ∀ c ∈ [232, 233, 234, 235], Nat.beq c 211 = false := by decide
      rw [this c (m_has_mem hm)] at hq
      exact hq.elim
    · rename_i a i
      have : ∀ c ∈ [232, 233, 234, 235], Nat.beq c 219 = false := by decide
      rw [this c (m_has_mem hm)] at hq
      exact hq.elim
    · rename_i x y
      refine Or.inl ⟨x, y, rfl, ?_⟩
      cases h1 : Nat.beq c 232 with
      | true => rw [h1] at hq; exact Or.inl ⟨Nat.eq_of_beq_eq_true h1, hq⟩
      | false =>
        rw [h1] at hq
        cases h2 : Nat.beq c 233 with
        | true => rw [h2] at hq; exact Or.inr ⟨Nat.eq_of_beq_eq_true h2, hq⟩
        | false => rw [h2] at hq; exact hq.elim
    · rename_i x y
      refine Or.inr ⟨x, y, rfl, ?_⟩
      cases h1 : Nat.beq c 235 with
      | true => rw [h1] at hq; exact Or.inl ⟨Nat.eq_of_beq_eq_true h1, hq⟩
      | false =>
        rw [h1] at hq
        cases h2 : Nat.beq c 234 with
        | true => rw [h2] at hq; exact Or.inr ⟨Nat.eq_of_beq_eq_true h2, hq⟩
        | false => rw [h2] at hq; exact hq.elim
    · exact hq.elim
  · unfold EM at hE
    subst hE
    have h26 : mb.2.1 1026 = 2 := hB.1.2
    have h00 : mb.2.1 1000 = 1 := hB.1.1
    unfold m_hub at hq
    split at hq
    · rename_i a r
      show X ∧ ((lo ≤ mb.2.1 a ∧ mb.2.1 a ≤ hi) ∨ mb.2.1 a = od)
      split at hq
      · cases hb : Nat.beq a.toNat 1000 with
        | false => rw [hb] at hq; exact hq.elim
        | true =>
          rw [hb] at hq
          have ea : a = 1000 := by have := Nat.eq_of_beq_eq_true hb; omega
          rw [ea, h00]
          exact ⟨hq, Or.inl (by omega)⟩
      · cases hb : Nat.beq a.toNat 1026 with
        | false => rw [hb] at hq; exact hq.elim
        | true =>
          rw [hb] at hq
          have ea : a = 1026 := by have := Nat.eq_of_beq_eq_true hb; omega
          rw [ea, h26]
          exact ⟨hq, Or.inl (by omega)⟩
      · have := hq.1
        dsimp only at this
        omega
    · exact hq.elim
