/-! THE RAW MEMORY under the second machine: walks of the JDK's methods and of the law; methods of TrustDesk and of TrustDeskModel are primitive there (their words are Rn) -/
set_option maxHeartbeats 3200000
set_option maxRecDepth 100000
def oR : mH2 mM := fun it S m K => match rO it S m with
  | some (none, S', m') => K S' m'
  | some (some P, S', m') => P ∧ K S' m'
  | none => False
theorem oR_mono : mOk oR := by
  intro it S m K K' hK h
  unfold oR at h ⊢
  split at h
  · exact hK _ _ h
  · exact ⟨h.1, hK _ _ h.2⟩
  · exact h
/-- Math alone -/
def PRm : mP2 mM := fun c _ as m Q => match as with
  | [.inl x, .inl y] => bif Nat.beq c 232 then Q (rI (max x y)) m else bif Nat.beq c 233 then Q (rI (min x y)) m else False
  | [.inr (.inl x), .inr (.inl y)] => bif Nat.beq c 235 then Q (rJ (max x y)) m else bif Nat.beq c 234 then Q (rJ (min x y)) m else False
  | _ => False
theorem PRm_mono : mPk PRm := by
  intro c ex as m Q Q' hQ h
  unfold PRm at h ⊢
  split at h
  · exact bif_mono (hQ _ _) (bif_mono (hQ _ _) (fun h => h)) h
  · exact bif_mono (hQ _ _) (bif_mono (hQ _ _) (fun h => h)) h
  · exact h
theorem PRm_in {c : Nat} {ex : List Nat} {as : List mV} {mm : mM} {Q : mQ mM} (hq : PRm c ex as mm Q) : (∃ a b, as = [mI a, mI b] ∧ ((c = 232 ∧ Q (rI (max a b)) mm) ∨ (c = 233 ∧ Q (rI (min a b)) mm))) ∨ (∃ a b, as = [mJ a, mJ b] ∧ ((c = 235 ∧ Q (rJ (max a b)) mm) ∨ (c = 234 ∧ Q (rJ (min a b)) mm))) := by
  unfold PRm at hq
  split at hq
  · rename_i x y
    refine Or.inl ⟨x, y, rfl, ?_⟩
    cases h1 : Nat.beq c 232 with
    | true => rw [h1] at hq; exact Or.inl ⟨Nat.eq_of_beq_eq_true h1, hq⟩
    | false =>
      rw [h1] at hq
      cases h2 : Nat.beq c 233 with
      | true => rw [h2] at hq; exact Or.inr ⟨Nat.eq_of_beq_eq_true h2, hq⟩
      | false => rw [h2] at hq; exact hq.elim
  · rename_i x y
    refine Or.inr ⟨x, y, rfl, ?_⟩
    cases h1 : Nat.beq c 235 with
    | true => rw [h1] at hq; exact Or.inl ⟨Nat.eq_of_beq_eq_true h1, hq⟩
    | false =>
      rw [h1] at hq
      cases h2 : Nat.beq c 234 with
      | true => rw [h2] at hq; exact Or.inr ⟨Nat.eq_of_beq_eq_true h2, hq⟩
      | false => rw [h2] at hq; exact hq.elim
  · exact hq.elim
theorem oR_H1 {it : mIt} {S : List mV} {mm : mM} {K : List mV → mM → Prop} {m : mM} (hE : mm = m) (ho : oR it S mm K) : hpE (fun mm m => mm = m) K (rO it S m) := by
  subst hE
  unfold oR at ho
  unfold hpE
  split at ho
  · rename_i S' m' e
    rw [e]
    exact ⟨m', rfl, ho⟩
  · rename_i P S' m' e
    rw [e]
    exact ⟨ho.1, m', rfl, ho.2⟩
  · exact ho.elim
theorem hub_R {lo hi od : Nat} {as : List mV} {X : Prop} {mm m : mM} (hE : mm = m) (h1 : 3 ≤ lo) (hq : m_hub lo hi od as (rK mm) X) : X ∧ ((lo ≤ rK m (m_recv as) ∧ rK m (m_recv as) ≤ hi) ∨ rK m (m_recv as) = od) := by
  subst hE
  unfold m_hub at hq
  split at hq
  · split at hq
    · omega
    · omega
    · exact ⟨hq.2, hq.1⟩
  · exact hq.elim
/-- THE JDK's machine: no callee is primitive but Math's -/
abbrev RJ (d y : Nat) (g : mG mM) (Q : mQ mM) : Prop := Rn2 oR mthC PRm rK tP tU d y g Q
theorem RJr (inl stops : List Nat) (n : Nat) {d y : Nat} {g : mG mM} {Q : mQ mM} (h : wp2 oR mthC PRm rK tP tU (Rn2 oR mthC PRm rK tP tU) inl stops n d y g Q) : RJ d y g Q := Rn2.run oR_mono PRm_mono inl stops n h
theorem RJ.mono {d y : Nat} {g : mG mM} {Q Q' : mQ mM} (h : RJ d y g Q) (hQ : ∀ o m, Q o m → Q' o m) : RJ d y g Q' := Rn2.mono oR_mono PRm_mono h hQ
/-- the JDK's classes -/
def jU (y : Nat) : Bool := (Nat.ble 58 y && Nat.ble y 74) || ((Nat.ble 211 y && Nat.ble y 270) || ((Nat.ble 285 y && Nat.ble y 286) || (Nat.beq y 289 || ((Nat.ble 299 y && Nat.ble y 310) || (Nat.ble 318 y && Nat.ble y 323)))))
theorem SJ : (List.range 367).all (fun y => bif jU y then (vP y).all (fun pc => simI (fun _ _ => true) rngP 3 60 mthC jU (tP y pc)) else true) = true := by decide +kernel
theorem SIMJ {d y : Nat} {g : mG mM} {Q : mQ mM} (h : RJ d y g Q) (hv : VV y g.1) (hj : jU y = true) : Rn rO rK tQ tU d y g Q := by
  have := SIM (s := 0) (pC := fun _ _ => true) (E := fun mm m => mm = m) (rg := rngP) (lm := 3) (hm := 60) (U := jU) (O2 := oR) (isP := mthC) (PR := PRm) (kd2 := rK) (fun y pc hv hu => ?_) (fun c hc => hc) (fun y pc hv _ hH S mm K m hE ho => oR_H1 hE ho) (fun c ex as mm Q m hp _ hm hE hq => ?_) (fun c ex as mm Q hm hq => PRm_in hq) (fun mm m lo hi od as X hE h1 h2 h3 h4 h5 hq => hub_R hE h1 hq) (fun mm m a hE _ _ => by rw [hE]) h hv hj g.2.2.2 rfl
  · rw [Nat.zero_add] at this
    exact Rn.mono this (fun o m' ⟨mm', e, hq⟩ => by rw [← e]; exact hq)
  · have h1 := List.all_eq_true.mp SJ y (List.mem_range.mpr (vP_lt hv))
    rw [hu] at h1
    exact List.all_eq_true.mp h1 pc (m_has_mem hv)
  · rw [hp] at hm
    cases hm
def isR (c : Nat) : Bool := mthC c || (Nat.beq (cNo c) 1 || Nat.beq (cNo c) 6)
def rgR (c : Nat) : List Nat := bif Nat.beq (cNo c) 1 then [1, 1, 1] else bif Nat.beq (cNo c) 6 then [2, 2, 2] else rngP c
def PRr : mP2 mM := fun c ex as m Q => bif mthC c then PRm c ex as m Q else rOk rgR c (rK m (m_recv as)) ∧ ∀ d, Rn rO rK tQ tU (10 + d) c (0, entL (tU c) as, [], m) Q
theorem PRr_mono : mPk PRr := by
  intro c ex as m Q Q' hQ h
  unfold PRr at h ⊢
  cases hm : mthC c with
  | true =>
    rw [hm] at h
    exact PRm_mono c ex as m Q Q' hQ h
  | false =>
    rw [hm] at h
    exact ⟨h.1, fun d => Rn.mono (h.2 d) hQ⟩
abbrev RR (d y : Nat) (g : mG mM) (Q : mQ mM) : Prop := Rn2 oR isR PRr rK tP tU d y g Q
theorem RRr (inl stops : List Nat) (n : Nat) {d y : Nat} {g : mG mM} {Q : mQ mM} (h : wp2 oR isR PRr rK tP tU (Rn2 oR isR PRr rK tP tU) inl stops n d y g Q) : RR d y g Q := Rn2.run oR_mono PRr_mono inl stops n h
theorem RR.mono {d y : Nat} {g : mG mM} {Q Q' : mQ mM} (h : RR d y g Q) (hQ : ∀ o m, Q o m → Q' o m) : RR d y g Q' := Rn2.mono oR_mono PRr_mono h hQ
theorem SR : (List.range 367).all (fun y => (vP y).all (fun pc => simI (fun _ _ => true) rgR 3 60 isR (fun _ => true) (tP y pc))) = true := by decide +kernel
theorem SIMR {d y : Nat} {g : mG mM} {Q : mQ mM} (h : RR d y g Q) (hv : VV y g.1) : Rn rO rK tQ tU (10 + d) y g Q := by
  have := SIM (s := 10) (pC := fun _ _ => true) (E := fun mm m => mm = m) (rg := rgR) (lm := 3) (hm := 60) (U := fun _ => true) (O2 := oR) (isP := isR) (PR := PRr) (kd2 := rK) (fun y pc hv _ => ?_) (fun c hc => ?_) (fun y pc hv _ hH S mm K m hE ho => oR_H1 hE ho) (fun c ex as mm Q m hp _ hm hE hq => ?_) (fun c ex as mm Q hm hq => ?_) (fun mm m lo hi od as X hE h1 h2 h3 h4 h5 hq => hub_R hE h1 hq) (fun mm m a hE _ _ => by rw [hE]) h hv rfl g.2.2.2 rfl
  · exact Rn.mono this (fun o m' ⟨mm', e, hq⟩ => by rw [← e]; exact hq)
  · have h1 := List.all_eq_true.mp SR y (List.mem_range.mpr (vP_lt hv))
    exact List.all_eq_true.mp h1 pc (m_has_mem hv)
  · unfold isR
    rw [hc]
    rfl
  · subst hE
    unfold PRr at hq
    rw [hm] at hq
    exact ⟨fun _ => hq.1, fun d => Rn.mono (hq.2 d) (fun o m' h => ⟨m', rfl, h⟩)⟩
  · unfold PRr at hq
    rw [hm] at hq
    exact PRm_in (ex := ex) hq
