/-! the Model: works, asks -/
set_option maxHeartbeats 400000
def jv (s a b : Int) : Int := if s = -1 then bd (a + b) else if s = -2 then bd (a - b) else if s = -3 then bd (a * b) else if s = -4 then (if a < b then 1 else 0) else if s = -5 then (if b < a then 1 else 0) else if s = -6 then (if a = b then 1 else 0) else if s = -7 then a * b else (if 0 < a + b then 1 else 0)
theorem bd_b (v : Int) : -1000000000 ≤ bd v ∧ bd v ≤ 1000000000 := by unfold bd; omega
theorem mul_b {a b : Int} (ha : -1000000000 ≤ a ∧ a ≤ 1000000000) (hb : -1000000000 ≤ b ∧ b ≤ 1000000000) : -1000000000000000000 ≤ a * b ∧ a * b ≤ 1000000000000000000 := by
  have h1 : (a * b).natAbs ≤ 1000000000 * 1000000000 := by
    rw [Int.natAbs_mul]
    exact Nat.mul_le_mul (by omega) (by omega)
  omega
theorem jv_b {s a b : Int} (h : s = -7 → (a = 0 ∨ a = 1) ∧ (b = 0 ∨ b = 1)) : -1000000000 ≤ jv s a b ∧ jv s a b ≤ 1000000000 := by
  unfold jv
  repeat' split
  all_goals first | exact bd_b _ | omega | skip
  · rename_i h7
    obtain ⟨h1, h2⟩ := h h7
    rcases h1 with rfl | rfl <;> rcases h2 with rfl | rfl <;> omega
theorem sgn_bin {nm : Int → Int} {s a b : Int} {r log st' log' : List Int} (hs : -8 ≤ s ∧ s ≤ -1) (h : sgn nm s (b :: a :: r) log = some (st', log')) :
    st' = jv s a b :: r ∧ log' = (if -6 ≤ s ∧ s ≤ -4 then jv s a b :: log else log) ∧ (s = -7 → (a = 0 ∨ a = 1) ∧ (b = 0 ∨ b = 1)) := by
  rcases (by omega : s = -1 ∨ s = -2 ∨ s = -3 ∨ s = -4 ∨ s = -5 ∨ s = -6 ∨ s = -7 ∨ s = -8) with rfl | rfl | rfl | rfl | rfl | rfl | rfl | rfl
  all_goals (simp [sgn] at h; try (obtain ⟨h0, h⟩ := h); simp [jv]; first | (obtain ⟨h1, h2⟩ := h; simp [← h1, ← h2]; done) | (simp_all; done) | skip)
section
variable {d : Nat} {m : sg} {Q : mQ sg}
theorem M_joinedV {s a b : Int} (hs : -8 ≤ s ∧ s ≤ -1) (ha : -1000000000 ≤ a ∧ a ≤ 1000000000) (hb : -1000000000 ≤ b ∧ b ≤ 1000000000) (h7 : s = -7 → (a = 0 ∨ a = 1) ∧ (b = 0 ∨ b = 1)) (hQ : Q (rI (jv s a b)) m) : RM (d + 1) 135 (0, [some (mI s), some (mI a), some (mI b)], [], m) Q := by
  refine M_joined (v := 0) hs ha hb ?_ (mul_b ha hb) ?_ ?_ ?_ ?_ ?_ ?_ ?_ ?_
  · intro e
    have := jv_b h7
    subst e
    have e2 : jv (-7) a b = a * b := rfl
    rw [e2] at this
    omega
  · intro e; subst e; exact hQ
  · intro e; subst e; exact hQ
  · intro e; subst e; exact hQ
  · intro e v hv; subst e; rw [hv]; exact hQ
  · intro e v hv; subst e; rw [hv]; exact hQ
  · intro e v hv; subst e; rw [hv]; exact hQ
  · intro e; subst e; exact hQ
  · intro e v hv; subst e; rw [hv]; exact hQ
end
/-- the first comparison that gave 0 -/
def fz : List Int → Int
  | [] => -1
  | v :: log => if fz log ≠ -1 then fz log else if v = 0 then log.length else -1
theorem fz_b : ∀ l : List Int, -1 ≤ fz l ∧ fz l < l.length
  | [] => ⟨by show (-1 : Int) ≤ -1; omega, by show (-1 : Int) < 0; omega⟩
  | v :: l => by
    have := fz_b l
    unfold fz
    have e : ((v :: l).length : Int) = l.length + 1 := by simp
    rw [e]
    split
    · omega
    · split <;> omega
/-- the heap's places hold a list, top first -/
def HS (h : Int → Int) : List Int → Prop
  | [] => True
  | a :: r => h (r.length : Int) = a ∧ HS h r
theorem HS_up {h h' : Int → Int} : ∀ {st : List Int}, HS h st → (∀ i : Int, 0 ≤ i → i < st.length → h' i = h i) → HS h' st
  | [], _, _ => True.intro
  | a :: r, H, e => by
    have e2 : ((a :: r).length : Int) = r.length + 1 := by simp
    rw [e2] at e
    exact ⟨by rw [e _ (by omega) (by omega)]; exact H.1, HS_up H.2 (fun i h0 h1 => e i h0 (by omega))⟩
/-- a slice of places holds a list -/
def SL (h : Int → Int) : Int → List Int → Prop
  | _, [] => True
  | i, s :: r => h i = s ∧ SL h (i + 1) r
section
variable {d : Nat} {m : sg} {Q : mQ sg}
theorem M_worksL {text frm to v : Int} {lf : List Int} (ht : 0 ≤ text ∧ text < 45) (hto : to ≤ 420) (hnm : ∀ i, 0 ≤ i → i < 13 → -1000000000 ≤ m 29 i ∧ m 29 i ≤ 1000000000)
    (hQ : ∀ m', (∀ j, j ≠ 30 → j ≠ 31 → m' j = m j) → m' 31 0 = fz lf → Q (rI v) m') :
    ∀ (c st log : List Int) (i t q : Int) (m' : sg) (x7 : Option mV), (∀ j, j ≠ 30 → j ≠ 31 → m' j = m j) → 0 ≤ i → i + c.length = to → t = st.length → q = log.length → t ≤ i → q ≤ i → HS (m' 30) st → (∀ x ∈ st, -1000000000 ≤ x ∧ x ≤ 1000000000) → SL (fun k => m 4 (420 * text + k)) i c → (∀ s ∈ c, -9 ≤ s ∧ s < 10013) → m' 31 0 = fz log →
      run (m 29) c st log = some ([v], lf) → RM (d + 2) 134 (14, [some (mR 1026), some (mI text), some (mI frm), some (mI to), some (mI t), some (mI q), some (mI i), x7], [], m') Q := by
  intro c
  induction c with
  | nil =>
    intro st log i t q m' x7 hfr h0 hi htt hq hst hlg hH hb hS hV h31 hrun
    simp only [run, Option.some.injEq, Prod.mk.injEq] at hrun
    obtain ⟨rfl, rfl⟩ := hrun
    have hv : m' 30 0 = v := hH.1
    simp only [List.length_nil, List.length_cons] at hi
    refine RMr [] [1340014] 200 ?_
    repeat' first | (refine ⟨fun _ => ?_, fun _ => ?_⟩ <;> try omega) | (refine ⟨by first | omega | (simp only [upm_ap, upd1_ap, Nat.reduceEqDiff, ↓reduceIte, eq_self] at * <;> omega) | fail, ?_⟩) | (simp only [upm_ap, upd1_ap, Nat.reduceEqDiff, ↓reduceIte, eq_self] at *) | omega | fail
    rw [hv]
    exact hQ _ hfr h31
  | cons s c ih =>
    intro st log i t q m' x7 hfr h0 hi htt hq hst hlg hH hb hS hV h31 hrun
    have e4 := hfr 4 (by decide) (by decide)
    have e29 := hfr 29 (by decide) (by decide)
    have hs : m' 4 (420 * text + i) = s := by rw [e4]; exact hS.1
    have hV1 := hV s List.mem_cons_self
    have hV2 : ∀ s ∈ c, -9 ≤ s ∧ s < 10013 := fun x hx => hV x (List.mem_cons_of_mem _ hx)
    have elen : ((s :: c).length : Int) = c.length + 1 := by simp
    rw [elen] at hi
    have hc0 : (0 : Int) ≤ c.length := by omega
    unfold run at hrun
    generalize hg : sgn (m 29) s st log = g at hrun
    rcases g with _ | ⟨st', log'⟩
    · cases hrun
    · replace hrun : run (m 29) c st' log' = some ([v], lf) := hrun
      have hih := fun t q m2 x7 => ih st' log' (i + 1) t q m2 x7
      have hS2 := hS.2
      have hfr2 : ∀ (x w : Int) (j : Nat), j ≠ 30 → j ≠ 31 → upm m' 30 x w j = m j := by
        intro x w j h30 h31
        simp only [upm_ap, h30, if_false]
        exact hfr j h30 h31
      by_cases hs0 : 0 ≤ s
      · -- a number or a name
        have hg' : st' = (if 10000 ≤ s then m 29 (s - 10000) else s) :: st ∧ log = log' := by
          unfold sgn at hg
          rw [if_pos hs0] at hg
          simp only [Option.some.injEq, Prod.mk.injEq] at hg
          exact ⟨hg.1.symm, hg.2⟩
        obtain ⟨rfl, rfl⟩ := hg'
        have fin : ∀ w, w = (if 10000 ≤ s then m 29 (s - 10000) else s) → -1000000000 ≤ w → w ≤ 1000000000 → RM (d + 2) 134 (14, [some (mR 1026), some (mI text), some (mI frm), some (mI to), some (mI (t + 1)), some (mI q), some (mI (i + 1)), some (mI s)], [], upm m' 30 t w) Q := by
          intro w hw hw1 hw2
          refine hih _ _ _ _ (hfr2 t w) (by omega) (by omega) (by simp; omega) hq (by omega) (by omega) ?_ ?_ hS2 hV2 h31 hrun
          · rw [upm_s]
            refine ⟨by rw [← htt, upd1_s, hw], HS_up hH (fun i h0 h1 => upd1_n (by omega))⟩
          · intro x hx
            rcases List.mem_cons.mp hx with e | e
            · rw [e, ← hw]; exact ⟨hw1, hw2⟩
            · exact hb x e
        by_cases hs1 : 10000 ≤ s
        · have hb2 := hnm (s - 10000) (by omega) (by omega)
          rw [← e29] at hb2
          refine RMr [] [1340014] 200 ?_
          repeat' first | (refine ⟨fun _ => ?_, fun _ => ?_⟩ <;> try omega) | (refine ⟨by first | omega | (simp only [upm_ap, upd1_ap, Nat.reduceEqDiff, ↓reduceIte, eq_self] at * <;> omega) | fail, ?_⟩) | (rw [hs]) | (exact fin _ (by rw [if_pos hs1, e29]) hb2.1 hb2.2) | (simp only [upm_ap, upd1_ap, Nat.reduceEqDiff, ↓reduceIte, eq_self] at *) | omega | fail
        · refine RMr [] [1340014] 200 ?_
          repeat' first | (refine ⟨fun _ => ?_, fun _ => ?_⟩ <;> try omega) | (refine ⟨by first | omega | (simp only [upm_ap, upd1_ap, Nat.reduceEqDiff, ↓reduceIte, eq_self] at * <;> omega) | fail, ?_⟩) | (rw [hs]) | (exact fin _ (by rw [if_neg hs1]) (by omega) (by omega)) | (simp only [upm_ap, upd1_ap, Nat.reduceEqDiff, ↓reduceIte, eq_self] at *) | omega | fail
      · by_cases hs9 : s = -9
        · subst hs9
          rcases st with _ | ⟨a, r⟩
          · simp [sgn] at hg
          · have hg' : st' = (1 - a) :: r ∧ log = log' ∧ (a = 0 ∨ a = 1) := by
              simp [sgn] at hg
              exact ⟨hg.2.1.symm, hg.2.2, hg.1⟩
            obtain ⟨rfl, rfl, h01⟩ := hg'
            have ha := hb a List.mem_cons_self
            have htt2 : t = r.length + 1 := by rw [htt]; simp
            have hA : m' 30 (t - 1) = a := by
              have e : t - 1 = r.length := by omega
              rw [e]; exact hH.1
            have fin : ∀ w, w = 1 - a → -1000000000 ≤ w → w ≤ 1000000000 → RM (d + 2) 134 (14, [some (mR 1026), some (mI text), some (mI frm), some (mI to), some (mI t), some (mI q), some (mI (i + 1)), some (mI (-9))], [], upm m' 30 (t - 1) w) Q := by
              intro w hw hw1 hw2
              refine hih _ _ _ _ (hfr2 (t - 1) w) (by omega) (by omega) (by simp; omega) hq (by omega) (by omega) ?_ ?_ hS2 hV2 h31 hrun
              · rw [upm_s]
                have e : (r.length : Int) = t - 1 := by omega
                refine ⟨by rw [e, upd1_s, hw], HS_up hH.2 (fun i h0 h1 => upd1_n (by omega))⟩
              · intro x hx
                rcases List.mem_cons.mp hx with e | e
                · rw [e, ← hw]; exact ⟨hw1, hw2⟩
                · exact hb x (List.mem_cons_of_mem _ e)
            refine RMr [] [1340014] 200 ?_
            repeat' first | (refine ⟨fun _ => ?_, fun _ => ?_⟩ <;> try omega) | (refine ⟨by first | omega | (simp only [upm_ap, upd1_ap, Nat.reduceEqDiff, ↓reduceIte, eq_self] at * <;> omega) | fail, ?_⟩) | (rw [hs]) | (rw [hA]) | (exact fin _ rfl (by omega) (by omega)) | (simp only [upm_ap, upd1_ap, Nat.reduceEqDiff, ↓reduceIte, eq_self] at *) | omega | fail
        · rcases st with _ | ⟨b, _ | ⟨a, r⟩⟩
          · simp [sgn, hs0, hs9] at hg
          · simp [sgn, hs0, hs9] at hg
          · obtain ⟨e1, e2, h7⟩ := sgn_bin (by omega) hg
            subst e1
            have hB1 := hb b List.mem_cons_self
            have hA1 := hb a (List.mem_cons_of_mem _ List.mem_cons_self)
            have htt2 : t = r.length + 1 + 1 := by rw [htt]; simp
            have hjb := jv_b (s := s) (a := a) (b := b) h7
            have hA : m' 30 (t + -1 - 1) = a := by
              have e : t + -1 - 1 = r.length := by omega
              rw [e]; exact hH.2.1
            have hB : m' 30 (t + -1) = b := by
              have e : t + -1 = ((a :: r).length : Int) := by simp; omega
              rw [e]; exact hH.1
            have hfz := fz_b log
            have hH2 : HS (upd1 (m' 30) (t + -1 - 1) (jv s a b)) (jv s a b :: r) := by
              have e : (r.length : Int) = t + -1 - 1 := by omega
              exact ⟨by rw [e, upd1_s], HS_up hH.2.2 (fun i h0 h1 => upd1_n (by omega))⟩
            have hb2 : ∀ x ∈ jv s a b :: r, -1000000000 ≤ x ∧ x ≤ 1000000000 := by
              intro x hx
              rcases List.mem_cons.mp hx with e | e
              · rw [e]; exact hjb
              · exact hb x (List.mem_cons_of_mem _ (List.mem_cons_of_mem _ e))
            have hj2 : upm m' 30 (t + -1 - 1) (jv s a b) 30 (t + -1 - 1) = jv s a b := by rw [upm_s, upd1_s]
            have hj31 : upm m' 30 (t + -1 - 1) (jv s a b) 31 0 = fz log := h31
            by_cases hcmp : -6 ≤ s ∧ s ≤ -4
            · rw [if_pos hcmp] at e2
              subst e2
              have fin : ∀ m2, (∀ j, j ≠ 31 → m2 j = upm m' 30 (t + -1 - 1) (jv s a b) j) → m2 31 0 = fz (jv s a b :: log) → RM (d + 2) 134 (14, [some (mR 1026), some (mI text), some (mI frm), some (mI to), some (mI (t + -1)), some (mI (q + 1)), some (mI (i + 1)), some (mI s)], [], m2) Q := by
                intro m2 hm2 h312
                refine hih _ _ m2 _ (fun j h30 h31 => by rw [hm2 j h31]; exact hfr2 _ _ j h30 h31) (by omega) (by omega) (by simp; omega) (by simp; omega) (by omega) (by omega) ?_ hb2 hS2 hV2 h312 hrun
                rw [hm2 30 (by decide), upm_s]
                exact hH2
              have hzz : fz (jv s a b :: log) = if fz log ≠ -1 then fz log else if jv s a b = 0 then (log.length : Int) else -1 := rfl
              have za : jv s a b ≠ 0 → fz (jv s a b :: log) = fz log := by
                intro h
                rw [hzz]
                by_cases h2 : fz log = -1
                · simp [h, h2]
                · simp [h2]
              have zb : fz log ≠ -1 → fz (jv s a b :: log) = fz log := fun h => by rw [hzz, if_pos h]
              have zc : jv s a b = 0 → fz log = -1 → fz (jv s a b :: log) = q := fun h h2 => by rw [hzz, hq]; simp [h, h2]
              clear hzz
              have f1 : jv s a b ≠ 0 ∨ fz log ≠ -1 → RM (d + 2) 134 (14, [some (mR 1026), some (mI text), some (mI frm), some (mI to), some (mI (t + -1)), some (mI (q + 1)), some (mI (i + 1)), some (mI s)], [], upm m' 30 (t + -1 - 1) (jv s a b)) Q := by
                intro h
                refine fin _ (fun j hj => rfl) ?_
                rw [hj31]
                rcases h with h | h
                · rw [za h]
                · rw [zb h]
              have f2 : jv s a b = 0 → fz log = -1 → RM (d + 2) 134 (14, [some (mR 1026), some (mI text), some (mI frm), some (mI to), some (mI (t + -1)), some (mI (q + 1)), some (mI (i + 1)), some (mI s)], [], upm (upm m' 30 (t + -1 - 1) (jv s a b)) 31 0 q) Q := by
                intro h h2
                refine fin _ (fun j hj => upm_n hj) ?_
                rw [upm_s, upd1_s, zc h h2]
              clear za zb zc fin hih ih
              rw [← h31] at f1 f2
              refine RMr [] [1340014] 200 ?_
              repeat' first | (refine ⟨fun _ => ?_, fun _ => ?_⟩ <;> try omega) | (refine ⟨by first | omega | (simp only [upm_ap, upd1_ap, Nat.reduceEqDiff, ↓reduceIte, eq_self] at * <;> omega) | fail, ?_⟩) | (rw [hs]) | (rw [hA, hB]) | (refine M_joinedV (by omega) hA1 hB1 h7 ?_) | (rw [hj2]) | (exact f1 (by omega)) | (exact f2 (by omega) (by omega)) | (simp only [upm_ap, upd1_ap, Nat.reduceEqDiff, ↓reduceIte, eq_self] at *) | omega | fail
            · rw [if_neg hcmp] at e2
              subst e2
              have fin : RM (d + 2) 134 (14, [some (mR 1026), some (mI text), some (mI frm), some (mI to), some (mI (t + -1)), some (mI q), some (mI (i + 1)), some (mI s)], [], upm m' 30 (t + -1 - 1) (jv s a b)) Q := by
                refine hih _ _ _ _ (hfr2 _ _) (by omega) (by omega) (by simp; omega) hq (by omega) (by omega) ?_ hb2 hS2 hV2 h31 hrun
                rw [upm_s]
                exact hH2
              refine RMr [] [1340014] 200 ?_
              repeat' first | (refine ⟨fun _ => ?_, fun _ => ?_⟩ <;> try omega) | (refine ⟨by first | omega | (simp only [upm_ap, upd1_ap, Nat.reduceEqDiff, ↓reduceIte, eq_self] at * <;> omega) | fail, ?_⟩) | (rw [hs]) | (rw [hA, hB]) | (refine M_joinedV (by omega) hA1 hB1 h7 ?_) | (exact fin) | (simp only [upm_ap, upd1_ap, Nat.reduceEqDiff, ↓reduceIte, eq_self] at *) | omega | fail
theorem M_works {text frm to v : Int} {c lf : List Int} {x4 x5 x6 x7 : Option mV} (ht : 0 ≤ text ∧ text < 45) (hfr : 0 ≤ frm) (hc : frm + c.length = to) (hto : to ≤ 420) (hnm : ∀ i, 0 ≤ i → i < 13 → -1000000000 ≤ m 29 i ∧ m 29 i ≤ 1000000000) (hS : SL (fun k => m 4 (420 * text + k)) frm c) (hV : ∀ s ∈ c, -9 ≤ s ∧ s < 10013) (hrun : run (m 29) c [] [] = some ([v], lf))
    (hQ : ∀ m', (∀ j, j ≠ 30 → j ≠ 31 → m' j = m j) → m' 31 0 = fz lf → Q (rI v) m') : RM (d + 2) 134 (0, [some (mR 1026), some (mI text), some (mI frm), some (mI to), x4, x5, x6, x7], [], m) Q := by
  refine RMr [] [1340014] 200 ?_
  exact M_worksL ht hto hnm hQ c [] [] frm 0 0 (upm m 31 0 (-1)) x7 (fun j h30 h31 => upm_n h31) hfr hc rfl rfl (by omega) (by omega) True.intro (fun x hx => by cases hx) hS hV (by rw [upm_s, upd1_s]; rfl) hrun
theorem M_asks {f e : Int} {c1 c2 l1 l2 : List Int} {v1 v2 : Int} {x3 x4 : Option mV} (hf : 0 ≤ f ∧ f < 12) (he : 0 ≤ e ∧ e < 80) (hr : 0 ≤ m 45 (80 * f + e) ∧ m 45 (80 * f + e) < 900) (ht : 0 ≤ m 44 (80 * f + e) ∧ m 44 (80 * f + e) < 45) 
    (hnm : ∀ i, 0 ≤ i → i < 13 → -1000000000 ≤ m 29 i ∧ m 29 i ≤ 1000000000)
    (hb : 0 ≤ m 10 (m 45 (80 * f + e))) (h1 : m 10 (m 45 (80 * f + e)) + c1.length = m 11 (m 45 (80 * f + e))) (h2 : m 11 (m 45 (80 * f + e)) + c2.length = m 12 (m 45 (80 * f + e))) (h3 : m 12 (m 45 (80 * f + e)) ≤ 420)
    (hS1 : SL (fun k => m 4 (420 * m 44 (80 * f + e) + k)) (m 10 (m 45 (80 * f + e))) c1) (hV1 : ∀ s ∈ c1, -9 ≤ s ∧ s < 10013) (hr1 : run (m 29) c1 [] [] = some ([v1], l1))
    (hS2 : SL (fun k => m 4 (420 * m 44 (80 * f + e) + k)) (m 11 (m 45 (80 * f + e))) c2) (hV2 : ∀ s ∈ c2, -9 ≤ s ∧ s < 10013) (hr2 : run (m 29) c2 [] [] = some ([v2], l2))
    (hQ0 : v2 = 0 → ∀ m', (∀ j, j ≠ 30 → j ≠ 31 → m' j = m j) → Q (rI (-2)) m') (hQ1 : v2 ≠ 0 → ∀ m', (∀ j, j ≠ 30 → j ≠ 31 → m' j = m j) → Q (rI (max 0 v1)) m') : RM (d + 3) 133 (0, [some (mR 1026), some (mI f), some (mI e), x3, x4], [], m) Q := by
  have hpos : (0 : Int) ≤ c1.length := by omega
  have hpos2 : (0 : Int) ≤ c2.length := by omega
  refine RMr [] [] 200 ?_
  repeat' first | (refine ⟨fun _ => ?_, fun _ => ?_⟩ <;> try omega) | (refine ⟨by first | omega | (simp only [upm_ap, upd1_ap, Nat.reduceEqDiff, ↓reduceIte, eq_self] at * <;> omega) | fail, ?_⟩) | (refine M_works ht (by omega) h2 h3 hnm hS2 hV2 hr2 (fun m' hm' _ => ?_)) | (simp only [upm_ap, upd1_ap, Nat.reduceEqDiff, ↓reduceIte, eq_self] at *) | omega | fail
  · have e4 := hm' 4 (by decide) (by decide)
    have e10 := hm' 10 (by decide) (by decide)
    have e11 := hm' 11 (by decide) (by decide)
    have e44 := hm' 44 (by decide) (by decide)
    have e45 := hm' 45 (by decide) (by decide)
    have e29 := hm' 29 (by decide) (by decide)
    simp only [e44, e10, e11]
    refine M_works (m := m') ht (by omega) h1 (by omega) (by rw [e29]; exact hnm) (by rw [e4]; exact hS1) hV1 (by rw [e29]; exact hr1) (fun m2 hm2 _ => ?_)
    exact hQ1 (by assumption) _ (fun j h30 h31 => by rw [hm2 j h30 h31, hm' j h30 h31])
  · exact hQ0 (by assumption) _ (by assumption)
end
