/-! BOTH: marks, the nearest, accounts, counts -/
set_option maxHeartbeats 3200000
set_option maxRecDepth 100000
/-- the first of the greatest -/
def dbest (g : Int → Int) : Nat → Int
  | 0 => -1
  | n + 1 => if dbest g n = -1 ∨ g (dbest g n) < g n then (n : Int) else dbest g n
theorem dbest_b (g : Int → Int) : ∀ n : Nat, -1 ≤ dbest g n ∧ dbest g n < n
  | 0 => ⟨by show (-1 : Int) ≤ -1; omega, by show (-1 : Int) < 0; omega⟩
  | n + 1 => by
    have ih := dbest_b g n
    unfold dbest
    split <;> omega
theorem dbest_s (g : Int → Int) {k : Int} (h : 0 ≤ k) : dbest g (k + 1).toNat = if dbest g k.toNat = -1 ∨ g (dbest g k.toNat) < g k then k else dbest g k.toNat := by
  have e : (k + 1).toNat = k.toNat + 1 := by omega
  have e2 : ((k.toNat : Nat) : Int) = k := by omega
  rw [e]
  show (if dbest g k.toNat = -1 ∨ g (dbest g k.toNat) < g ((k.toNat : Nat) : Int) then ((k.toNat : Nat) : Int) else _) = _
  rw [e2]
theorem nbest_d (g : Int → Int) (kp : Int) : ∀ n : Nat, nbest g (kp - 1) n = if dbest g n = -1 ∨ g (dbest g n) < kp then (-1, kp - 1) else (dbest g n, g (dbest g n))
  | 0 => by
    have e : dbest g 0 = -1 := rfl
    rw [e, if_pos (Or.inl rfl)]
    rfl
  | n + 1 => by
    have ih := nbest_d g kp n
    have hb := dbest_b g n
    have s1 := nbest_s g (kp - 1) (k := n) (by omega)
    have s2 := dbest_s g (k := n) (by omega)
    rw [show ((n : Int) + 1).toNat = n + 1 by omega, show ((n : Int)).toNat = n by omega] at s1 s2
    rw [s1, s2, ih]
    generalize dbest g n = b at *
    by_cases h1 : b = -1
    · rw [if_pos (show b = -1 ∨ g b < kp from Or.inl h1), if_pos (show b = -1 ∨ g b < g n from Or.inl h1)]
      by_cases h2 : g n ≤ kp - 1
      · rw [if_pos h2, if_pos (Or.inr (by omega))]
      · rw [if_neg h2, if_neg (by omega)]
    · by_cases h3 : g b < kp
      · rw [if_pos (show b = -1 ∨ g b < kp from Or.inr h3)]
        by_cases h4 : g b < g n
        · rw [if_pos (show b = -1 ∨ g b < g n from Or.inr h4)]
          by_cases h2 : g n ≤ kp - 1
          · rw [if_pos h2, if_pos (Or.inr (by omega))]
          · rw [if_neg h2, if_neg (by omega)]
        · rw [if_neg (show ¬ (b = -1 ∨ g b < g n) by omega)]
          rw [if_pos (show g n ≤ kp - 1 by omega), if_pos (Or.inr h3)]
      · rw [if_neg (show ¬ (b = -1 ∨ g b < kp) by omega)]
        by_cases h4 : g b < g n
        · rw [if_pos (show b = -1 ∨ g b < g n from Or.inr h4), if_neg (show ¬ g n ≤ g b by omega), if_neg (by omega)]
        · rw [if_neg (show ¬ (b = -1 ∨ g b < g n) by omega), if_pos (show g n ≤ g b by omega), if_neg (by omega)]
section
variable {d : Nat} {h h' : mD} {m m' : sg} {Q : mQ mD} {c : Int}
theorem D_kept (hL : RL h m) {f k : Int} (hf : 0 ≤ f ∧ f < m 32 0) (hk : 0 ≤ k ∧ k < m 49 0) (hQ : Q (rI (pop (zand (m 36 f) (m 50 k)))) h) : RD (d + 1) 48 (0, [some (mR ((h.1 10111 1012 f))), some (mR ((h.1 10112 1014 k)))], [], h) Q := by
  have h1 := hL.fv f hf.1 hf.2
  have h2 := hL.ne.2 k hk.1 hk.2
  have z := zand_r (a := m 36 f) (b := m 50 k) (by omega) (by omega)
  rw [← pc_pop (by omega)] at hQ
  have e1 : h.1 1408 ((h.1 10111 1012 f)) 0 = m 36 f := h1.1.2.2.2.2.1
  have e2 : h.1 1801 ((h.1 10112 1014 k)) 0 = m 50 k := h2.2.1
  rw [← e1, ← e2] at hQ z
  have kF := (hL.fl.2 f hf.1 hf.2).1.1
  have kN := h2.1.1
  have b1 := h1.2.2.2.2.2.1
  refine RDr [] [] 20 ?_
  repeat' first | ((refine ⟨⟨by omega, by omega⟩, ?_⟩)) | (refine ⟨fun _ => ?_, fun _ => ?_⟩ <;> try omega) | (refine ⟨by first | omega | rfl | assumption | (simp only [dst_1, dst_2, up3_ap, upd1_ap, Nat.reduceEqDiff, ↓reduceIte, eq_self] at * <;> omega) | fail, ?_⟩) | (exact hQ) | (simp only [dst_1, dst_2, up3_ap, upd1_ap, Nat.reduceEqDiff, ↓reduceIte, eq_self] at *) | omega | fail
theorem J_marks {f k w : Int} {x4 x5 : Option mV} (hR : Rc (c + 1) h m) (hc : 0 ≤ c) : RD (d + 100) 49 (0, [some (mR 1000), some (mI f), some (mI k), some (mI w), x4, x5], [], h) (JM 167 [some (mR 1026), some (mI f), some (mI k), some (mI w), none] m c) := by
  have hL := hR.1
  have hs := hR.s0 hc
  have n32 := hL.fl.1
  have n49 := hL.ne.1
  have hf := hL.fnd
  have kn := n49.1
  by_cases f1 : (0 ≤ f ∧ f < m 32 0) ∧ (0 ≤ k ∧ k < m 49 0) ∧ 0 ≤ w ∧ w ≤ 1
  · have kF := (hL.fl.2 f f1.1.1 f1.1.2).1
    have kF1 := kF.1
    have kF2 := kF.2.1
    have v1 := hL.fv f f1.1.1 f1.1.2
    have v2 := hL.ne.2 k f1.2.1.1 f1.2.1.2
    have kN : h.2.1 ((h.1 10112 1014 k)) = 18 := v2.1.1
    have z := zand_r (a := m 36 f) (b := m 50 k) (by omega) (by omega)
    have e1 : h.1 1408 ((h.1 10111 1012 f)) 0 = m 36 f := v1.1.2.2.2.2.1
    have b1 : 0 ≤ m 36 f ∧ m 36 f ≤ 255 := v1.2.2.2.2.2.1
    have w01 : w = 0 ∨ w = 1 := by omega
    rcases w01 with e | e
    · have fin : JM 167 [some (mR 1026), some (mI f), some (mI k), some (mI w), none] m c (rI (pop (zand (m 36 f) (m 50 k)))) h := fun d' => M_marks (d := d' + 99) (by omega) (by omega) (fun _ _ _ _ _ => ⟨rfl, hs⟩) (fun _ _ _ _ e' => absurd e' (by omega)) (fun hh => absurd f1 hh)
      clear v1 v2
      refine RDr [] [] 60 ?_
      repeat' first | (refine D_fundAt hf (fun _ _ => ?_) (fun _ => ?_)) | (refine D_in (fun _ _ => ?_) (fun _ => ?_)) | ((refine D_kept hL f1.1 f1.2.1 ?_)) | (refine ⟨fun _ => ?_, fun _ => ?_⟩ <;> try omega) | (refine ⟨by first | omega | rfl | assumption | (simp only [dst_1, dst_2, up3_ap, upd1_ap, Nat.reduceEqDiff, ↓reduceIte, eq_self] at * <;> omega) | fail, ?_⟩) | (exact fin) | (simp only [dst_1, dst_2, up3_ap, upd1_ap, Nat.reduceEqDiff, ↓reduceIte, eq_self] at *) | omega | fail
    · have fin : JM 167 [some (mR 1026), some (mI f), some (mI k), some (mI w), none] m c (rI (pc (h.1 1408 ((h.1 10111 1012 f)) 0) - pop (zand (m 36 f) (m 50 k)))) h := fun d' => M_marks (d := d' + 99) (by omega) (by omega) (fun _ _ _ _ e' => absurd e' (by omega)) (fun _ _ _ _ _ => ⟨by rw [pop_split b1 v2.2.2.1, e1, pc_pop (x := zand (m 36 f) (m 50 k)) (by omega)], hs⟩) (fun hh => absurd f1 hh)
      have p1 := popN_b (zand (m 36 f) (m 50 k)) 12
      rw [← pop_eq] at p1
      have p2 := popN_b (h.1 1408 ((h.1 10111 1012 f)) 0) 16
      rw [← pc_eq] at p2
      clear v1 v2
      refine RDr [] [] 60 ?_
      repeat' first | (refine D_fundAt hf (fun _ _ => ?_) (fun _ => ?_)) | (refine D_in (fun _ _ => ?_) (fun _ => ?_)) | ((refine D_kept hL f1.1 f1.2.1 ?_)) | ((refine ⟨⟨by omega, by omega⟩, ?_⟩)) | (refine ⟨fun _ => ?_, fun _ => ?_⟩ <;> try omega) | (refine ⟨by first | omega | rfl | assumption | (simp only [dst_1, dst_2, up3_ap, upd1_ap, Nat.reduceEqDiff, ↓reduceIte, eq_self] at * <;> omega) | fail, ?_⟩) | (exact fin) | (simp only [dst_1, dst_2, up3_ap, upd1_ap, Nat.reduceEqDiff, ↓reduceIte, eq_self] at *) | omega | fail
  · have fin : JM 167 [some (mR 1026), some (mI f), some (mI k), some (mI w), none] m c (rI (-1)) h := fun d' => M_marks (d := d' + 99) (by omega) (by omega) (fun _ _ _ _ _ => absurd f1 (by omega)) (fun _ _ _ _ _ => absurd f1 (by omega)) (fun hh => ⟨rfl, hs⟩)
    by_cases f2 : 0 ≤ f ∧ f < m 32 0
    · have kF2 := (hL.fl.2 f f2.1 f2.2).1.2.1
      refine RDr [] [] 60 ?_
      repeat' first | (refine D_fundAt hf (fun _ _ => ?_) (fun _ => ?_)) | (refine D_in (fun _ _ => ?_) (fun _ => ?_)) | (refine ⟨fun _ => ?_, fun _ => ?_⟩ <;> try omega) | (refine ⟨by first | omega | rfl | assumption | (simp only [dst_1, dst_2, up3_ap, upd1_ap, Nat.reduceEqDiff, ↓reduceIte, eq_self] at * <;> omega) | fail, ?_⟩) | (exact fin) | (simp only [dst_1, dst_2, up3_ap, upd1_ap, Nat.reduceEqDiff, ↓reduceIte, eq_self] at *) | omega | fail
    · refine RDr [] [] 60 ?_
      repeat' first | (refine D_fundAt hf (fun _ _ => ?_) (fun _ => ?_)) | (refine D_in (fun _ _ => ?_) (fun _ => ?_)) | (refine ⟨fun _ => ?_, fun _ => ?_⟩ <;> try omega) | (refine ⟨by first | omega | rfl | assumption | (simp only [dst_1, dst_2, up3_ap, upd1_ap, Nat.reduceEqDiff, ↓reduceIte, eq_self] at * <;> omega) | fail, ?_⟩) | (exact fin) | (simp only [dst_1, dst_2, up3_ap, upd1_ap, Nat.reduceEqDiff, ↓reduceIte, eq_self] at *) | omega | fail
theorem J_nearest {f : Int} {x2 x3 x4 : Option mV} (hR : Rc (c + 1) h m) (hc : 0 ≤ c) : RD (d + 100) 47 (0, [some (mR 1000), some (mI f), x2, x3, x4], [], h) (JM 166 [some (mR 1026), some (mI f), none, none, none, none] m c) := by
  have hL := hR.1
  have hs := hR.s0 hc
  have n32 := hL.fl.1
  have n49 := hL.ne.1
  have hf := hL.fnd
  have kn := n49.1
  have hn := hL.nx
  have e5 := hL.now.1
  obtain ⟨cs, hA⟩ := hL.ac.on hn (m 1 0)
  have hA1 := hA.hold (w := 1) (by omega)
  have r1 : rLo 1 = 0 := rfl
  have r2 : rHi 1 = 8 := rfl
  rw [r1, r2] at hA1
  by_cases f1 : 0 ≤ f ∧ f < m 32 0 ∧ m 37 f = -1
  · have fr : 0 ≤ f ∧ f < m 32 0 := ⟨f1.1, f1.2.1⟩
    have kF := (hL.fl.2 f fr.1 fr.2).1
    have j1 : h.1 1411 ((h.1 10111 1012 f)) 0 = 0 := by rcases hL.fj f fr.1 fr.2 with j | j; exact j.2; omega
    generalize hg : (fun k => pop (zand (m 36 f) (m 50 k))) = g
    have nb := nbest_d g (tOf m (aOn m (m 1 0)) 1) (m 49 0).toNat
    have fin : ∀ v, v = (nbest g (tOf m (aOn m (m 1 0)) 1 - 1) (m 49 0).toNat).1 → JM 166 [some (mR 1026), some (mI f), none, none, none, none] m c (rI v) h := fun v hv d' => M_nearest (d := d' + 98) (by omega) n49.2.2 hL.ac.1.2.2 hL.ac.m6 (by omega) (fun _ _ _ => ⟨by rw [hv, hg], hs⟩) (fun hh => absurd f1 hh)
    rw [nb] at fin
    have hb := dbest_b g
    have hS := fun k => dbest_s g (k := k)
    have kp : ∀ {Q' : mQ mD} {k : Int}, 0 ≤ k ∧ k < m 49 0 → Q' (rI (g k)) h → RD (d + 99) 48 (0, [some (mR ((h.1 10111 1012 f))), some (mR ((h.1 10112 1014 k)))], [], h) Q' := fun hk hQ => D_kept hL fr hk (by subst hg; exact hQ)
    have kN : ∀ k, 0 ≤ k → k < m 49 0 → h.2.1 ((h.1 10112 1014 k)) = 18 := fun k k0 k1 => (hL.ne.2 k k0 k1).1.1
    have gb : ∀ k, 0 ≤ g k ∧ g k ≤ 12 := fun k => by subst hg; have := popN_b (zand (m 36 f) (m 50 k)) 12; rw [← pop_eq] at this; omega
    have lp : RD (d + 100) 47 (17, [some (mR 1000), some (mI f), some (mR ((h.1 10111 1012 f))), some (mI (-1)), some (mI 0)], [], h) (JM 166 [some (mR 1026), some (mI f), none, none, none, none] m c) := by
      refine up_ind (n := m 49 0) (P := fun k => ∀ b, b = dbest g k.toNat → RD (d + 100) 47 (17, [some (mR 1000), some (mI f), some (mR ((h.1 10111 1012 f))), some (mI b), some (mI k)], [], h) (JM 166 [some (mR 1026), some (mI f), none, none, none, none] m c)) ?_ ?_ 0 (by omega) (by omega) (-1) rfl
      · intro b hbe
        have hbb := hb (m 49 0).toNat
        rw [← hbe] at fin hbb
        by_cases h1 : b = -1
        · replace fin := fin (-1) (by rw [if_pos (Or.inl h1)])
          subst h1
          clear kN kp gb
          refine RDr [] [470017] 60 ?_
          repeat' first | (refine ⟨fun _ => ?_, fun _ => ?_⟩ <;> try omega) | (refine ⟨by first | omega | rfl | assumption | (simp only [dst_1, dst_2, up3_ap, upd1_ap, Nat.reduceEqDiff, ↓reduceIte, eq_self] at * <;> omega) | fail, ?_⟩) | (exact fin) | (simp only [dst_1, dst_2, up3_ap, upd1_ap, Nat.reduceEqDiff, ↓reduceIte, eq_self] at *) | omega | fail
        · have kb := kN b (by omega) (by omega)
          have gbb := gb b
          by_cases h2 : g b < tOf m (aOn m (m 1 0)) 1
          · replace fin := fin (-1) (by rw [if_pos (Or.inr h2)])
            rw [← hA1.2.2.1] at h2
            obtain ⟨q1, q2, -⟩ := hA1
            have hac := hL.ac
            rw [← e5] at h2 q1 q2
            clear kN gb
            refine RDr [] [470017] 60 ?_
            repeat' first | ((refine kp (by omega) ?_)) | ((refine D_actOnR hac hn (fun cs _ => ?_))) | ((refine ⟨q2, ⟨by omega, by omega⟩, ?_⟩)) | (refine ⟨fun _ => ?_, fun _ => ?_⟩ <;> try omega) | (refine ⟨by first | omega | rfl | assumption | (simp only [dst_1, dst_2, up3_ap, upd1_ap, Nat.reduceEqDiff, ↓reduceIte, eq_self] at * <;> omega) | fail, ?_⟩) | (exact fin) | (simp only [dst_1, dst_2, up3_ap, upd1_ap, Nat.reduceEqDiff, ↓reduceIte, eq_self] at *) | omega | fail
          · replace fin := fin b (by rw [if_neg (by omega)])
            rw [← hA1.2.2.1] at h2
            obtain ⟨q1, q2, -⟩ := hA1
            have hac := hL.ac
            rw [← e5] at h2 q1 q2
            clear kN gb
            refine RDr [] [470017] 60 ?_
            repeat' first | ((refine kp (by omega) ?_)) | ((refine D_actOnR hac hn (fun cs _ => ?_))) | ((refine ⟨q2, ⟨by omega, by omega⟩, ?_⟩)) | (refine ⟨fun _ => ?_, fun _ => ?_⟩ <;> try omega) | (refine ⟨by first | omega | rfl | assumption | (simp only [dst_1, dst_2, up3_ap, upd1_ap, Nat.reduceEqDiff, ↓reduceIte, eq_self] at * <;> omega) | fail, ?_⟩) | (exact fin) | (simp only [dst_1, dst_2, up3_ap, upd1_ap, Nat.reduceEqDiff, ↓reduceIte, eq_self] at *) | omega | fail
      · intro k k0 k1 ih b hbe
        have hbb := hb k.toNat
        have hs2 := hS k k0
        rw [← hbe] at hbb hs2
        have kk := kN k k0 k1
        by_cases h1 : b = -1
        · replace ih := ih k (by rw [hs2, if_pos (Or.inl h1)])
          subst h1
          clear kN gb hA1 fin
          refine RDr [] [470017] 60 ?_
          repeat' first | ((refine kp (by omega) ?_)) | (refine ⟨fun _ => ?_, fun _ => ?_⟩ <;> try omega) | (refine ⟨by first | omega | rfl | assumption | (simp only [dst_1, dst_2, up3_ap, upd1_ap, Nat.reduceEqDiff, ↓reduceIte, eq_self] at * <;> omega) | fail, ?_⟩) | (exact ih) | (simp only [dst_1, dst_2, up3_ap, upd1_ap, Nat.reduceEqDiff, ↓reduceIte, eq_self] at *) | omega | fail
        · have kb := kN b (by omega) (by omega)
          by_cases h2 : g b < g k
          · replace ih := ih k (by rw [hs2, if_pos (Or.inr h2)])
            clear kN gb hA1 fin
            refine RDr [] [470017] 60 ?_
            repeat' first | ((refine kp (by omega) ?_)) | (refine ⟨fun _ => ?_, fun _ => ?_⟩ <;> try omega) | (refine ⟨by first | omega | rfl | assumption | (simp only [dst_1, dst_2, up3_ap, upd1_ap, Nat.reduceEqDiff, ↓reduceIte, eq_self] at * <;> omega) | fail, ?_⟩) | (exact ih) | (simp only [dst_1, dst_2, up3_ap, upd1_ap, Nat.reduceEqDiff, ↓reduceIte, eq_self] at *) | omega | fail
          · replace ih := ih b (by rw [hs2, if_neg (by omega)])
            clear kN gb hA1 fin
            refine RDr [] [470017] 60 ?_
            repeat' first | ((refine kp (by omega) ?_)) | (refine ⟨fun _ => ?_, fun _ => ?_⟩ <;> try omega) | (refine ⟨by first | omega | rfl | assumption | (simp only [dst_1, dst_2, up3_ap, upd1_ap, Nat.reduceEqDiff, ↓reduceIte, eq_self] at * <;> omega) | fail, ?_⟩) | (exact ih) | (simp only [dst_1, dst_2, up3_ap, upd1_ap, Nat.reduceEqDiff, ↓reduceIte, eq_self] at *) | omega | fail
    clear fin hS hb kp kN gb hA1
    refine RDr [] [470017] 60 ?_
    repeat' first | (refine D_thereAt hf (fun _ _ _ => ?_) (fun _ => ?_)) | (refine ⟨fun _ => ?_, fun _ => ?_⟩ <;> try omega) | (refine ⟨by first | omega | rfl | assumption | (simp only [dst_1, dst_2, up3_ap, upd1_ap, Nat.reduceEqDiff, ↓reduceIte, eq_self] at * <;> omega) | fail, ?_⟩) | (exact lp) | (simp only [dst_1, dst_2, up3_ap, upd1_ap, Nat.reduceEqDiff, ↓reduceIte, eq_self] at *) | omega | fail
  · have fin : JM 166 [some (mR 1026), some (mI f), none, none, none, none] m c (rI (-1)) h := fun d' => M_nearest (d := d' + 98) (by omega) n49.2.2 hL.ac.1.2.2 hL.ac.m6 (by omega) (fun a1 a2 a3 => absurd ⟨a1, a2, a3⟩ f1) (fun hh => ⟨rfl, hs⟩)
    by_cases f2 : 0 ≤ f ∧ f < m 32 0
    · have j1 : h.1 1411 ((h.1 10111 1012 f)) 0 ≠ 0 := by
        rcases hL.fj f f2.1 f2.2 with j | j
        · omega
        · rw [j.2.2]; have := (hL.fl.2 _ j.1 j.2.1).1.2.1; omega
      clear hA1
      refine RDr [] [470017] 60 ?_
      repeat' first | (refine D_thereAt hf (fun _ _ _ => ?_) (fun _ => ?_)) | (refine ⟨fun _ => ?_, fun _ => ?_⟩ <;> try omega) | (refine ⟨by first | omega | rfl | assumption | (simp only [dst_1, dst_2, up3_ap, upd1_ap, Nat.reduceEqDiff, ↓reduceIte, eq_self] at * <;> omega) | fail, ?_⟩) | (exact fin) | (simp only [dst_1, dst_2, up3_ap, upd1_ap, Nat.reduceEqDiff, ↓reduceIte, eq_self] at *) | omega | fail
    · clear hA1
      refine RDr [] [470017] 60 ?_
      repeat' first | (refine D_thereAt hf (fun _ _ _ => ?_) (fun _ => ?_)) | (refine ⟨fun _ => ?_, fun _ => ?_⟩ <;> try omega) | (refine ⟨by first | omega | rfl | assumption | (simp only [dst_1, dst_2, up3_ap, upd1_ap, Nat.reduceEqDiff, ↓reduceIte, eq_self] at * <;> omega) | fail, ?_⟩) | (exact fin) | (simp only [dst_1, dst_2, up3_ap, upd1_ap, Nat.reduceEqDiff, ↓reduceIte, eq_self] at *) | omega | fail
end
