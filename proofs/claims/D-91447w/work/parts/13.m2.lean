/-! the Model: facts, acts, counts -/
/-- the best fact: the last of those of the greatest year -/
def fbest (w y dd : Int → Int) (which year known : Int) : Nat → Int
  | 0 => -1
  | n + 1 => if w n = which ∧ y n ≤ year ∧ dd n ≤ known ∧ (fbest w y dd which year known n = -1 ∨ y (fbest w y dd which year known n) ≤ y n) then (n : Int) else fbest w y dd which year known n
def fval (w y dd v : Int → Int) (which year known : Int) (n : Int) : Int := if fbest w y dd which year known n.toNat = -1 then 0 else v (fbest w y dd which year known n.toNat)
theorem fbest_b (w y dd : Int → Int) (which year known : Int) : ∀ n : Nat, -1 ≤ fbest w y dd which year known n ∧ fbest w y dd which year known n < n
  | 0 => ⟨by show (-1 : Int) ≤ -1; omega, by show (-1 : Int) < 0; omega⟩
  | n + 1 => by
    have ih := fbest_b w y dd which year known n
    unfold fbest
    split <;> omega
def fcomb (y : Int → Int) (a b : Int) : Int := if b = -1 then a else if a ≠ -1 ∧ y b < y a then a else b
theorem fbest_s (w y dd : Int → Int) (which year known : Int) {k : Int} (h : 0 ≤ k) : fbest w y dd which year known (k + 1).toNat = if w k = which ∧ y k ≤ year ∧ dd k ≤ known ∧ (fbest w y dd which year known k.toNat = -1 ∨ y (fbest w y dd which year known k.toNat) ≤ y k) then k else fbest w y dd which year known k.toNat := by
  have e : (k + 1).toNat = k.toNat + 1 := by omega
  have e2 : ((k.toNat : Nat) : Int) = k := by omega
  rw [e]
  show (if w (k.toNat : Nat) = which ∧ y (k.toNat : Nat) ≤ year ∧ dd (k.toNat : Nat) ≤ known ∧ _ then ((k.toNat : Nat) : Int) else _) = _
  rw [e2]
def fA (m : sg) (which year known : Int) : Int := fval (fun i => m 3 (4 * i)) (fun i => m 3 (4 * i + 1)) (fun i => m 3 (4 * i + 3)) (fun i => m 3 (4 * i + 2)) which year known (m 2 0)
/-- the best act -/
def abest (fr : Int → Int) (day : Int) : Nat → Int
  | 0 => -1
  | n + 1 => if fr n ≤ day ∧ (abest fr day n = -1 ∨ fr (abest fr day n) ≤ fr n) then (n : Int) else abest fr day n
theorem abest_b (fr : Int → Int) (day : Int) : ∀ n : Nat, -1 ≤ abest fr day n ∧ abest fr day n < n
  | 0 => ⟨by show (-1 : Int) ≤ -1; omega, by show (-1 : Int) < 0; omega⟩
  | n + 1 => by
    have ih := abest_b fr day n
    unfold abest
    split <;> omega
theorem abest_s (fr : Int → Int) (day : Int) {k : Int} (h : 0 ≤ k) : abest fr day (k + 1).toNat = if fr k ≤ day ∧ (abest fr day k.toNat = -1 ∨ fr (abest fr day k.toNat) ≤ fr k) then k else abest fr day k.toNat := by
  have e : (k + 1).toNat = k.toNat + 1 := by omega
  have e2 : ((k.toNat : Nat) : Int) = k := by omega
  rw [e]
  show (if fr (k.toNat : Nat) ≤ day ∧ _ then ((k.toNat : Nat) : Int) else _) = _
  rw [e2]
def aOn (m : sg) (day : Int) : Int := abest (m 28) day (m 27 0).toNat
/-- the last of the first n rows of a kind -/
def lastv (kd on : Int → Int) (what v0 : Int) : Nat → Int
  | 0 => v0
  | n + 1 => if kd n = what then on n else lastv kd on what v0 n
theorem lastv_s (kd on : Int → Int) (what v0 : Int) {k : Int} (h : 0 ≤ k) : lastv kd on what v0 (k + 1).toNat = if kd k = what then on k else lastv kd on what v0 k.toNat := by
  have e : (k + 1).toNat = k.toNat + 1 := by omega
  have e2 : ((k.toNat : Nat) : Int) = k := by omega
  rw [e]
  show (if kd (k.toNat : Nat) = what then on (k.toNat : Nat) else _) = _
  rw [e2]
def tdef (what : Int) : Int := if what = 0 then 3 else if what = 1 then 1 else if what = 2 then 30 else if what = 3 then 90 else if what = 4 then 0 else 20
/-- what an act's text tells -/
def tOf (m : sg) (a what : Int) : Int := if a = -1 then tdef what else lastv (fun k => m 7 (20 * a + k)) (fun k => m 8 (20 * a + k)) what (tdef what) (m 6 a).toNat
def popN (x : Int) : Nat → Int
  | 0 => 0
  | n + 1 => popN x n + zand (zshr x n) 1
theorem pop_ex : ∃ f : Int → Int, f = fun x => popN x 12 := ⟨_, rfl⟩
/-- the marks counted -/
noncomputable def pop : Int → Int := Classical.choose pop_ex
theorem pop_eq (x : Int) : pop x = popN x 12 := by
  have h : pop = _ := Classical.choose_spec pop_ex
  rw [h]
theorem zand1_b (x : Int) : 0 ≤ zand x 1 ∧ zand x 1 ≤ 1 := by
  unfold zand
  have h : ∀ a : Int32, (a &&& Int32.ofInt 1).toInt = 0 ∨ (a &&& Int32.ofInt 1).toInt = 1 := by
    intro a
    have e : Int32.ofInt 1 = 1 := by decide
    rw [e]
    obtain ⟨j, hj, e2⟩ := pk_andE a (m := 1) 1 (by decide)
    rw [e2]
    have : j = 0 ∨ j = 1 := by omega
    rcases this with h | h <;> subst h <;> decide
  rcases h (Int32.ofInt x) with h | h <;> omega
theorem popN_b (x : Int) : ∀ n : Nat, 0 ≤ popN x n ∧ popN x n ≤ n
  | 0 => ⟨Int.le_refl 0, Int.le_refl 0⟩
  | n + 1 => by
    have ih := popN_b x n
    have h := zand1_b (zshr x n)
    show 0 ≤ popN x n + zand (zshr x n) 1 ∧ popN x n + zand (zshr x n) 1 ≤ _
    omega
theorem popN_s (x : Int) {k : Int} (h : 0 ≤ k) : popN x (k + 1).toNat = popN x k.toNat + zand (zshr x k) 1 := by
  have e : (k + 1).toNat = k.toNat + 1 := by omega
  have e2 : ((k.toNat : Nat) : Int) = k := by omega
  rw [e]
  show popN x k.toNat + zand (zshr x (k.toNat : Nat)) 1 = _
  rw [e2]
section
variable {d : Nat} {m : sg} {Q : mQ sg}
theorem M_size {x : Int} {x1 x2 : Option mV} (hQ : Q (rI (pop x)) m) : RM d 132 (0, [some (mI x), x1, x2], [], m) Q := by
  refine RMr [] [1320004] 20 ?_
  refine up_ind (n := 12) (P := fun k => ∀ v, v = popN x k.toNat → RM d 132 (4, [some (mI x), some (mI v), some (mI k)], [], m) Q) ?_ ?_ 0 (by omega) (by omega) 0 rfl
  · intro v hv
    have hv : v = pop x := by rw [pop_eq]; exact hv
    rw [← hv] at hQ
    refine RMr [] [1320004] 40 ?_
    repeat' first | (refine ⟨fun _ => ?_, fun _ => ?_⟩ <;> try omega) | (refine ⟨by first | omega | (simp only [upm_ap, upd1_ap, Nat.reduceEqDiff, ↓reduceIte, eq_self] at * <;> omega) | fail, ?_⟩) | (exact hQ) | (simp only [upm_ap, upd1_ap, Nat.reduceEqDiff, ↓reduceIte, eq_self] at *) | omega | fail
  · intro k h0 h1 ih v hv
    have hb := popN_b x k.toNat
    have hs := popN_s x h0
    have hz := zand1_b (zshr x k)
    refine RMr [] [1320004] 40 ?_
    repeat' first | (refine ⟨fun _ => ?_, fun _ => ?_⟩ <;> try omega) | (refine ⟨by first | omega | (simp only [upm_ap, upd1_ap, Nat.reduceEqDiff, ↓reduceIte, eq_self] at * <;> omega) | fail, ?_⟩) | (refine ih _ (by rw [hs, hv])) | (simp only [upm_ap, upd1_ap, Nat.reduceEqDiff, ↓reduceIte, eq_self] at *) | omega | fail
theorem M_factAt {which year known : Int} {x4 x5 : Option mV} (hn : 0 ≤ m 2 0 ∧ m 2 0 ≤ 300) (hQ : Q (rI (fA m which year known)) m) : RM d 84 (0, [some (mR 1026), some (mI which), some (mI year), some (mI known), x4, x5], [], m) Q := by
  refine RMr [] [840011] 20 ?_
  repeat' first | (refine ⟨fun _ => ?_, fun _ => ?_⟩ <;> try omega) | (refine ⟨by first | omega | (simp only [upm_ap, upd1_ap, Nat.reduceEqDiff, ↓reduceIte, eq_self] at * <;> omega) | fail, ?_⟩) | (simp only [upm_ap, upd1_ap, Nat.reduceEqDiff, ↓reduceIte, eq_self] at *) | omega | fail
  have hF : ∀ k : Nat, _ := fbest_b (fun i => m 3 (4 * i)) (fun i => m 3 (4 * i + 1)) (fun i => m 3 (4 * i + 3)) which year known
  generalize hB : fbest (fun i => m 3 (4 * i)) (fun i => m 3 (4 * i + 1)) (fun i => m 3 (4 * i + 3)) which year known = B at hF
  have hS : ∀ k : Int, 0 ≤ k → B (k + 1).toNat = if m 3 (4 * k) = which ∧ m 3 (4 * k + 1) ≤ year ∧ m 3 (4 * k + 3) ≤ known ∧ (B k.toNat = -1 ∨ m 3 (4 * B k.toNat + 1) ≤ m 3 (4 * k + 1)) then k else B k.toNat := by
    intro k hk
    have := fbest_s (fun i => m 3 (4 * i)) (fun i => m 3 (4 * i + 1)) (fun i => m 3 (4 * i + 3)) which year known hk
    rw [hB] at this
    exact this
  have hQ : Q (rI (if B (m 2 0).toNat = -1 then 0 else m 3 (4 * B (m 2 0).toNat + 2))) m := by
    have := hQ
    unfold fA fval at this
    rw [hB] at this
    exact this
  refine dn_ind (P := fun k => k < m 2 0 → ∀ b, -1 ≤ b → b < m 2 0 → fcomb (fun i => m 3 (4 * i + 1)) (B (k + 1).toNat) b = B (m 2 0).toNat → RM d 84 (11, [some (mR 1026), some (mI which), some (mI year), some (mI known), some (mI b), some (mI k)], [], m) Q) ?_ ?_ (m 2 0 - 1) (by omega) (by omega) (-1) (by omega) (by omega) ?_
  · intro _ b h0 h1 hc
    have h2 : B 0 = -1 := by subst hB; rfl
    have h3 : b = B (m 2 0).toNat := by
      rw [← hc]
      show b = fcomb _ (B 0) b
      rw [h2]
      unfold fcomb
      split <;> simp [*]
    subst h3
    refine RMr [] [840011] 60 ?_
    repeat' first | (refine ⟨fun _ => ?_, fun _ => ?_⟩ <;> try omega) | (refine ⟨by first | omega | (simp only [upm_ap, upd1_ap, Nat.reduceEqDiff, ↓reduceIte, eq_self] at * <;> omega) | fail, ?_⟩) | (simp only [upm_ap, upd1_ap, Nat.reduceEqDiff, ↓reduceIte, eq_self] at *) | omega | fail
    · rw [if_neg (by assumption)] at hQ
      exact hQ
    · rw [if_pos (by assumption)] at hQ
      exact hQ
  · intro k hk ih hk2 b h0 h1 hc
    have hs := hS k hk
    have hf := hF k.toNat
    have e2 : ((k.toNat : Nat) : Int) = k := by omega
    have ih := fun b' => ih (by omega) b'
    have e : k - 1 + 1 = k := by omega
    rw [e] at ih
    have hno : (¬ (m 3 (4 * k) = which ∧ m 3 (4 * k + 1) ≤ year ∧ m 3 (4 * k + 3) ≤ known)) → RM d 84 (11, [some (mR 1026), some (mI which), some (mI year), some (mI known), some (mI b), some (mI (k - 1))], [], m) Q := by
      intro hne
      refine ih b h0 h1 ?_
      rw [hs, if_neg (fun hh => hne ⟨hh.1, hh.2.1, hh.2.2.1⟩)] at hc
      exact hc
    have hyes : (m 3 (4 * k) = which ∧ m 3 (4 * k + 1) ≤ year ∧ m 3 (4 * k + 3) ≤ known) → ∀ b', (b' = k ∧ (b = -1 ∨ m 3 (4 * b + 1) < m 3 (4 * k + 1)) ∨ b' = b ∧ ¬ (b = -1 ∨ m 3 (4 * b + 1) < m 3 (4 * k + 1))) → RM d 84 (11, [some (mR 1026), some (mI which), some (mI year), some (mI known), some (mI b'), some (mI (k - 1))], [], m) Q := by
      intro hp b' hb'
      refine ih b' (by omega) (by omega) ?_
      rw [← hc, hs]
      unfold fcomb
      simp only [hp, true_and]
      generalize B k.toNat = p at *
      rcases hb' with ⟨e1, e3⟩ | ⟨e1, e3⟩
      · subst e1
        by_cases hb1 : b = -1
        · subst hb1
          have : ¬ b' = -1 := by omega
          by_cases hp1 : p = -1
          · simp [*]
          · by_cases hp2 : m 3 (4 * p + 1) ≤ m 3 (4 * b' + 1)
            · have : ¬ m 3 (4 * b' + 1) < m 3 (4 * p + 1) := by omega
              simp [*]
            · have : m 3 (4 * b' + 1) < m 3 (4 * p + 1) := by omega
              simp [*]
        · have hb3 : m 3 (4 * b + 1) < m 3 (4 * b' + 1) := by omega
          have : ¬ b' = -1 := by omega
          by_cases hp1 : p = -1
          · simp [*]
          · by_cases hp2 : m 3 (4 * p + 1) ≤ m 3 (4 * b' + 1)
            · have : ¬ m 3 (4 * b' + 1) < m 3 (4 * p + 1) := by omega
              simp [*]
            · have : m 3 (4 * b' + 1) < m 3 (4 * p + 1) := by omega
              have : m 3 (4 * b + 1) < m 3 (4 * p + 1) := by omega
              simp [*]
      · subst e1
        have hb1 : ¬ b' = -1 := fun e => e3 (Or.inl e)
        have hb3 : ¬ m 3 (4 * b' + 1) < m 3 (4 * k + 1) := fun e => e3 (Or.inr e)
        have : ¬ k = -1 := by omega
        by_cases hp1 : p = -1
        · simp [*]
        · by_cases hp2 : m 3 (4 * p + 1) ≤ m 3 (4 * k + 1)
          · have : ¬ m 3 (4 * b' + 1) < m 3 (4 * p + 1) := by omega
            simp [*]
          · simp [*]
    refine RMr [] [840011] 60 ?_
    repeat' first | (refine ⟨fun _ => ?_, fun _ => ?_⟩ <;> try omega) | (refine ⟨by first | omega | (simp only [upm_ap, upd1_ap, Nat.reduceEqDiff, ↓reduceIte, eq_self] at * <;> omega) | fail, ?_⟩) | (exact hno (by omega)) | (exact hyes (by omega) _ (by omega)) | (simp only [upm_ap, upd1_ap, Nat.reduceEqDiff, ↓reduceIte, eq_self] at *) | omega | fail
  · unfold fcomb
    simp only [if_true]
    congr 1
    omega
theorem M_actOn {day : Int} {x2 x3 : Option mV} (hn : 0 ≤ m 27 0 ∧ m 27 0 ≤ 20) (hQ : Q (rI (aOn m day)) m) : RM d 117 (0, [some (mR 1026), some (mI day), x2, x3], [], m) Q := by
  refine RMr [] [1170004] 20 ?_
  refine up_ind (n := m 27 0) (P := fun k => ∀ v, v = abest (m 28) day k.toNat → RM d 117 (4, [some (mR 1026), some (mI day), some (mI v), some (mI k)], [], m) Q) ?_ ?_ 0 (by omega) (by omega) (-1) rfl
  · intro v hv
    subst hv
    refine RMr [] [1170004] 40 ?_
    repeat' first | (refine ⟨fun _ => ?_, fun _ => ?_⟩ <;> try omega) | (refine ⟨by first | omega | (simp only [upm_ap, upd1_ap, Nat.reduceEqDiff, ↓reduceIte, eq_self] at * <;> omega) | fail, ?_⟩) | (exact hQ) | (simp only [upm_ap, upd1_ap, Nat.reduceEqDiff, ↓reduceIte, eq_self] at *) | omega | fail
  · intro k h0 h1 ih v hv
    have hb := abest_b (m 28) day k.toNat
    have hs := abest_s (m 28) day h0
    rw [← hv] at hs hb
    refine RMr [] [1170004] 40 ?_
    repeat' first | (refine ⟨fun _ => ?_, fun _ => ?_⟩ <;> try omega) | (refine ⟨by first | omega | (simp only [upm_ap, upd1_ap, Nat.reduceEqDiff, ↓reduceIte, eq_self] at * <;> omega) | fail, ?_⟩) | (refine ih _ ?_) | (simp only [upm_ap, upd1_ap, Nat.reduceEqDiff, ↓reduceIte, eq_self] at *) | omega | fail
    all_goals (rw [hs])
    all_goals first | (rw [if_pos (by omega)]) | (rw [if_neg (by omega)])
theorem M_toldOn {day what : Int} {x3 x4 x5 : Option mV} (hn : 0 ≤ m 27 0 ∧ m 27 0 ≤ 20) (hm : ∀ a, 0 ≤ a → a < m 27 0 → 0 ≤ m 6 a ∧ m 6 a ≤ 20) (hQ : Q (rI (tOf m (aOn m day) what)) m) : RM (d + 1) 116 (0, [some (mR 1026), some (mI day), some (mI what), x3, x4, x5], [], m) Q := by
  have hb := abest_b (m 28) day (m 27 0).toNat
  have hb : -1 ≤ aOn m day ∧ aOn m day < m 27 0 := by unfold aOn; omega
  have key : ∀ v, v = tdef what → RM (d + 1) 116 (59, [some (mR 1026), some (mI day), some (mI what), some (mI v), some (mI (aOn m day)), some (mI 0)], [], m) Q := by
    intro v hv
    by_cases ha : aOn m day = -1
    · refine RMr [] [1160059] 40 ?_
      unfold tOf at hQ
      rw [if_pos ha, ← hv] at hQ
      repeat' first | (refine ⟨fun _ => ?_, fun _ => ?_⟩ <;> try omega) | (refine ⟨by first | omega | (simp only [upm_ap, upd1_ap, Nat.reduceEqDiff, ↓reduceIte, eq_self] at * <;> omega) | fail, ?_⟩) | (exact hQ) | (simp only [upm_ap, upd1_ap, Nat.reduceEqDiff, ↓reduceIte, eq_self] at *) | omega | fail
    · have hm := hm _ (by omega) hb.2
      unfold tOf at hQ
      rw [if_neg ha] at hQ
      generalize aOn m day = a at *
      refine up_ind (n := m 6 a) (P := fun k => ∀ v, v = lastv (fun k => m 7 (20 * a + k)) (fun k => m 8 (20 * a + k)) what (tdef what) k.toNat → RM (d + 1) 116 (59, [some (mR 1026), some (mI day), some (mI what), some (mI v), some (mI a), some (mI k)], [], m) Q) ?_ ?_ 0 (by omega) (by omega) v hv
      · intro v hv
        subst hv
        refine RMr [] [1160059] 40 ?_
        repeat' first | (refine ⟨fun _ => ?_, fun _ => ?_⟩ <;> try omega) | (refine ⟨by first | omega | (simp only [upm_ap, upd1_ap, Nat.reduceEqDiff, ↓reduceIte, eq_self] at * <;> omega) | fail, ?_⟩) | (exact hQ) | (simp only [upm_ap, upd1_ap, Nat.reduceEqDiff, ↓reduceIte, eq_self] at *) | omega | fail
      · intro k h0 h1 ih v hv
        have hs := lastv_s (fun k => m 7 (20 * a + k)) (fun k => m 8 (20 * a + k)) what (tdef what) h0
        rw [← hv] at hs
        refine RMr [] [1160059] 40 ?_
        repeat' first | (refine ⟨fun _ => ?_, fun _ => ?_⟩ <;> try omega) | (refine ⟨by first | omega | (simp only [upm_ap, upd1_ap, Nat.reduceEqDiff, ↓reduceIte, eq_self] at * <;> omega) | fail, ?_⟩) | (refine ih _ ?_) | (simp only [upm_ap, upd1_ap, Nat.reduceEqDiff, ↓reduceIte, eq_self] at *) | omega | fail
        all_goals (rw [hs])
        all_goals first | (rw [if_pos (by assumption)]) | (rw [if_neg (by assumption)])
  refine RMr [] [1160059] 60 ?_
  repeat' first | (refine ⟨fun _ => ?_, fun _ => ?_⟩ <;> try omega) | (refine ⟨by first | omega | (simp only [upm_ap, upd1_ap, Nat.reduceEqDiff, ↓reduceIte, eq_self] at * <;> omega) | fail, ?_⟩) | (refine M_actOn hn ?_) | ((refine key _ ?_; unfold tdef; simp only [*]; simp; done)) | (simp only [upm_ap, upd1_ap, Nat.reduceEqDiff, ↓reduceIte, eq_self] at *) | omega | fail
theorem M_toldOnE {day what v : Int} {x3 x4 x5 : Option mV} (hn : 0 ≤ m 27 0 ∧ m 27 0 ≤ 20) (hm : ∀ a, 0 ≤ a → a < m 27 0 → 0 ≤ m 6 a ∧ m 6 a ≤ 20) (hv : tOf m (aOn m day) what = v) (hQ : Q (rI v) m) : RM (d + 1) 116 (0, [some (mR 1026), some (mI day), some (mI what), x3, x4, x5], [], m) Q := M_toldOn hn hm (by rw [hv]; exact hQ)
theorem M_factAtE {which year known v : Int} {x4 x5 : Option mV} (hn : 0 ≤ m 2 0 ∧ m 2 0 ≤ 300) (hv : fA m which year known = v) (hQ : Q (rI v) m) : RM d 84 (0, [some (mR 1026), some (mI which), some (mI year), some (mI known), x4, x5], [], m) Q := M_factAt hn (by rw [hv]; exact hQ)
end
