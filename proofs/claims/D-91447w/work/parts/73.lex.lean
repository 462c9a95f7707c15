/-! THE TEXTS: what is cut from a tape (t: its bytes, n: so many) -/
set_option maxHeartbeats 1600000
set_option maxRecDepth 100000
def byt (t : Int → Int) (n k : Int) : Int := if k < n then t k else 0
def blnk (t : Int → Int) (n k : Int) : Bool := decide (k < n ∧ (t k = 32 ∨ t k = 10))
def sml (t : Int → Int) (n k : Int) : Bool := decide (97 ≤ byt t n k ∧ byt t n k ≤ 122)
def dgt (t : Int → Int) (n k : Int) : Bool := decide (48 ≤ byt t n k ∧ byt t n k ≤ 57)
def ovr (p : Int → Bool) : Nat → Int → Int
  | 0, k => k
  | f + 1, k => if p k then ovr p f (k + 1) else k
/-- the first place from k on, below n, that has not p; n -/
def past (p : Int → Bool) (n k : Int) : Int := ovr p (n - k).toNat k
theorem past_n (p : Int → Bool) (n : Int) : past p n n = n := by
  unfold past
  rw [show (n - n).toNat = 0 by omega]
  rfl
theorem past_s (p : Int → Bool) {n k : Int} (h : k < n) : past p n k = if p k then past p n (k + 1) else k := by
  unfold past
  rw [show (n - k).toNat = (n - (k + 1)).toNat + 1 by omega]
  rfl
theorem past_b (p : Int → Bool) {n k : Int} (h : k ≤ n) : k ≤ past p n k ∧ past p n k ≤ n := by
  have : ∀ (f : Nat) (k : Int), k ≤ ovr p f k ∧ ovr p f k ≤ k + f := by
    intro f
    induction f with
    | zero => intro k; exact ⟨Int.le_refl _, by show k ≤ k + 0; omega⟩
    | succ f ih =>
      intro k
      show k ≤ (if p k then ovr p f (k + 1) else k) ∧ (if p k then ovr p f (k + 1) else k) ≤ _
      have := ih (k + 1)
      split <;> omega
  have := this (n - k).toNat k
  unfold past
  omega
/-- where p holds up to there, and fails at the end or n is reached -/
theorem past_spec (p : Int → Bool) {n k : Int} (h : k ≤ n) : (∀ i, k ≤ i → i < past p n k → p i = true) ∧ (past p n k < n → p (past p n k) = false) := by
  have : ∀ (f : Nat) (k : Int), (∀ i, k ≤ i → i < ovr p f k → p i = true) ∧ (ovr p f k < k + f → p (ovr p f k) = false) := by
    intro f
    induction f with
    | zero => intro k; exact ⟨fun i h1 h2 => by have : ovr p 0 k = k := rfl; omega, fun h => by have : ovr p 0 k = k := rfl; omega⟩
    | succ f ih =>
      intro k
      have e : ovr p (f + 1) k = if p k then ovr p f (k + 1) else k := rfl
      obtain ⟨i1, i2⟩ := ih (k + 1)
      rw [e]
      by_cases hp : p k = true
      · rw [if_pos hp]
        refine ⟨fun i h1 h2 => ?_, fun h => i2 (by omega)⟩
        by_cases hk : i = k
        · rw [hk]; exact hp
        · exact i1 i (by omega) h2
      · rw [if_neg hp]
        exact ⟨fun i h1 h2 => by omega, fun _ => by simpa using hp⟩
  obtain ⟨a, b⟩ := this (n - k).toNat k
  unfold past
  exact ⟨a, fun h2 => b (by omega)⟩
def sk (t : Int → Int) (n k : Int) : Int := past (blnk t n) n k
/-- where the token at q ends -/
def tke (t : Int → Int) (n q : Int) : Int := if sml t n q then past (sml t n) n q else if dgt t n q then past (dgt t n) n q else if q < n then q + 1 else q
/-- its sort: 0 the end, 1 a number too long, 2 a number, 3 a word, 4 a sign -/
def srt (t : Int → Int) (n q : Int) : Int := if n ≤ q then 0 else if sml t n q then 3 else if dgt t n q then (if 4 < tke t n q - q then 1 else 2) else 4
/-- the first k digits' value -/
def dgv (t : Int → Int) (n q : Int) : Nat → Int
  | 0 => 0
  | k + 1 => 10 * dgv t n q k + byt t n (q + k) - 48
def vlu (t : Int → Int) (n q : Int) : Int := dgv t n q (min 4 (tke t n q - q)).toNat
/-- the next token -/
def nx (t : Int → Int) (n q : Int) : Int := sk t n (tke t n q)
theorem sml_lt {t : Int → Int} {n q : Int} (h : sml t n q = true) : q < n ∧ t q = byt t n q := by
  unfold sml byt at h
  unfold byt
  have h := of_decide_eq_true h
  by_cases c : q < n
  · rw [if_pos c]; exact ⟨c, rfl⟩
  · rw [if_neg c] at h; omega
theorem dgt_lt {t : Int → Int} {n q : Int} (h : dgt t n q = true) : q < n ∧ t q = byt t n q := by
  unfold dgt byt at h
  unfold byt
  have h := of_decide_eq_true h
  by_cases c : q < n
  · rw [if_pos c]; exact ⟨c, rfl⟩
  · rw [if_neg c] at h; omega
theorem tke_b {t : Int → Int} {n q : Int} (h : q ≤ n) : q ≤ tke t n q ∧ tke t n q ≤ n ∧ (q < n → q < tke t n q) := by
  unfold tke
  by_cases h1 : sml t n q = true
  · rw [if_pos h1, past_s _ (sml_lt h1).1, if_pos h1]
    have := past_b (sml t n) (n := n) (k := q + 1) (by have := (sml_lt h1).1; omega)
    omega
  · rw [if_neg h1]
    by_cases h2 : dgt t n q = true
    · rw [if_pos h2, past_s _ (dgt_lt h2).1, if_pos h2]
      have := past_b (dgt t n) (n := n) (k := q + 1) (by have := (dgt_lt h2).1; omega)
      omega
    · rw [if_neg h2]
      by_cases h3 : q < n
      · rw [if_pos h3]; omega
      · rw [if_neg h3]; omega
theorem sk_b {t : Int → Int} {n k : Int} (h : k ≤ n) : k ≤ sk t n k ∧ sk t n k ≤ n := past_b _ h
theorem nx_b {t : Int → Int} {n q : Int} (h : q ≤ n) : q ≤ nx t n q ∧ nx t n q ≤ n ∧ (q < n → q < nx t n q) := by
  have h1 := tke_b (t := t) h
  have h2 := sk_b (t := t) (n := n) (k := tke t n q) h1.2.1
  unfold nx
  omega
theorem dgv_b {t : Int → Int} {n q : Int} : ∀ k : Nat, k ≤ 4 → (∀ i : Nat, i < k → dgt t n (q + i) = true) → 0 ≤ dgv t n q k ∧ dgv t n q k < 10 ^ k
  | 0, _, _ => ⟨Int.le_refl _, by show (0 : Int) < 10 ^ 0; decide⟩
  | k + 1, hk, h => by
    have ih := dgv_b (t := t) (n := n) (q := q) k (by omega) (fun i hi => h i (by omega))
    have hd := of_decide_eq_true (h k (by omega))
    have e : dgv t n q (k + 1) = 10 * dgv t n q k + byt t n (q + k) - 48 := rfl
    rw [e, show (10 : Int) ^ (k + 1) = 10 ^ k * 10 from rfl]
    generalize (10 : Int) ^ k = w at *
    omega
/-! the Model cuts -/
/-- the Model's token -/
def MT (t : Int → Int) (n : Int) (m : sg) (q : Int) : Prop := m 16 0 = q ∧ m 15 0 = tke t n q ∧ m 17 0 = srt t n q ∧ (srt t n q = 2 → m 18 0 = vlu t n q) ∧ (srt t n q = 4 → m 18 0 = t q)
def fr4 (m m' : sg) : Prop := ∀ j, j ≠ 15 → j ≠ 16 → j ≠ 17 → j ≠ 18 → m' j = m j
section
variable {d : Nat} {m : sg} {Q : mQ sg} {t : Int → Int} {n : Int}
theorem fr4.up {m m' : sg} (h : fr4 m m') {j : Nat} (hj : j = 15 ∨ j = 16 ∨ j = 17 ∨ j = 18) {i v : Int} : fr4 m (upm m' j i v) := fun k h1 h2 h3 h4 => by
  rw [upm_n (by omega)]
  exact h k h1 h2 h3 h4
theorem M_see {k : Int} (h13 : m 13 = t) (h14 : m 14 0 = n) (hk : 0 ≤ k ∧ n ≤ 400) (hQ : Q (rI (byt t n k)) m) : RM d 92 (0, [some (mR 1026), some (mI k)], [], m) Q := by
  unfold byt at hQ
  rw [← h13] at hQ
  by_cases h : k < n
  · rw [if_pos h] at hQ
    refine RMr [] [] 40 ?_
    repeat' first | (refine ⟨fun _ => ?_, fun _ => ?_⟩ <;> try omega) | (refine ⟨by first | omega | (simp only [upm_ap, upd1_ap, Nat.reduceEqDiff, ↓reduceIte, eq_self] at * <;> omega) | fail, ?_⟩) | (exact hQ) | (simp only [upm_ap, upd1_ap, Nat.reduceEqDiff, ↓reduceIte, eq_self] at *) | omega | fail
  · rw [if_neg h] at hQ
    refine RMr [] [] 40 ?_
    repeat' first | (refine ⟨fun _ => ?_, fun _ => ?_⟩ <;> try omega) | (refine ⟨by first | omega | (simp only [upm_ap, upd1_ap, Nat.reduceEqDiff, ↓reduceIte, eq_self] at * <;> omega) | fail, ?_⟩) | (exact hQ) | (simp only [upm_ap, upd1_ap, Nat.reduceEqDiff, ↓reduceIte, eq_self] at *) | omega | fail
theorem M_word {q k c : Int} (h13 : m 13 = t) (h14 : m 14 0 = n) (hn : n ≤ 400) (hq : 0 ≤ q ∧ q < k ∧ k ≤ n) (h16 : m 16 0 = q) (hs : sml t n q = true) (he : past (sml t n) n k = tke t n q) (h15 : m 15 0 = k)
    (hQ : ∀ m', fr4 m m' → MT t n m' q → Q rV m') : RM (d + 1) 90 (109, [some (mR 1026), some (mI c)], [], m) Q := by
  have fin : ∀ m', fr4 m m' → m' 16 0 = q → m' 15 0 = tke t n q → Q rV (upm m' 17 0 3) := by
    intro m' hf e1 e2
    have s3 : srt t n q = 3 := by
      unfold srt
      rw [if_neg (by have := (sml_lt hs).1; omega), if_pos hs]
    exact hQ _ (hf.up (by omega)) ⟨by rw [upm_n (by decide)]; exact e1, by rw [upm_n (by decide)]; exact e2, by rw [upm_s, upd1_s, s3], fun h => by omega, fun h => by omega⟩
  have key : ∀ k, 0 ≤ k → k ≤ n → ∀ m', fr4 m m' → m' 16 0 = q → m' 15 0 = k → past (sml t n) n k = tke t n q → RM (d + 1) 90 (109, [some (mR 1026), some (mI c)], [], m') Q := by
    refine up_ind ?_ ?_
    · intro m' hf e1 e2 e3
      have g13 : m' 13 = t := by rw [hf 13 (by decide) (by decide) (by decide) (by decide)]; exact h13
      have g14 : m' 14 0 = n := by rw [hf 14 (by decide) (by decide) (by decide) (by decide)]; exact h14
      rw [past_n] at e3
      have hb : byt t n (m' 15 0) = 0 := by unfold byt; rw [if_neg (by omega)]
      have fin := fin m' hf e1 (by omega)
      refine RMr [] [900109] 60 ?_
      repeat' first | (refine ⟨fun _ => ?_, fun _ => ?_⟩ <;> try omega) | (refine ⟨by first | omega | (simp only [upm_ap, upd1_ap, Nat.reduceEqDiff, ↓reduceIte, eq_self] at * <;> omega) | fail, ?_⟩) | (refine M_see g13 g14 (by omega) ?_) | (refine M_isSmall (fun _ _ => ?_) (fun _ => ?_)) | (exact fin) | (simp only [upm_ap, upd1_ap, Nat.reduceEqDiff, ↓reduceIte, eq_self] at *) | omega | fail
    · intro k k0 k1 ih m' hf e1 e2 e3
      have g13 : m' 13 = t := by rw [hf 13 (by decide) (by decide) (by decide) (by decide)]; exact h13
      have g14 : m' 14 0 = n := by rw [hf 14 (by decide) (by decide) (by decide) (by decide)]; exact h14
      rw [past_s _ k1] at e3
      by_cases hs : sml t n k = true
      · rw [if_pos hs] at e3
        have hb := of_decide_eq_true hs
        have ih := ih (upm m' 15 0 (m' 15 0 + 1)) (hf.up (by omega)) (by rw [upm_n (by decide)]; exact e1) (by rw [upm_s, upd1_s]; omega) e3
        rw [← e2] at hb
        refine RMr [] [900109] 60 ?_
        repeat' first | (refine ⟨fun _ => ?_, fun _ => ?_⟩ <;> try omega) | (refine ⟨by first | omega | (simp only [upm_ap, upd1_ap, Nat.reduceEqDiff, ↓reduceIte, eq_self] at * <;> omega) | fail, ?_⟩) | (refine M_see g13 g14 (by omega) ?_) | (refine M_isSmall (fun _ _ => ?_) (fun _ => ?_)) | (exact ih) | (simp only [upm_ap, upd1_ap, Nat.reduceEqDiff, ↓reduceIte, eq_self] at *) | omega | fail
      · rw [if_neg hs] at e3
        have hb : ¬ (97 ≤ byt t n k ∧ byt t n k ≤ 122) := fun h => hs (decide_eq_true h)
        have fin := fin m' hf e1 (by omega)
        rw [← e2] at hb
        refine RMr [] [900109] 60 ?_
        repeat' first | (refine ⟨fun _ => ?_, fun _ => ?_⟩ <;> try omega) | (refine ⟨by first | omega | (simp only [upm_ap, upd1_ap, Nat.reduceEqDiff, ↓reduceIte, eq_self] at * <;> omega) | fail, ?_⟩) | (refine M_see g13 g14 (by omega) ?_) | (refine M_isSmall (fun _ _ => ?_) (fun _ => ?_)) | (exact fin) | (simp only [upm_ap, upd1_ap, Nat.reduceEqDiff, ↓reduceIte, eq_self] at *) | omega | fail
  exact key k (by omega) (by omega) m (fun j _ _ _ _ => rfl) h16 h15 he
theorem tke_dg {q : Int} (h : dgt t n q = true) : tke t n q = past (dgt t n) n q := by
  unfold tke
  have hs : ¬ sml t n q = true := fun hs => by
    have a := of_decide_eq_true h
    have b := of_decide_eq_true hs
    omega
  rw [if_neg hs, if_pos h]
theorem M_digs {q k c : Int} (h13 : m 13 = t) (h14 : m 14 0 = n) (hn : n ≤ 400) (hq : 0 ≤ q ∧ q < k ∧ k ≤ n) (h16 : m 16 0 = q) (hs : dgt t n q = true) (he : past (dgt t n) n k = tke t n q) (h15 : m 15 0 = k) (h18 : m 18 0 = dgv t n q (min 4 (k - q)).toNat)
    (hal : ∀ i, q ≤ i → i < k → dgt t n i = true) (hQ : ∀ m', fr4 m m' → MT t n m' q → Q rV m') : RM (d + 1) 90 (159, [some (mR 1026), some (mI c)], [], m) Q := by
  have fin : ∀ m', fr4 m m' → m' 16 0 = q → m' 15 0 = tke t n q → m' 18 0 = vlu t n q → (4 < tke t n q - q → Q rV (upm m' 17 0 1)) ∧ (¬ 4 < tke t n q - q → Q rV (upm m' 17 0 2)) := by
    intro m' hf e1 e2 e3
    have hsn : ¬ sml t n q = true := fun hs' => by
      have a := of_decide_eq_true hs
      have b := of_decide_eq_true hs'
      omega
    have s3 : srt t n q = if 4 < tke t n q - q then 1 else 2 := by
      unfold srt
      rw [if_neg (by have := (dgt_lt hs).1; omega), if_neg hsn, if_pos hs]
    refine ⟨fun h => ?_, fun h => ?_⟩
    · rw [if_pos h] at s3
      exact hQ _ (hf.up (by omega)) ⟨by rw [upm_n (by decide)]; exact e1, by rw [upm_n (by decide)]; exact e2, by rw [upm_s, upd1_s, s3], fun h => by omega, fun h => by omega⟩
    · rw [if_neg h] at s3
      exact hQ _ (hf.up (by omega)) ⟨by rw [upm_n (by decide)]; exact e1, by rw [upm_n (by decide)]; exact e2, by rw [upm_s, upd1_s, s3], fun h => by rw [upm_n (by decide)]; exact e3, fun h => by omega⟩
  have key : ∀ k, 0 ≤ k → k ≤ n → ∀ m', q < k → fr4 m m' → m' 16 0 = q → m' 15 0 = k → past (dgt t n) n k = tke t n q → m' 18 0 = dgv t n q (min 4 (k - q)).toNat → (∀ i, q ≤ i → i < k → dgt t n i = true) → RM (d + 1) 90 (159, [some (mR 1026), some (mI c)], [], m') Q := by
    refine up_ind ?_ ?_
    · intro m' hqk hf e1 e2 e3 e4 e5
      have g13 : m' 13 = t := by rw [hf 13 (by decide) (by decide) (by decide) (by decide)]; exact h13
      have g14 : m' 14 0 = n := by rw [hf 14 (by decide) (by decide) (by decide) (by decide)]; exact h14
      rw [past_n] at e3
      have hb : byt t n (m' 15 0) = 0 := by unfold byt; rw [if_neg (by omega)]
      have fin := fin m' hf e1 (by omega) (by unfold vlu; rw [← e3]; exact e4)
      refine RMr [] [900159] 100 ?_
      repeat' first | (refine ⟨fun _ => ?_, fun _ => ?_⟩ <;> try omega) | (refine ⟨by first | omega | (simp only [upm_ap, upd1_ap, Nat.reduceEqDiff, ↓reduceIte, eq_self] at * <;> omega) | fail, ?_⟩) | (refine M_see g13 g14 (by omega) ?_) | (refine M_isDigit (fun _ _ => ?_) (fun _ => ?_)) | (exact fin.1 (by omega)) | (exact fin.2 (by omega)) | (simp only [upm_ap, upd1_ap, Nat.reduceEqDiff, ↓reduceIte, eq_self] at *) | omega | fail
    · intro k k0 k1 ih m' hqk hf e1 e2 e3 e4 e5
      have g13 : m' 13 = t := by rw [hf 13 (by decide) (by decide) (by decide) (by decide)]; exact h13
      have g14 : m' 14 0 = n := by rw [hf 14 (by decide) (by decide) (by decide) (by decide)]; exact h14
      rw [past_s _ k1] at e3
      by_cases hs : dgt t n k = true
      · rw [if_pos hs] at e3
        have hb := of_decide_eq_true hs
        have hv := dgv_b (t := t) (n := n) (q := q) (min 4 (k - q)).toNat (by omega) (fun i hi => e5 _ (by omega) (by omega))
        have hv2 : 0 ≤ m' 18 0 ∧ m' 18 0 < 10000 := by
          rw [e4]
          have : (min 4 (k - q)).toNat = 0 ∨ (min 4 (k - q)).toNat = 1 ∨ (min 4 (k - q)).toNat = 2 ∨ (min 4 (k - q)).toNat = 3 ∨ (min 4 (k - q)).toNat = 4 := by omega
          rcases this with h | h | h | h | h <;> (rw [h] at hv ⊢; first | exact ⟨hv.1, Int.lt_of_lt_of_le hv.2 (by decide)⟩ | exact hv)
        have e5' : ∀ i, q ≤ i → i < k + 1 → dgt t n i = true := fun i i0 i1 => by
          by_cases hik : i = k
          · rw [hik]; exact hs
          · exact e5 i i0 (by omega)
        have ih1 : k - q < 4 → RM (d + 1) 90 (159, [some (mR 1026), some (mI c)], [], upm (upm m' 18 0 (10 * m' 18 0 + byt t n (m' 15 0) - 48)) 15 0 (m' 15 0 + 1)) Q := by
          intro hlt
          refine ih _ (by omega) ((hf.up (by omega)).up (by omega)) (by rw [upm_n (by decide), upm_n (by decide)]; exact e1) (by rw [upm_s, upd1_s]; omega) e3 ?_ e5'
          rw [upm_n (by decide), upm_s, upd1_s, e4, e2]
          have a : (min 4 (k + 1 - q)).toNat = (k - q).toNat + 1 := by omega
          have b : (min 4 (k - q)).toNat = (k - q).toNat := by omega
          rw [a, b]
          show _ = 10 * dgv t n q (k - q).toNat + byt t n (q + ((k - q).toNat : Nat)) - 48
          rw [show q + (((k - q).toNat : Nat) : Int) = k by omega]
        have ih2 : ¬ k - q < 4 → RM (d + 1) 90 (159, [some (mR 1026), some (mI c)], [], upm m' 15 0 (m' 15 0 + 1)) Q := by
          intro hlt
          refine ih _ (by omega) (hf.up (by omega)) (by rw [upm_n (by decide)]; exact e1) (by rw [upm_s, upd1_s]; omega) e3 ?_ e5'
          rw [upm_n (by decide), e4]
          have a : (min 4 (k + 1 - q)).toNat = (min 4 (k - q)).toNat := by omega
          rw [a]
        rw [← e2] at hb
        clear ih fin hQ hal
        refine RMr [] [900159] 100 ?_
        repeat' first | (refine ⟨fun _ => ?_, fun _ => ?_⟩ <;> try omega) | (refine ⟨by first | omega | (simp only [upm_ap, upd1_ap, Nat.reduceEqDiff, ↓reduceIte, eq_self] at * <;> omega) | fail, ?_⟩) | (refine M_see g13 g14 (by omega) ?_) | (refine M_isDigit (fun _ _ => ?_) (fun _ => ?_)) | (exact ih1 (by omega)) | (exact ih2 (by omega)) | (simp only [upm_ap, upd1_ap, Nat.reduceEqDiff, ↓reduceIte, eq_self] at *) | omega | fail
      · rw [if_neg hs] at e3
        have hb : ¬ (48 ≤ byt t n k ∧ byt t n k ≤ 57) := fun h => hs (decide_eq_true h)
        have fin := fin m' hf e1 (by omega) (by unfold vlu; rw [← e3]; exact e4)
        rw [← e2] at hb
        refine RMr [] [900159] 100 ?_
        repeat' first | (refine ⟨fun _ => ?_, fun _ => ?_⟩ <;> try omega) | (refine ⟨by first | omega | (simp only [upm_ap, upd1_ap, Nat.reduceEqDiff, ↓reduceIte, eq_self] at * <;> omega) | fail, ?_⟩) | (refine M_see g13 g14 (by omega) ?_) | (refine M_isDigit (fun _ _ => ?_) (fun _ => ?_)) | (exact fin.1 (by omega)) | (exact fin.2 (by omega)) | (simp only [upm_ap, upd1_ap, Nat.reduceEqDiff, ↓reduceIte, eq_self] at *) | omega | fail
  exact key k (by omega) (by omega) m (by omega) (fun j _ _ _ _ => rfl) h16 h15 he h18 hal
theorem M_next {p : Int} {x1 : Option mV} (h13 : m 13 = t) (h14 : m 14 0 = n) (hn : n ≤ 400) (h15 : m 15 0 = p) (hp : 0 ≤ p ∧ p ≤ n) (hQ : ∀ m', fr4 m m' → MT t n m' (sk t n p) → Q rV m') : RM (d + 1) 90 (0, [some (mR 1026), x1], [], m) Q := by
  -- at a token
  have tok : ∀ q, 0 ≤ q → q ≤ n → q = sk t n p → ∀ m', fr4 m m' → m' 15 0 = q → m' 16 0 = q → RM (d + 1) 90 (60, [some (mR 1026), x1], [], m') Q := by
    intro q q0 q1 hq m' hf e1 e2
    have g13 : m' 13 = t := by rw [hf 13 (by decide) (by decide) (by decide) (by decide)]; exact h13
    have g14 : m' 14 0 = n := by rw [hf 14 (by decide) (by decide) (by decide) (by decide)]; exact h14
    rw [← hq] at hQ
    by_cases hlt : q < n
    · have hby : byt t n q = t q := by unfold byt; rw [if_pos hlt]
      have trans : ∀ {m1 m2 : sg}, fr4 m m1 → fr4 m1 m2 → fr4 m m2 := fun h1 h2 j a b c e => (h2 j a b c e).trans (h1 j a b c e)
      by_cases hs : sml t n q = true
      · have hb := of_decide_eq_true hs
        have te : tke t n q = past (sml t n) n (q + 1) := by
          unfold tke
          rw [if_pos hs, past_s _ hlt, if_pos hs]
        have go : RM (d + 1) 90 (109, [some (mR 1026), some (mI (m' 13 (m' 15 0)))], [], upm (upm m' 15 0 (m' 15 0 + 1)) 18 0 (m' 13 (m' 15 0))) Q := by
          refine M_word (t := t) (n := n) (q := q) (k := q + 1) (by rw [upm_n (by decide), upm_n (by decide)]; exact g13) (by rw [upm_n (by decide), upm_n (by decide)]; exact g14) hn (by omega) (by rw [upm_n (by decide), upm_n (by decide)]; exact e2) hs te.symm (by rw [upm_n (by decide), upm_s, upd1_s]; omega) (fun m2 hf2 hm => hQ m2 (trans ((hf.up (by omega)).up (by omega)) hf2) hm)
        have hb2 : 97 ≤ m' 13 (m' 15 0) ∧ m' 13 (m' 15 0) ≤ 122 := by rw [g13, e1, ← hby]; exact hb
        refine RMr [] [900109] 100 ?_
        repeat' first | (refine ⟨fun _ => ?_, fun _ => ?_⟩ <;> try omega) | (refine ⟨by first | omega | (simp only [upm_ap, upd1_ap, Nat.reduceEqDiff, ↓reduceIte, eq_self] at * <;> omega) | fail, ?_⟩) | (refine M_isSmall (fun _ _ => ?_) (fun _ => ?_)) | (exact go) | (simp only [upm_ap, upd1_ap, Nat.reduceEqDiff, ↓reduceIte, eq_self] at *) | omega | fail
      · have hbs : ¬ (97 ≤ m' 13 (m' 15 0) ∧ m' 13 (m' 15 0) ≤ 122) := fun h => hs (decide_eq_true (by rw [hby, ← g13, ← e1]; exact h))
        by_cases hg : dgt t n q = true
        · have hb := of_decide_eq_true hg
          have te : tke t n q = past (dgt t n) n (q + 1) := by
            rw [tke_dg hg, past_s _ hlt, if_pos hg]
          have go : RM (d + 1) 90 (159, [some (mR 1026), some (mI (m' 13 (m' 15 0)))], [], upm (upm (upm m' 15 0 (m' 15 0 + 1)) 18 0 (m' 13 (m' 15 0))) 18 0 (m' 13 (m' 15 0) - 48)) Q := by
            refine M_digs (t := t) (n := n) (q := q) (k := q + 1) (by rw [upm_n (by decide), upm_n (by decide), upm_n (by decide)]; exact g13) (by rw [upm_n (by decide), upm_n (by decide), upm_n (by decide)]; exact g14) hn (by omega) (by rw [upm_n (by decide), upm_n (by decide), upm_n (by decide)]; exact e2) hg te.symm (by rw [upm_n (by decide), upm_n (by decide), upm_s, upd1_s]; omega) ?_ (fun i i0 i1 => by rw [show i = q by omega]; exact hg) (fun m2 hf2 hm => hQ m2 (trans (((hf.up (by omega)).up (by omega)).up (by omega)) hf2) hm)
            rw [upm_s, upd1_s, g13, e1, ← hby, show (min 4 (q + 1 - q)).toNat = 1 by omega]
            show _ = 10 * 0 + byt t n (q + ((0 : Nat) : Int)) - 48
            rw [show q + ((0 : Nat) : Int) = q by omega]
            omega
          have hb2 : 48 ≤ m' 13 (m' 15 0) ∧ m' 13 (m' 15 0) ≤ 57 := by rw [g13, e1, ← hby]; exact hb
          refine RMr [] [900159] 100 ?_
          repeat' first | (refine ⟨fun _ => ?_, fun _ => ?_⟩ <;> try omega) | (refine ⟨by first | omega | (simp only [upm_ap, upd1_ap, Nat.reduceEqDiff, ↓reduceIte, eq_self] at * <;> omega) | fail, ?_⟩) | (refine M_isSmall (fun _ _ => ?_) (fun _ => ?_)) | (refine M_isDigit (fun _ _ => ?_) (fun _ => ?_)) | (exact go) | (simp only [upm_ap, upd1_ap, Nat.reduceEqDiff, ↓reduceIte, eq_self] at *) | omega | fail
        · have hbd : ¬ (48 ≤ m' 13 (m' 15 0) ∧ m' 13 (m' 15 0) ≤ 57) := fun h => hg (decide_eq_true (by rw [hby, ← g13, ← e1]; exact h))
          have s3 : srt t n q = 4 := by unfold srt; rw [if_neg (by omega), if_neg hs, if_neg hg]
          have te : tke t n q = q + 1 := by unfold tke; rw [if_neg hs, if_neg hg, if_pos hlt]
          have go : Q rV (upm (upm (upm m' 15 0 (m' 15 0 + 1)) 18 0 (m' 13 (m' 15 0))) 17 0 4) :=
            hQ _ (((hf.up (by omega)).up (by omega)).up (by omega)) ⟨by rw [upm_n (by decide), upm_n (by decide), upm_n (by decide)]; exact e2, by rw [upm_n (by decide), upm_n (by decide), upm_s, upd1_s]; omega, by rw [upm_s, upd1_s, s3], fun h => by omega, fun h => by rw [upm_n (by decide), upm_s, upd1_s, g13, e1]⟩
          refine RMr [] [] 100 ?_
          repeat' first | (refine ⟨fun _ => ?_, fun _ => ?_⟩ <;> try omega) | (refine ⟨by first | omega | (simp only [upm_ap, upd1_ap, Nat.reduceEqDiff, ↓reduceIte, eq_self] at * <;> omega) | fail, ?_⟩) | (refine M_isSmall (fun _ _ => ?_) (fun _ => ?_)) | (refine M_isDigit (fun _ _ => ?_) (fun _ => ?_)) | (exact go) | (simp only [upm_ap, upd1_ap, Nat.reduceEqDiff, ↓reduceIte, eq_self] at *) | omega | fail
    · have s3 : srt t n q = 0 := by unfold srt; rw [if_pos (by omega)]
      have ns : ∀ {p : Prop}, sml t n q = true → p := fun h => absurd (sml_lt h).1 hlt
      have te : tke t n q = q := by
        unfold tke
        rw [if_neg (fun h => hlt (sml_lt h).1), if_neg (fun h => hlt (dgt_lt h).1), if_neg hlt]
      have go : Q rV (upm m' 17 0 0) := hQ _ (hf.up (by omega)) ⟨by rw [upm_n (by decide)]; exact e2, by rw [upm_n (by decide)]; omega, by rw [upm_s, upd1_s, s3], fun h => by omega, fun h => by omega⟩
      refine RMr [] [] 100 ?_
      repeat' first | (refine ⟨fun _ => ?_, fun _ => ?_⟩ <;> try omega) | (refine ⟨by first | omega | (simp only [upm_ap, upd1_ap, Nat.reduceEqDiff, ↓reduceIte, eq_self] at * <;> omega) | fail, ?_⟩) | (exact go) | (simp only [upm_ap, upd1_ap, Nat.reduceEqDiff, ↓reduceIte, eq_self] at *) | omega | fail
  have key : ∀ k, 0 ≤ k → k ≤ n → ∀ m', fr4 m m' → m' 15 0 = k → sk t n k = sk t n p → RM (d + 1) 90 (0, [some (mR 1026), x1], [], m') Q := by
    refine up_ind ?_ ?_
    · intro m' hf e1 e2
      have g13 : m' 13 = t := by rw [hf 13 (by decide) (by decide) (by decide) (by decide)]; exact h13
      have g14 : m' 14 0 = n := by rw [hf 14 (by decide) (by decide) (by decide) (by decide)]; exact h14
      have tk := tok n (by omega) (Int.le_refl _) (by rw [← e2]; exact (past_n _ _).symm) (upm m' 16 0 (m' 15 0)) (hf.up (by omega)) (by rw [upm_n (by decide)]; exact e1) (by rw [upm_s, upd1_s]; exact e1)
      clear tok
      refine RMr [] [900000, 900060] 100 ?_
      repeat' first | (refine ⟨fun _ => ?_, fun _ => ?_⟩ <;> try omega) | (refine ⟨by first | omega | (simp only [upm_ap, upd1_ap, Nat.reduceEqDiff, ↓reduceIte, eq_self] at * <;> omega) | fail, ?_⟩) | (exact tk) | (simp only [upm_ap, upd1_ap, Nat.reduceEqDiff, ↓reduceIte, eq_self] at *) | omega | fail
    · intro k k0 k1 ih m' hf e1 e2
      have g13 : m' 13 = t := by rw [hf 13 (by decide) (by decide) (by decide) (by decide)]; exact h13
      have g14 : m' 14 0 = n := by rw [hf 14 (by decide) (by decide) (by decide) (by decide)]; exact h14
      have e2' : (if blnk t n k then sk t n (k + 1) else k) = sk t n p := by rw [← e2]; exact (past_s _ k1).symm
      by_cases hb : blnk t n k = true
      · rw [if_pos hb] at e2'
        have hb := (of_decide_eq_true hb).2
        have hb2 : m' 13 (m' 15 0) = 32 ∨ m' 13 (m' 15 0) = 10 := by rw [g13, e1]; exact hb
        have ih := ih (upm m' 15 0 (m' 15 0 + 1)) (hf.up (by omega)) (by rw [upm_s, upd1_s]; omega) e2'
        clear tok hQ
        refine RMr [] [900000, 900060] 100 ?_
        repeat' first | (refine ⟨fun _ => ?_, fun _ => ?_⟩ <;> try omega) | (refine ⟨by first | omega | (simp only [upm_ap, upd1_ap, Nat.reduceEqDiff, ↓reduceIte, eq_self] at * <;> omega) | fail, ?_⟩) | (exact ih) | (simp only [upm_ap, upd1_ap, Nat.reduceEqDiff, ↓reduceIte, eq_self] at *) | omega | fail
      · rw [if_neg hb] at e2'
        have hb2 : ¬ (m' 13 (m' 15 0) = 32 ∨ m' 13 (m' 15 0) = 10) := fun h => hb (decide_eq_true ⟨k1, by rw [← g13, ← e1]; exact h⟩)
        have tk := tok k k0 (by omega) e2' (upm m' 16 0 (m' 15 0)) (hf.up (by omega)) (by rw [upm_n (by decide)]; exact e1) (by rw [upm_s, upd1_s]; exact e1)
        clear tok hQ
        refine RMr [] [900000, 900060] 100 ?_
        repeat' first | (refine ⟨fun _ => ?_, fun _ => ?_⟩ <;> try omega) | (refine ⟨by first | omega | (simp only [upm_ap, upd1_ap, Nat.reduceEqDiff, ↓reduceIte, eq_self] at * <;> omega) | fail, ?_⟩) | (exact tk) | (simp only [upm_ap, upd1_ap, Nat.reduceEqDiff, ↓reduceIte, eq_self] at *) | omega | fail
  exact key p hp.1 hp.2 m (fun j _ _ _ _ => rfl) h15 rfl
end
