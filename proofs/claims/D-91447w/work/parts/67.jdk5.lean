/-! THE JDK's METHODS on the raw memory: texts -/
set_option maxHeartbeats 1600000
set_option maxRecDepth 100000
section
variable {d : Nat} {m : mM} {a : Int} {Q : mQ mM}
theorem J_225 {c : Int} (hc : 0 ≤ c ∧ c ≤ 255) (hq : Q (rI 1) m) : RJ d 225 (0, [some (mI c)], [], m) Q := by
  refine RJr [] [] 80 ?_
  repeat' first | (refine ⟨fun _ => ?_, fun _ => ?_⟩ <;> try omega) | (refine ⟨by first | omega | assumption | (refine ⟨by omega, by omega⟩) | fail, ?_⟩) | (exact hq) | omega | fail
theorem J_226 {c f t : Int} (h1 : 102 ≤ m.2.1 a ∧ m.2.1 a ≤ 103) (hf : 0 ≤ f ∧ f ≤ t ∧ t ≤ m.2.2.1 a ∧ t ≤ 65536) (hq : Q (rI (fstN (fun k => decide (m.1 a k = zi2b c)) (t - f).toNat f)) m) : RJ d 226 (0, [some (mR a), some (mI c), some (mI f), some (mI t), none, none], [], m) Q := by
  have key : ∀ k, 0 ≤ k → k ≤ t → f ≤ k → fstN (fun k => decide (m.1 a k = zi2b c)) (t - k).toNat k = fstN (fun k => decide (m.1 a k = zi2b c)) (t - f).toNat f → RJ d 226 (7, [some (mR a), some (mI c), some (mI f), some (mI t), some (mI (zi2b c)), some (mI k)], [], m) Q := by
    refine up_ind ?_ ?_
    · intro _ hx
      have e0 : (t - t).toNat = 0 := by omega
      rw [e0] at hx
      rw [← hx] at hq
      refine RJr [] [2260007] 80 ?_
      repeat' first | (refine ⟨fun _ => ?_, fun _ => ?_⟩ <;> try omega) | (refine ⟨by first | omega | assumption | (refine ⟨by omega, by omega⟩) | fail, ?_⟩) | (exact hq) | omega | fail
    · intro k h0 hk ih hfk hx
      rw [fstN_s _ hk] at hx
      have hy : m.1 a k = zi2b c → Q (rI k) m := by
        intro q
        rw [if_pos (by simp [q])] at hx
        rw [hx]
        exact hq
      have hz : m.1 a k ≠ zi2b c → RJ d 226 (7, [some (mR a), some (mI c), some (mI f), some (mI t), some (mI (zi2b c)), some (mI (k + 1))], [], m) Q := by
        intro q
        rw [if_neg (by simp; exact q)] at hx
        exact ih (by omega) hx
      clear ih hq
      have k1 : (102 ≤ m.2.1 a ∧ m.2.1 a ≤ 103) ∧ 0 ≤ k ∧ k < m.2.2.1 a := by omega
      refine RJr [] [2260007] 80 ?_
      repeat' first | (refine ⟨fun _ => ?_, fun _ => ?_⟩ <;> try omega) | (refine ⟨by first | omega | assumption | (refine ⟨by omega, by omega⟩) | fail, ?_⟩) | (exact hy (by assumption)) | (exact hz (by assumption)) | omega | fail
  have fin := key f (by omega) (by omega) (by omega) rfl
  clear key
  refine RJr [] [2260007] 80 ?_
  repeat' first | (refine ⟨fun _ => ?_, fun _ => ?_⟩ <;> try omega) | (refine ⟨by first | omega | assumption | (refine ⟨by omega, by omega⟩) | fail, ?_⟩) | (exact fin) | omega | fail
theorem J_224 {c f : Int} (h1 : 102 ≤ m.2.1 a ∧ m.2.1 a ≤ 103) (hc : 0 ≤ c ∧ c ≤ 255) (hf : 0 ≤ f ∧ f ≤ m.2.2.1 a ∧ m.2.2.1 a ≤ 65536) (hq : Q (rI (fstN (fun k => decide (m.1 a k = zi2b c)) (m.2.2.1 a - f).toNat f)) m) : RJ (d + 1) 224 (0, [some (mR a), some (mI c), some (mI f), some (mI (m.2.2.1 a))], [], m) Q := by
  have e1 : max f 0 = f := by omega
  have e2 : min (m.2.2.1 a) (m.2.2.1 a) = m.2.2.1 a := by omega
  have hq0 : f = m.2.2.1 a → Q (rI (-1)) m := by
    intro e
    rw [show (m.2.2.1 a - f).toNat = 0 by omega] at hq
    exact hq
  rw [← e1] at hq hf hq0
  rw [← e2] at hq hq0
  have hf : 0 ≤ max f 0 ∧ max f 0 ≤ min (m.2.2.1 a) (m.2.2.1 a) ∧ min (m.2.2.1 a) (m.2.2.1 a) ≤ m.2.2.1 a ∧ min (m.2.2.1 a) (m.2.2.1 a) ≤ 65536 := by omega
  refine RJr [] [] 80 ?_
  repeat' first | (refine ⟨fun _ => ?_, fun _ => ?_⟩ <;> try omega) | (refine ⟨by first | omega | assumption | (refine ⟨by omega, by omega⟩) | fail, ?_⟩) | (refine J_225 hc ?_) | (refine J_226 h1 hf ?_) | (exact hq) | (exact hq0 (by omega)) | omega | fail
theorem J_213 {e n c f : Int} (h : txA m a e n) (hc : 0 ≤ c ∧ c ≤ 255) (hf : 0 ≤ f ∧ f ≤ n) (hq : Q (rI (fstN (fun k => decide (m.1 e k = zi2b c)) (n - f).toNat f)) m) : RJ (d + 2) 213 (0, [some (mR a), some (mI c), some (mI f)], [], m) Q := by
  have h' := h
  obtain ⟨h1, h2, h3, h4, h5, h6⟩ := h
  subst h3 h5
  refine RJr [] [] 80 ?_
  repeat' first | (refine ⟨fun _ => ?_, fun _ => ?_⟩ <;> try omega) | (refine ⟨by first | omega | assumption | (refine ⟨by omega, by omega⟩) | fail, ?_⟩) | (refine hub_j (by dsimp only [rK]; first | omega | (simp only [mst_2]; omega) | fail) (J_isL h1 h2 ?_)) | (refine hub_j (by dsimp only [rK]; first | omega | (simp only [mst_2]; omega) | fail) (J_len h' ?_)) | (refine J_224 h4 hc ⟨hf.1, hf.2, h6.2⟩ ?_) | (exact hq) | omega | fail
theorem J_231 {b : Int} (h1 : 102 ≤ m.2.1 a ∧ m.2.1 a ≤ 103) (h2 : 102 ≤ m.2.1 b ∧ m.2.1 b ≤ 103) (hl : 0 ≤ m.2.2.1 a ∧ m.2.2.1 a ≤ 65536)
    (hq1 : m.2.2.1 a = m.2.2.1 b → (∀ i, 0 ≤ i → i < m.2.2.1 a → m.1 a i = m.1 b i) → Q (rI 1) m) (hq0 : ¬ (m.2.2.1 a = m.2.2.1 b ∧ ∀ i, 0 ≤ i → i < m.2.2.1 a → m.1 a i = m.1 b i) → Q (rI 0) m) : RJ d 231 (0, [some (mR a), some (mR b), none], [], m) Q := by
  by_cases hlen : m.2.2.1 a = m.2.2.1 b
  · have key : ∀ k, 0 ≤ k → k ≤ m.2.2.1 a → (∀ i, 0 ≤ i → i < k → m.1 a i = m.1 b i) → RJ d 231 (9, [some (mR a), some (mR b), some (mI k)], [], m) Q := by
      refine up_ind ?_ ?_
      · intro hx
        have fin := hq1 hlen hx
        refine RJr [] [2310009] 80 ?_
        repeat' first | (refine ⟨fun _ => ?_, fun _ => ?_⟩ <;> try omega) | (refine ⟨by first | omega | assumption | (refine ⟨by omega, by omega⟩) | fail, ?_⟩) | (exact fin) | omega | fail
      · intro k h0 hk ih hx
        have hy : m.1 a k ≠ m.1 b k → Q (rI 0) m := fun q => hq0 (fun hh => q (hh.2 k h0 hk))
        have hz : m.1 a k = m.1 b k → RJ d 231 (9, [some (mR a), some (mR b), some (mI (k + 1))], [], m) Q := fun q => ih (fun i i0 i1 => by
          by_cases e : i = k
          · rw [e]; exact q
          · exact hx i i0 (by omega))
        clear ih hq1 hq0
        have k1 : (102 ≤ m.2.1 a ∧ m.2.1 a ≤ 103) ∧ 0 ≤ k ∧ k < m.2.2.1 a := by omega
        have k2 : (102 ≤ m.2.1 b ∧ m.2.1 b ≤ 103) ∧ 0 ≤ k ∧ k < m.2.2.1 b := by omega
        refine RJr [] [2310009] 80 ?_
        repeat' first | (refine ⟨fun _ => ?_, fun _ => ?_⟩ <;> try omega) | (refine ⟨by first | omega | assumption | (refine ⟨by omega, by omega⟩) | fail, ?_⟩) | (exact hy (by assumption)) | (exact hz (by assumption)) | omega | fail
    have fin := key 0 (by omega) (by omega) (fun i i0 i1 => by omega)
    clear key hq1 hq0
    refine RJr [] [2310009] 80 ?_
    repeat' first | (refine ⟨fun _ => ?_, fun _ => ?_⟩ <;> try omega) | (refine ⟨by first | omega | assumption | (refine ⟨by omega, by omega⟩) | fail, ?_⟩) | (exact fin) | omega | fail
  · have fin := hq0 (fun hh => hlen hh.1)
    clear hq0 hq1
    refine RJr [] [2310009] 80 ?_
    repeat' first | (refine ⟨fun _ => ?_, fun _ => ?_⟩ <;> try omega) | (refine ⟨by first | omega | assumption | (refine ⟨by omega, by omega⟩) | fail, ?_⟩) | (exact fin) | omega | fail
theorem J_223 {b e1 n1 e2 n2 : Int} (h : txA m a e1 n1) (h' : txA m b e2 n2) (ha : m.2.1 a = 27 ∧ 1000 ≤ a) (hb : m.2.1 b = 27 ∧ 1000 ≤ b)
    (hq1 : n1 = n2 → (∀ i, 0 ≤ i → i < n1 → m.1 e1 i = m.1 e2 i) → Q (rI 1) m) (hq0 : ¬ (n1 = n2 ∧ ∀ i, 0 ≤ i → i < n1 → m.1 e1 i = m.1 e2 i) → Q (rI 0) m) : RJ (d + 1) 223 (0, [some (mR a), some (mR b), none], [], m) Q := by
  obtain ⟨h1, h2, h3, h4, h5, h6⟩ := h
  obtain ⟨g1, g2, g3, g4, g5, g6⟩ := h'
  subst h3 h5 g3 g5
  have h2 : m.1 a ((1 : Nat) : Int) = 0 := h2
  have g2 : m.1 b ((1 : Nat) : Int) = 0 := g2
  have same : a = b → Q (rI 1) m := by
    intro e
    subst e
    exact hq1 rfl (fun _ _ _ => rfl)
  refine RJr [] [] 80 ?_
  repeat' first | (refine ⟨fun _ => ?_, fun _ => ?_⟩ <;> try omega) | (refine ⟨by first | omega | assumption | (refine ⟨by omega, by omega⟩) | fail, ?_⟩) | (refine J_231 h4 g4 h6 (fun q1 q2 => ?_) (fun q => ?_)) | (exact same (by omega)) | (exact hq1 q1 q2) | (exact hq0 q) | omega | fail
/-- a new byte array: a part of one -/
def ncp (m m' : mM) (e f n : Int) : Prop := m'.2.2.2.1 = m.2.2.2.1 + 1 ∧ m'.2.2.2.2 = m.2.2.2.2 + n ∧ (∀ b, b ≠ m.2.2.2.1 → m'.1 b = m.1 b ∧ m'.2.1 b = m.2.1 b ∧ m'.2.2.1 b = m.2.2.1 b) ∧ m'.2.1 m.2.2.2.1 = 103 ∧ m'.2.2.1 m.2.2.2.1 = n ∧ ∀ i, 0 ≤ i → i < n → m'.1 m.2.2.2.1 i = m.1 e (f + i)
theorem J_263 {f t : Int} (h : f ≤ t) (hq : Q rV m) : RJ d 263 (0, [some (mI f), some (mI t)], [], m) Q := by
  refine RJr [] [] 80 ?_
  repeat' first | (refine ⟨fun _ => ?_, fun _ => ?_⟩ <;> try omega) | (refine ⟨by first | omega | assumption | (refine ⟨by omega, by omega⟩) | fail, ?_⟩) | (exact hq) | omega | fail
theorem J_262 {f t : Int} (h1 : 102 ≤ m.2.1 a ∧ m.2.1 a ≤ 103) (hf : 0 ≤ f ∧ f ≤ t ∧ t ≤ m.2.2.1 a ∧ m.2.2.1 a ≤ 65536) (hr : m.2.2.2.1 + 1 ≤ CXm ∧ m.2.2.2.2 + (t - f) ≤ SXm) (ha : a ≠ m.2.2.2.1) (hq : ∀ m', ncp m m' a f (t - f) → Q (rR m.2.2.2.1) m') : RJ (d + 1) 262 (0, [some (mR a), some (mI f), some (mI t), none, none], [], m) Q := by
  obtain ⟨o1, o2, o3⟩ := mnew_o (m := m) (k := 103) (len := t - f) (n := t - f) (b := a) ha
  obtain ⟨s1, s2, s3⟩ := mnew_s (m := m) (k := 103) (len := t - f) (n := t - f)
  have em : min ((mnew m 103 (t - f) (t - f)).2.2.1 a - f) (t - f) = t - f := by omega
  have fin : Q (rR m.2.2.2.1) (mcpy (mnew m 103 (t - f) (t - f)) a f m.2.2.2.1 0 (t - f)) := by
    refine hq _ ⟨rfl, rfl, fun b hb => ⟨?_, (mnew_o hb).2⟩, s2, s3, fun i i0 i1 => ?_⟩
    · funext j
      show (if b = m.2.2.2.1 ∧ 0 ≤ j ∧ j < 0 + (t - f) then _ else (mnew m 103 (t - f) (t - f)).1 b j) = _
      rw [if_neg (fun q => hb q.1), (mnew_o hb).1]
    · show (if m.2.2.2.1 = m.2.2.2.1 ∧ 0 ≤ i ∧ i < 0 + (t - f) then (mnew m 103 (t - f) (t - f)).1 a (f + (i - 0)) else _) = _
      rw [if_pos ⟨rfl, by omega, by omega⟩, o1, Int.sub_zero]
  have fin : Q (rR m.2.2.2.1) (mcpy (mnew m 103 (t - f) (t - f)) a f m.2.2.2.1 0 (min ((mnew m 103 (t - f) (t - f)).2.2.1 a - f) (t - f))) := by
    rw [em]
    exact fin
  have hr1 : (0 ≤ t - f ∧ t - f ≤ 65536) ∧ m.2.2.2.1 + 1 ≤ CXm ∧ m.2.2.2.2 + (t - f) ≤ SXm := ⟨by omega, hr⟩
  have hk1 : 102 ≤ (mnew m 103 (t - f) (t - f)).2.1 a ∧ (mnew m 103 (t - f) (t - f)).2.1 a ≤ 103 := by omega
  have hi : i32 ((mnew m 103 (t - f) (t - f)).2.2.1 a - f) := by unfold i32; omega
  have hc : (102 ≤ (mnew m 103 (t - f) (t - f)).2.1 a ∧ (mnew m 103 (t - f) (t - f)).2.1 a ≤ 103) ∧ (mnew m 103 (t - f) (t - f)).2.1 m.2.2.2.1 = 103 ∧ 0 ≤ min ((mnew m 103 (t - f) (t - f)).2.2.1 a - f) (t - f) ∧ (0 ≤ f ∧ f + min ((mnew m 103 (t - f) (t - f)).2.2.1 a - f) (t - f) ≤ (mnew m 103 (t - f) (t - f)).2.2.1 a) ∧ (0 ≤ (0 : Int) ∧ 0 + min ((mnew m 103 (t - f) (t - f)).2.2.1 a - f) (t - f) ≤ (mnew m 103 (t - f) (t - f)).2.2.1 m.2.2.2.1) := by
    refine ⟨hk1, s2, by omega, by omega, by omega⟩
  refine RJr [] [] 80 ?_
  repeat' first | (refine ⟨fun _ => ?_, fun _ => ?_⟩ <;> try omega) | (refine ⟨by first | omega | assumption | (refine ⟨by omega, by omega⟩) | fail, ?_⟩) | (refine J_263 (by omega) ?_) | (refine ⟨hr1, ?_⟩) | (refine ⟨hk1, ?_⟩) | (refine ⟨hi, ?_⟩) | (refine ⟨hc, ?_⟩) | (exact fin) | omega | fail
theorem J_261 {f t : Int} (h1 : 102 ≤ m.2.1 a ∧ m.2.1 a ≤ 103) (h1b : f = 0 → m.2.1 a = 103) (hf : 0 ≤ f ∧ f ≤ t ∧ t ≤ m.2.2.1 a ∧ m.2.2.1 a ≤ 65536) (hr : m.2.2.2.1 + 1 ≤ CXm ∧ m.2.2.2.2 + (t - f) ≤ SXm) (ha : a ≠ m.2.2.2.1) (hq : ∀ m', ncp m m' a f (t - f) → Q (rR m.2.2.2.1) m') : RJ (d + 2) 261 (0, [some (mR a), some (mI f), some (mI t)], [], m) Q := by
  by_cases hc : f = 0 ∧ t = m.2.2.1 a
  · have h3 := h1b hc.1
    have e1 : m.2.2.1 a = t - f := by omega
    have hcl : m.2.1 a = 103 ∧ m.2.2.2.1 + 1 ≤ CXm ∧ m.2.2.2.2 + m.2.2.1 a ≤ SXm := ⟨h3, hr.1, by omega⟩
    obtain ⟨s1, s2, s3⟩ := mnew_s (m := m) (k := 103) (len := m.2.2.1 a) (n := m.2.2.1 a)
    have fin : Q (rR m.2.2.2.1) (mclo m a) := by
      refine hq _ ⟨rfl, by show m.2.2.2.2 + m.2.2.1 a = _; omega, fun b hb => ⟨?_, (mnew_o hb).2⟩, s2, by rw [← e1]; exact s3, fun i i0 i1 => ?_⟩
      · funext j
        show (if b = m.2.2.2.1 then m.1 a j else m.1 b j) = _
        rw [if_neg hb]
      · show (if m.2.2.2.1 = m.2.2.2.1 then m.1 a i else _) = _
        rw [if_pos rfl, hc.1, Int.zero_add]
    have hk : m.2.2.2.1 = 0 ∨ (103 ≤ (mclo m a).2.1 m.2.2.2.1 ∧ (mclo m a).2.1 m.2.2.2.1 ≤ 103) ∨ (mclo m a).2.1 m.2.2.2.1 = 103 := Or.inr (Or.inr s2)
    refine RJr [] [] 80 ?_
    repeat' first | (refine ⟨fun _ => ?_, fun _ => ?_⟩ <;> try omega) | (refine ⟨by first | omega | assumption | (refine ⟨by omega, by omega⟩) | fail, ?_⟩) | (refine ⟨hcl, ?_⟩) | (refine ⟨hk, ?_⟩) | (exact fin) | omega | fail
  · refine RJr [] [] 80 ?_
    repeat' first | (refine ⟨fun _ => ?_, fun _ => ?_⟩ <;> try omega) | (refine ⟨by first | omega | assumption | (refine ⟨by omega, by omega⟩) | fail, ?_⟩) | (refine J_262 h1 hf hr ha (fun m' hm => ?_)) | (exact hq m' hm) | omega | fail
theorem J_217 {e : Int} (h1 : m.2.1 a = 27) (hq : Q rV (mst (mst m a ((0 : Nat) : Int) e) a ((1 : Nat) : Int) 0)) : RJ d 217 (0, [some (mR a), some (mR e), some (mI 0)], [], m) Q := by
  have k1 : (27 ≤ (mst m a ((0 : Nat) : Int) e).2.1 a ∧ (mst m a ((0 : Nat) : Int) e).2.1 a ≤ 27) ∧ -128 ≤ (0 : Int) ∧ (0 : Int) ≤ 127 := by rw [mst_2]; omega
  refine RJr [] [] 80 ?_
  repeat' first | (refine ⟨fun _ => ?_, fun _ => ?_⟩ <;> try omega) | (refine ⟨by first | omega | assumption | (refine ⟨by omega, by omega⟩) | fail, ?_⟩) | (refine ⟨k1, ?_⟩) | (exact hq) | omega | fail
/-- a new String -/
def nstr (m m' : mM) (n : Int) (f : Int → Int) : Prop := m'.2.2.2.1 = m.2.2.2.1 + 2 ∧ m'.2.2.2.2 = m.2.2.2.2 + (n + 4) ∧ (∀ b, b ≠ m.2.2.2.1 → b ≠ m.2.2.2.1 + 1 → m'.1 b = m.1 b ∧ m'.2.1 b = m.2.1 b ∧ m'.2.2.1 b = m.2.2.1 b) ∧
  m'.2.1 m.2.2.2.1 = 27 ∧ m'.1 m.2.2.2.1 0 = m.2.2.2.1 + 1 ∧ m'.1 m.2.2.2.1 1 = 0 ∧ m'.2.1 (m.2.2.2.1 + 1) = 103 ∧ m'.2.2.1 (m.2.2.2.1 + 1) = n ∧ ∀ i, 0 ≤ i → i < n → m'.1 (m.2.2.2.1 + 1) i = f i
theorem J_227 {off n : Int} (h1 : 102 ≤ m.2.1 a ∧ m.2.1 a ≤ 103) (hf : 1 ≤ off ∧ 1 ≤ n ∧ off + n ≤ m.2.2.1 a ∧ m.2.2.1 a ≤ 65536) (hr : m.2.2.2.1 + 2 ≤ CXm ∧ m.2.2.2.2 + (n + 4) ≤ SXm) (ha : a < m.2.2.2.1) (hq : ∀ m', nstr m m' n (fun i => m.1 a (off + i)) → Q (rR m.2.2.2.1) m') : RJ (d + 3) 227 (0, [some (mR a), some (mI off), some (mI n)], [], m) Q := by
  obtain ⟨o1, o2, o3⟩ := mnew_o (m := m) (k := 27) (len := 0) (n := ((4 : Nat) : Int)) (b := a) (by omega)
  obtain ⟨s1, s2, s3⟩ := mnew_s (m := m) (k := 27) (len := 0) (n := ((4 : Nat) : Int))
  have e1 : (mnew m 27 0 ((4 : Nat) : Int)).2.2.2.1 = m.2.2.2.1 + 1 := rfl
  have e2 : (mnew m 27 0 ((4 : Nat) : Int)).2.2.2.2 = m.2.2.2.2 + 4 := rfl
  have hr1 : m.2.2.2.1 + 1 ≤ CXm ∧ m.2.2.2.2 + ((4 : Nat) : Int) ≤ SXm := by omega
  have hen : ∀ m', ncp (mnew m 27 0 ((4 : Nat) : Int)) m' a off (off + n - off) → m'.2.1 m.2.2.2.1 = 27 ∧ Q (rR m.2.2.2.1) (mst (mst m' m.2.2.2.1 ((0 : Nat) : Int) (m.2.2.2.1 + 1)) m.2.2.2.1 ((1 : Nat) : Int) 0) := by
    intro m' ⟨p1, p2, p3, p4, p5, p6⟩
    rw [e1] at p1 p3 p4 p5 p6
    rw [e2] at p2
    have pk := p3 m.2.2.2.1 (by omega)
    refine ⟨by rw [pk.2.1]; exact s2, hq _ ⟨by rw [mst_2, mst_2, p1]; omega, by rw [mst_2, mst_2, p2]; omega, fun b b1 b2 => ?_, by rw [mst_2, mst_2, pk.2.1]; exact s2, ?_, mst_s, p4, by rw [mst_2, mst_2, p5]; omega, fun i i0 i1 => ?_⟩⟩
    · rw [mst_o b1, mst_o b1, mst_2, mst_2]
      have q1 := p3 b b2
      have q2 := mnew_o (m := m) (k := 27) (len := 0) (n := ((4 : Nat) : Int)) (b := b) b1
      exact ⟨q1.1.trans q2.1, q1.2.1.trans q2.2.1, q1.2.2.trans q2.2.2⟩
    · rw [mst_i (by decide)]; exact mst_s
    · rw [mst_o (by omega), mst_o (by omega), p6 i i0 (by omega), o1]
  have hca : (102 ≤ (mnew m 27 0 ((4 : Nat) : Int)).2.1 a ∧ (mnew m 27 0 ((4 : Nat) : Int)).2.1 a ≤ 103) := by omega
  refine RJr [] [] 80 ?_
  repeat' first | (refine hub_j (Or.inl (by have := (hen m' hm).1; dsimp only [rK, m_recv]; omega)) (J_217 (hen m' hm).1 ?_)) | (refine ⟨fun _ => ?_, fun _ => ?_⟩ <;> try omega) | (refine ⟨by first | omega | assumption | (refine ⟨by omega, by omega⟩) | fail, ?_⟩) | (refine ⟨hr1, ?_⟩) | (refine J_261 hca (by omega) (by omega) (by omega) (by omega) (fun m' hm => ?_)) | (exact (hen m' hm).2) | omega | fail
theorem J_255 {x y n b : Int} (h : 0 ≤ x ∧ x ≤ y ∧ y ≤ n) (hq : Q (rI x) m) : RJ d 255 (0, [some (mI x), some (mI y), some (mI n), some (mR b)], [], m) Q := by
  refine RJr [] [] 80 ?_
  repeat' first | (refine ⟨fun _ => ?_, fun _ => ?_⟩ <;> try omega) | (refine ⟨by first | omega | assumption | (refine ⟨by omega, by omega⟩) | fail, ?_⟩) | (exact hq) | omega | fail
theorem J_215 {x y n : Int} (h : 0 ≤ x ∧ x ≤ y ∧ y ≤ n) (hq : Q rV m) : RJ (d + 1) 215 (0, [some (mI x), some (mI y), some (mI n)], [], m) Q := by
  refine RJr [] [] 80 ?_
  repeat' first | (refine ⟨fun _ => ?_, fun _ => ?_⟩ <;> try omega) | (refine ⟨by first | omega | assumption | (refine ⟨by omega, by omega⟩) | fail, ?_⟩) | (refine J_255 h ?_) | (exact hq) | omega | fail
theorem J_216 {e n x y : Int} (h : txA m a e n) (hx : 1 ≤ x ∧ x < y ∧ y ≤ n) (he : e < m.2.2.2.1) (hr : m.2.2.2.1 + 2 ≤ CXm ∧ m.2.2.2.2 + (y - x + 4) ≤ SXm) (hq : ∀ m', nstr m m' (y - x) (fun i => m.1 e (x + i)) → Q (rR m.2.2.2.1) m') : RJ (d + 4) 216 (0, [some (mR a), some (mI x), some (mI y), none, none], [], m) Q := by
  have h' := h
  obtain ⟨h1, h2, h3, h4, h5, h6⟩ := h
  subst h3 h5
  have hof : 1 ≤ x ∧ 1 ≤ y - x ∧ x + (y - x) ≤ m.2.2.1 (m.1 a 0) ∧ m.2.2.1 (m.1 a 0) ≤ 65536 := by omega
  refine RJr [] [] 80 ?_
  repeat' first | (refine ⟨fun _ => ?_, fun _ => ?_⟩ <;> try omega) | (refine ⟨by first | omega | assumption | (refine ⟨by omega, by omega⟩) | fail, ?_⟩) | (refine hub_j (by dsimp only [rK]; first | omega | (simp only [mst_2]; omega) | fail) (J_len h' ?_)) | (refine hub_j (by dsimp only [rK]; first | omega | (simp only [mst_2]; omega) | fail) (J_isL h1 h2 ?_)) | (refine J_215 (by omega) ?_) | (refine J_227 h4 hof hr he (fun m' hm => ?_)) | (exact hq m' hm) | omega | fail
end
