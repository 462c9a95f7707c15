/-! THE JDK's METHODS on the raw memory: the builder -/
set_option maxHeartbeats 1600000
set_option maxRecDepth 100000
section
variable {d : Nat} {m : mM} {a : Int} {Q : mQ mM}
theorem J_299 (h1 : m.2.1 a = 25) (hr : m.2.2.2.1 + 1 ≤ CXm ∧ m.2.2.2.2 + 8 ≤ SXm) (ha : a ≠ m.2.2.2.1) (hq : Q rV (mst (mst (mnew m 103 8 8) a ((0 : Nat) : Int) m.2.2.2.1) a ((1 : Nat) : Int) 0)) : RJ d 299 (0, [some (mR a), some (mI 8)], [], m) Q := by
  have hk := (mnew_o (m := m) (k := 103) (len := 8) (n := 8) (b := a) ha).2.1
  have k1 : 25 ≤ (mnew m 103 8 8).2.1 a ∧ (mnew m 103 8 8).2.1 a ≤ 25 := by omega
  have k2 : (25 ≤ (mst (mnew m 103 8 8) a ((0 : Nat) : Int) m.2.2.2.1).2.1 a ∧ (mst (mnew m 103 8 8) a ((0 : Nat) : Int) m.2.2.2.1).2.1 a ≤ 25) ∧ -128 ≤ (0 : Int) ∧ (0 : Int) ≤ 127 := by rw [mst_2]; omega
  have hr1 : ((0 : Int) ≤ 8 ∧ (8 : Int) ≤ 65536) ∧ m.2.2.2.1 + 1 ≤ CXm ∧ m.2.2.2.2 + 8 ≤ SXm := ⟨by omega, hr⟩
  refine RJr [] [] 80 ?_
  repeat' first | (refine ⟨fun _ => ?_, fun _ => ?_⟩ <;> try omega) | (refine ⟨by first | omega | assumption | (refine ⟨by omega, by omega⟩) | fail, ?_⟩) | (refine ⟨hr1, ?_⟩) | (refine ⟨k1, ?_⟩) | (refine ⟨k2, ?_⟩) | (exact hq) | omega | fail
theorem J_307 (h1 : m.2.1 a = 25) (hr : m.2.2.2.1 + 1 ≤ CXm ∧ m.2.2.2.2 + 8 ≤ SXm) (ha : a ≠ m.2.2.2.1) (hq : Q rV (mst (mst (mnew m 103 8 8) a ((0 : Nat) : Int) m.2.2.2.1) a ((1 : Nat) : Int) 0)) : RJ (d + 1) 307 (0, [some (mR a), some (mI 8)], [], m) Q := by
  refine RJr [] [] 80 ?_
  repeat' first | (refine ⟨fun _ => ?_, fun _ => ?_⟩ <;> try omega) | (refine ⟨by first | omega | assumption | (refine ⟨by omega, by omega⟩) | fail, ?_⟩) | (refine hub_j (by dsimp only [rK]; first | omega | (simp only [mst_2]; omega) | fail) (J_299 h1 hr ha ?_)) | (exact hq) | omega | fail
theorem J_303 (h1 : m.2.1 a = 25) (h2 : m.1 a ((1 : Nat) : Int) = 0) (hq : Q (rI 1) m) : RJ d 303 (0, [some (mR a)], [], m) Q := by
  refine RJr [] [] 40 ?_
  repeat' first | (refine ⟨fun _ => ?_, fun _ => ?_⟩ <;> try omega) | (refine ⟨by first | omega | assumption | (refine ⟨by omega, by omega⟩) | fail, ?_⟩) | (exact hq) | omega | fail
theorem J_229 {c : Int} (hc : 0 ≤ c ∧ c ≤ 255) (hq : Q (rI 1) m) : RJ d 229 (0, [some (mI c)], [], m) Q := by
  refine RJr [] [] 80 ?_
  repeat' first | (refine ⟨fun _ => ?_, fun _ => ?_⟩ <;> try omega) | (refine ⟨by first | omega | assumption | (refine ⟨by omega, by omega⟩) | fail, ?_⟩) | (exact hq) | omega | fail
theorem J_301 {c e : Int} (h1 : m.2.1 a = 25) (h2 : m.1 a ((1 : Nat) : Int) = 0) (he : m.1 a ((0 : Nat) : Int) = e) (hk : m.2.1 e = 103) (hl : m.2.2.1 e = 8) (hc : 0 ≤ c ∧ c ≤ 8) (hq : Q rV m) : RJ d 301 (0, [some (mR a), some (mI c), none], [], m) Q := by
  subst he
  have k1 : 102 ≤ m.2.1 (m.1 a ((0 : Nat) : Int)) ∧ m.2.1 (m.1 a ((0 : Nat) : Int)) ≤ 103 := by omega
  have ez : zshr (m.2.2.1 (m.1 a ((0 : Nat) : Int))) (m.1 a ((1 : Nat) : Int)) = 8 := by rw [h2, hl]; exact zshr0 (by decide)
  refine RJr [] [] 80 ?_
  repeat' first | (refine ⟨fun _ => ?_, fun _ => ?_⟩ <;> try omega) | (refine ⟨by first | omega | assumption | (refine ⟨by omega, by omega⟩) | fail, ?_⟩) | (exact hq) | omega | fail
theorem J_300 {c e n : Int} (h1 : m.2.1 a = 25) (h2 : m.1 a ((1 : Nat) : Int) = 0) (he : m.1 a ((0 : Nat) : Int) = e) (hk : m.2.1 e = 103) (hl : m.2.2.1 e = 8) (hs : m.1 a ((3 : Nat) : Int) = n) (hn : 0 ≤ n ∧ n < 8) (hc : 0 ≤ c ∧ c ≤ 255) (hq : Q (rR a) (mst (mst m a ((3 : Nat) : Int) (n + 1)) e n (zi2b (zi2b c)))) : RJ (d + 1) 300 (0, [some (mR a), some (mI c)], [], m) Q := by
  have he' := he
  subst he hs
  have k1 : (mst m a ((3 : Nat) : Int) (m.1 a ((3 : Nat) : Int) + 1)).2.1 (m.1 a ((0 : Nat) : Int)) = 103 ∧ 0 ≤ m.1 a ((3 : Nat) : Int) ∧ m.1 a ((3 : Nat) : Int) < (mst m a ((3 : Nat) : Int) (m.1 a ((3 : Nat) : Int) + 1)).2.2.1 (m.1 a ((0 : Nat) : Int)) := by rw [mst_2]; omega
  refine RJr [] [] 80 ?_
  repeat' first | (refine ⟨fun _ => ?_, fun _ => ?_⟩ <;> try omega) | (refine ⟨by first | omega | assumption | (refine ⟨by omega, by omega⟩) | fail, ?_⟩) | (refine hub_j (by dsimp only [rK]; first | omega | (simp only [mst_2]; omega) | fail) (J_301 h1 h2 rfl hk hl (by omega) ?_)) | (refine hub_j (by dsimp only [rK]; first | omega | (simp only [mst_2]; omega) | fail) (J_303 h1 h2 ?_)) | (refine J_229 hc ?_) | (refine ⟨k1, ?_⟩) | (exact hq) | omega | fail
theorem J_308 {c e n : Int} (h1 : m.2.1 a = 25) (h2 : m.1 a ((1 : Nat) : Int) = 0) (he : m.1 a ((0 : Nat) : Int) = e) (hk : m.2.1 e = 103) (hl : m.2.2.1 e = 8) (hs : m.1 a ((3 : Nat) : Int) = n) (hn : 0 ≤ n ∧ n < 8) (hc : 0 ≤ c ∧ c ≤ 255) (hq : Q (rR a) (mst (mst m a ((3 : Nat) : Int) (n + 1)) e n (zi2b (zi2b c)))) : RJ (d + 2) 308 (0, [some (mR a), some (mI c)], [], m) Q := by
  refine RJr [] [] 80 ?_
  repeat' first | (refine ⟨fun _ => ?_, fun _ => ?_⟩ <;> try omega) | (refine ⟨by first | omega | assumption | (refine ⟨by omega, by omega⟩) | fail, ?_⟩) | (refine hub_j (by dsimp only [rK]; first | omega | (simp only [mst_2]; omega) | fail) (J_300 h1 h2 he hk hl hs hn hc ?_)) | (exact hq) | omega | fail
theorem J_305 (h1 : m.2.1 a = 25) (hq : Q (rR (m.1 a ((0 : Nat) : Int))) m) : RJ d 305 (0, [some (mR a)], [], m) Q := by
  refine RJr [] [] 80 ?_
  repeat' first | (refine ⟨fun _ => ?_, fun _ => ?_⟩ <;> try omega) | (refine ⟨by first | omega | assumption | (refine ⟨by omega, by omega⟩) | fail, ?_⟩) | (exact hq) | omega | fail
theorem J_306 (h1 : m.2.1 a = 25) (hq : Q (rI (m.1 a ((3 : Nat) : Int))) m) : RJ d 306 (0, [some (mR a)], [], m) Q := by
  refine RJr [] [] 80 ?_
  repeat' first | (refine ⟨fun _ => ?_, fun _ => ?_⟩ <;> try omega) | (refine ⟨by first | omega | assumption | (refine ⟨by omega, by omega⟩) | fail, ?_⟩) | (exact hq) | omega | fail
theorem J_310 (h1 : m.2.1 a = 25) (hq : Q (rI (m.1 a ((3 : Nat) : Int))) m) : RJ (d + 1) 310 (0, [some (mR a)], [], m) Q := by
  refine RJr [] [] 80 ?_
  repeat' first | (refine ⟨fun _ => ?_, fun _ => ?_⟩ <;> try omega) | (refine ⟨by first | omega | assumption | (refine ⟨by omega, by omega⟩) | fail, ?_⟩) | (refine hub_j (by dsimp only [rK]; first | omega | (simp only [mst_2]; omega) | fail) (J_306 h1 ?_)) | (exact hq) | omega | fail
theorem J_222 {s e n : Int} (hs : m.2.1 s = 27) (h1 : m.2.1 a = 25) (h2 : m.1 a ((1 : Nat) : Int) = 0) (he : m.1 a ((0 : Nat) : Int) = e) (hk : m.2.1 e = 103) (hl : m.2.2.1 e = 8) (hn : m.1 a ((3 : Nat) : Int) = n) (hb : 0 ≤ n ∧ n ≤ 8) (hr : m.2.2.2.1 + 1 ≤ CXm ∧ m.2.2.2.2 + n ≤ SXm) (hlt : s < m.2.2.2.1 ∧ e < m.2.2.2.1) (hse : s ≠ e)
    (hq : ∀ m', ncp (mst m s ((1 : Nat) : Int) 0) m' e 0 n → Q rV (mst m' s ((0 : Nat) : Int) m.2.2.2.1)) : RJ (d + 3) 222 (0, [some (mR s), some (mR a), some (mR 0), none, none], [], m) Q := by
  subst he hn
  have k1 : (27 ≤ m.2.1 s ∧ m.2.1 s ≤ 27) ∧ -128 ≤ (0 : Int) ∧ (0 : Int) ≤ 127 := by omega
  have fin : ∀ m', ncp (mst m s ((1 : Nat) : Int) 0) m' (m.1 a ((0 : Nat) : Int)) 0 (m.1 a ((3 : Nat) : Int) - 0) → (27 ≤ m'.2.1 s ∧ m'.2.1 s ≤ 27) ∧ Q rV (mst m' s ((0 : Nat) : Int) m.2.2.2.1) := by
    intro m' hm
    rw [Int.sub_zero] at hm
    refine ⟨?_, hq m' hm⟩
    have := (hm.2.2.1 s (show s ≠ m.2.2.2.1 by omega)).2.1
    rw [mst_2] at this
    omega
  have c1 : 102 ≤ (mst m s ((1 : Nat) : Int) 0).2.1 (m.1 a ((0 : Nat) : Int)) ∧ (mst m s ((1 : Nat) : Int) 0).2.1 (m.1 a ((0 : Nat) : Int)) ≤ 103 := by rw [mst_2]; omega
  have c2 : 0 ≤ (0 : Int) ∧ 0 ≤ m.1 a ((3 : Nat) : Int) ∧ m.1 a ((3 : Nat) : Int) ≤ (mst m s ((1 : Nat) : Int) 0).2.2.1 (m.1 a ((0 : Nat) : Int)) ∧ (mst m s ((1 : Nat) : Int) 0).2.2.1 (m.1 a ((0 : Nat) : Int)) ≤ 65536 := by rw [mst_2]; omega
  have c3 : (mst m s ((1 : Nat) : Int) 0).2.2.2.1 + 1 ≤ CXm ∧ (mst m s ((1 : Nat) : Int) 0).2.2.2.2 + (m.1 a ((3 : Nat) : Int) - 0) ≤ SXm := by rw [mst_2]; omega
  have c4 : m.1 a ((0 : Nat) : Int) ≠ (mst m s ((1 : Nat) : Int) 0).2.2.2.1 := by rw [mst_2]; omega
  have h0 : m.2.1 s ≠ 0 := by omega
  refine RJr [] [] 100 ?_
  repeat' first | (refine hub_j (by dsimp only [rK]; first | omega | (simp only [mst_2]; omega) | fail) (J_305 h1 ?_)) | (refine hub_j (by dsimp only [rK]; first | omega | (simp only [mst_2]; omega) | fail) (J_310 h1 ?_)) | (refine hub_j (by dsimp only [rK]; first | omega | (simp only [mst_2]; omega) | fail) (J_303 h1 h2 ?_)) | (refine ⟨fun _ => ?_, fun _ => ?_⟩ <;> try omega) | (refine ⟨by first | omega | assumption | (refine ⟨by omega, by omega⟩) | fail, ?_⟩) | (refine ⟨k1, ?_⟩) | (refine J_261 c1 (fun _ => hk) c2 c3 c4 (fun m' hm => ?_)) | (refine ⟨(fin m' hm).1, ?_⟩) | (exact (fin m' hm).2) | omega | fail
theorem J_221 {s e n : Int} (hs : m.2.1 s = 27) (h1 : m.2.1 a = 25) (h2 : m.1 a ((1 : Nat) : Int) = 0) (he : m.1 a ((0 : Nat) : Int) = e) (hk : m.2.1 e = 103) (hl : m.2.2.1 e = 8) (hn : m.1 a ((3 : Nat) : Int) = n) (hb : 0 ≤ n ∧ n ≤ 8) (hr : m.2.2.2.1 + 1 ≤ CXm ∧ m.2.2.2.2 + n ≤ SXm) (hlt : s < m.2.2.2.1 ∧ e < m.2.2.2.1) (hse : s ≠ e)
    (hq : ∀ m', ncp (mst m s ((1 : Nat) : Int) 0) m' e 0 n → Q rV (mst m' s ((0 : Nat) : Int) m.2.2.2.1)) : RJ (d + 4) 221 (0, [some (mR s), some (mR a)], [], m) Q := by
  refine RJr [] [] 100 ?_
  repeat' first | (refine hub_j (by dsimp only [rK]; first | omega | (simp only [mst_2]; omega) | fail) (J_222 hs h1 h2 he hk hl hn hb hr hlt hse (fun m' hm => ?_))) | (refine ⟨fun _ => ?_, fun _ => ?_⟩ <;> try omega) | (refine ⟨by first | omega | assumption | (refine ⟨by omega, by omega⟩) | fail, ?_⟩) | (exact hq m' hm) | omega | fail
theorem J_309 {e n : Int} (h1 : m.2.1 a = 25) (h2 : m.1 a ((1 : Nat) : Int) = 0) (he : m.1 a ((0 : Nat) : Int) = e) (hk : m.2.1 e = 103) (hl : m.2.2.1 e = 8) (hn : m.1 a ((3 : Nat) : Int) = n) (hb : 0 ≤ n ∧ n ≤ 8) (hr : m.2.2.2.1 + 2 ≤ CXm ∧ m.2.2.2.2 + (n + 4) ≤ SXm) (hlt : a < m.2.2.2.1 ∧ e < m.2.2.2.1)
    (hq : ∀ m', nstr m m' n (fun i => m.1 e i) → Q (rR m.2.2.2.1) m') : RJ (d + 5) 309 (0, [some (mR a)], [], m) Q := by
  obtain ⟨o1, o2, o3⟩ := mnew_o (m := m) (k := 27) (len := 0) (n := ((4 : Nat) : Int)) (b := a) (by omega)
  obtain ⟨q1, q2, q3⟩ := mnew_o (m := m) (k := 27) (len := 0) (n := ((4 : Nat) : Int)) (b := e) (by omega)
  obtain ⟨s1, s2, s3⟩ := mnew_s (m := m) (k := 27) (len := 0) (n := ((4 : Nat) : Int))
  have e1 : (mnew m 27 0 ((4 : Nat) : Int)).2.2.2.1 = m.2.2.2.1 + 1 := rfl
  have e2 : (mnew m 27 0 ((4 : Nat) : Int)).2.2.2.2 = m.2.2.2.2 + 4 := rfl
  have hr1 : m.2.2.2.1 + 1 ≤ CXm ∧ m.2.2.2.2 + ((4 : Nat) : Int) ≤ SXm := by omega
  have hen : ∀ m', ncp (mst (mnew m 27 0 ((4 : Nat) : Int)) m.2.2.2.1 ((1 : Nat) : Int) 0) m' e 0 n → Q (rR m.2.2.2.1) (mst m' m.2.2.2.1 ((0 : Nat) : Int) (mnew m 27 0 ((4 : Nat) : Int)).2.2.2.1) := by
    intro m' ⟨p1, p2, p3, p4, p5, p6⟩
    rw [mst_2, e1] at p1 p3 p4 p5 p6
    rw [mst_2, e2] at p2
    have pk := p3 m.2.2.2.1 (by omega)
    refine hq _ ⟨by rw [mst_2, p1]; omega, by rw [mst_2, p2]; omega, fun b b1 b2 => ?_, by rw [mst_2, pk.2.1]; exact s2, mst_s, ?_, p4, p5, fun i i0 i1 => ?_⟩
    · have r1 := p3 b b2
      rw [mst_o b1] at r1
      rw [mst_o b1, mst_2]
      have r2 := mnew_o (m := m) (k := 27) (len := 0) (n := ((4 : Nat) : Int)) (b := b) b1
      exact ⟨r1.1.trans r2.1, r1.2.1.trans r2.2.1, r1.2.2.trans r2.2.2⟩
    · rw [mst_i (by decide), pk.1]; exact mst_s
    · rw [mst_o (by omega), p6 i i0 i1, mst_o (by omega), q1, Int.zero_add]
  have hk27 : ((27 ≤ (mnew m 27 0 ((4 : Nat) : Int)).2.1 m.2.2.2.1 ∧ (mnew m 27 0 ((4 : Nat) : Int)).2.1 m.2.2.2.1 ≤ 27) ∨ (mnew m 27 0 ((4 : Nat) : Int)).2.1 m.2.2.2.1 = 27) := Or.inr s2
  rw [← o1] at h2 he hn
  rw [← o2] at h1
  rw [← q2] at hk
  rw [← q3] at hl
  refine RJr [] [] 100 ?_
  repeat' first | (refine hub_j hk27 (J_221 s2 h1 h2 he hk hl hn hb (by omega) (by omega) (by omega) (fun m' hm => ?_))) | (refine ⟨fun _ => ?_, fun _ => ?_⟩ <;> try omega) | (refine ⟨by first | omega | assumption | (refine ⟨by omega, by omega⟩) | fail, ?_⟩) | (refine ⟨hr1, ?_⟩) | (exact hen m' hm) | omega | fail
end
