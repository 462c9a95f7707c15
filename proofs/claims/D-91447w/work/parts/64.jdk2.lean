/-! THE JDK's METHODS on the raw memory: lists -/
set_option maxHeartbeats 1600000
set_option maxRecDepth 100000
theorem zshr1 {x : Int} (h : 0 ≤ x ∧ x ≤ 65536) : zshr x 1 = x / 2 := by
  unfold zshr
  have e : (Int32.ofInt 1 &&& 31) = 1 := by decide
  rw [e, ← Int32.toInt_toBitVec, Int32.toBitVec_shiftRight]
  rw [show BitVec.smod (Int32.toBitVec 1) 32 = 1#32 by decide]
  show ((Int32.ofInt x).toBitVec.sshiftRight 1).toInt = _
  rw [BitVec.toInt_sshiftRight, Int.shiftRight_eq_div_pow, Int32.toInt_toBitVec, Int32.toInt_ofInt, Int.bmod_eq_of_le (by simp [Int32.size]; omega) (by simp [Int32.size]; omega)]
  rfl
section
variable {d : Nat} {m : mM} {a : Int} {Q : mQ mM}
theorem J_58 (h1 : m.2.1 a ≠ 0) (hq : Q rV m) : RJ d 58 (0, [some (mR a)], [], m) Q := by
  refine RJr [] [] 40 ?_
  repeat' first | (refine ⟨fun _ => ?_, fun _ => ?_⟩ <;> try omega) | (refine ⟨by first | omega | assumption | (refine ⟨by omega, by omega⟩) | fail, ?_⟩) | (exact hq) | omega | fail
theorem J_59 (h1 : m.2.1 a = 24) (hq : Q rV (mst m a ((0 : Nat) : Int) 0)) : RJ (d + 1) 59 (0, [some (mR a)], [], m) Q := by
  refine RJr [] [] 40 ?_
  repeat' first | (refine ⟨fun _ => ?_, fun _ => ?_⟩ <;> try omega) | (refine ⟨by first | omega | assumption | (refine ⟨by omega, by omega⟩) | fail, ?_⟩) | (refine hub_j (by dsimp only [rK]; first | omega | (simp only [mst_2]; omega) | fail) (J_58 (by omega) ?_)) | (exact hq) | omega | fail
theorem J_60 (h1 : m.2.1 a = 24) (hq : Q (rI (m.1 a ((2 : Nat) : Int))) m) : RJ d 60 (0, [some (mR a)], [], m) Q := by
  refine RJr [] [] 40 ?_
  repeat' first | (refine ⟨fun _ => ?_, fun _ => ?_⟩ <;> try omega) | (refine ⟨by first | omega | assumption | (refine ⟨by omega, by omega⟩) | fail, ?_⟩) | (exact hq) | omega | fail
theorem J_73 (h1 : m.2.1 a = 24) (hq1 : m.1 a ((2 : Nat) : Int) = 0 → Q (rI 1) m) (hq0 : m.1 a ((2 : Nat) : Int) ≠ 0 → Q (rI 0) m) : RJ d 73 (0, [some (mR a)], [], m) Q := by
  refine RJr [] [] 40 ?_
  repeat' first | (refine ⟨fun _ => ?_, fun _ => ?_⟩ <;> try omega) | (refine ⟨by first | omega | assumption | (refine ⟨by omega, by omega⟩) | fail, ?_⟩) | (exact hq1 (by omega)) | (exact hq0 (by omega)) | omega | fail
theorem J_67 {i : Int} (h1 : m.2.1 a = 24) (h2 : m.2.1 (m.1 a ((1 : Nat) : Int)) = 107) (h3 : 0 ≤ i ∧ i < m.2.2.1 (m.1 a ((1 : Nat) : Int))) (hq : Q (rR (m.1 (m.1 a ((1 : Nat) : Int)) i)) m) : RJ d 67 (0, [some (mR a), some (mI i)], [], m) Q := by
  refine RJr [] [] 40 ?_
  repeat' first | (refine ⟨fun _ => ?_, fun _ => ?_⟩ <;> try omega) | (refine ⟨by first | omega | assumption | (refine ⟨by omega, by omega⟩) | fail, ?_⟩) | (exact hq) | omega | fail
theorem J_289 {i n : Int} (hi : 0 ≤ i ∧ i < n) (hq : Q (rI i) m) : RJ (d + 1) 289 (0, [some (mI i), some (mI n)], [], m) Q := by
  refine RJr [] [] 40 ?_
  repeat' first | (refine ⟨fun _ => ?_, fun _ => ?_⟩ <;> try omega) | (refine ⟨by first | omega | assumption | (refine ⟨by omega, by omega⟩) | fail, ?_⟩) | (refine J_257 hi ?_) | (exact hq) | omega | fail
theorem J_66 {i : Int} (h1 : m.2.1 a = 24) (h2 : m.2.1 (m.1 a ((1 : Nat) : Int)) = 107) (h3 : 0 ≤ i ∧ i < m.2.2.1 (m.1 a ((1 : Nat) : Int))) (h4 : i < m.1 a ((2 : Nat) : Int)) (hq : Q (rR (m.1 (m.1 a ((1 : Nat) : Int)) i)) m) : RJ (d + 2) 66 (0, [some (mR a), some (mI i)], [], m) Q := by
  refine RJr [] [] 40 ?_
  repeat' first | (refine ⟨fun _ => ?_, fun _ => ?_⟩ <;> try omega) | (refine ⟨by first | omega | assumption | (refine ⟨by omega, by omega⟩) | fail, ?_⟩) | (refine J_289 ⟨h3.1, h4⟩ ?_) | (refine hub_j (by dsimp only [rK]; first | omega | (simp only [mst_2]; omega) | fail) (J_67 h1 h2 h3 ?_)) | (exact hq) | omega | fail
theorem J_61 {n : Int} (h1 : m.2.1 a = 24) (hn : 0 < n ∧ n ≤ 65536) (hr : m.2.2.2.1 + 1 ≤ CXm ∧ m.2.2.2.2 + n ≤ SXm) (ha : a ≠ m.2.2.2.1) (hq : Q rV (mst (mnew (mst m a ((0 : Nat) : Int) 0) 107 n n) a ((1 : Nat) : Int) m.2.2.2.1)) : RJ (d + 2) 61 (0, [some (mR a), some (mI n)], [], m) Q := by
  have hk : (mnew (mst m a ((0 : Nat) : Int) 0) 107 n n).2.1 a = 24 := by
    rw [(mnew_o (m := mst m a ((0 : Nat) : Int) 0) (b := a) ha).2.1]
    exact h1
  have hk2 : 24 ≤ (mnew (mst m a ((0 : Nat) : Int) 0) 107 n n).2.1 a ∧ (mnew (mst m a ((0 : Nat) : Int) 0) 107 n n).2.1 a ≤ 24 := by omega
  have hr1 : (0 ≤ n ∧ n ≤ 65536) ∧ (mst m a ((0 : Nat) : Int) 0).2.2.2.1 + 1 ≤ CXm ∧ (mst m a ((0 : Nat) : Int) 0).2.2.2.2 + n ≤ SXm := ⟨by omega, hr⟩
  refine RJr [] [] 40 ?_
  repeat' first | (refine ⟨fun _ => ?_, fun _ => ?_⟩ <;> try omega) | (refine ⟨by first | omega | assumption | (refine ⟨by omega, by omega⟩) | fail, ?_⟩) | (refine hub_j (by dsimp only [rK]; first | omega | (simp only [mst_2]; omega) | fail) (J_59 h1 ?_)) | (refine ⟨hr1, ?_⟩) | (refine ⟨hk2, ?_⟩) | (exact hq) | omega | fail
theorem J_63 {x e n : Int} (h1 : m.2.1 a = 24) (h2 : m.2.1 e = 107) (h3 : 0 ≤ n ∧ n < m.2.2.1 e ∧ n ≤ 10000) (hx : x = 0 ∨ (1 ≤ m.2.1 x ∧ m.2.1 x ≤ 50)) (hq : Q rV (mst (mst m e n x) a ((2 : Nat) : Int) (n + 1))) : RJ d 63 (0, [some (mR a), some (mR x), some (mR e), some (mI n)], [], m) Q := by
  have hk : 24 ≤ (mst m e n x).2.1 a ∧ (mst m e n x).2.1 a ≤ 24 := by rw [mst_2]; omega
  refine RJr [] [] 40 ?_
  repeat' first | (refine ⟨fun _ => ?_, fun _ => ?_⟩ <;> try omega) | (refine ⟨by first | omega | assumption | (refine ⟨by omega, by omega⟩) | fail, ?_⟩) | (refine ⟨⟨h2, ⟨h3.1, h3.2.1⟩, hx⟩, ?_⟩) | (refine ⟨hk, ?_⟩) | (exact hq) | omega | fail
theorem J_285 {n x y : Int} (h : 0 ≤ n ∧ n ≤ 65536) (hx : 0 ≤ x ∧ x ≤ 65536) (hy : 0 ≤ y ∧ y ≤ 65536) (h1 : 0 < n + max x y) (hq : Q (rI (n + max x y)) m) : RJ (d + 1) 285 (0, [some (mI n), some (mI x), some (mI y), none], [], m) Q := by
  refine RJr [] [] 40 ?_
  repeat' first | (refine ⟨fun _ => ?_, fun _ => ?_⟩ <;> try omega) | (refine ⟨by first | omega | assumption | (refine ⟨by omega, by omega⟩) | fail, ?_⟩) | (exact hq) | omega | fail
theorem J_265 {e n c : Int} (h1 : m.2.1 e = 107) (hl : m.2.2.1 e = n) (hn : 0 ≤ n ∧ n ≤ c ∧ c ≤ 65536) (hr : m.2.2.2.1 + 1 ≤ CXm ∧ m.2.2.2.2 + c ≤ SXm) (he : e ≠ m.2.2.2.1) (hq : Q (rR m.2.2.2.1) (mcpy (mnew m 107 c c) e 0 m.2.2.2.1 0 n)) : RJ (d + 1) 265 (0, [some (mR e), some (mI c), some (mR 60), none], [], m) Q := by
  obtain ⟨o1, o2, o3⟩ := mnew_o (m := m) (k := 107) (len := c) (n := c) (b := e) he
  obtain ⟨s1, s2, s3⟩ := mnew_s (m := m) (k := 107) (len := c) (n := c)
  have hr1 : (0 ≤ c ∧ c ≤ 65536) ∧ m.2.2.2.1 + 1 ≤ CXm ∧ m.2.2.2.2 + c ≤ SXm := ⟨by omega, hr⟩
  have hk1 : 107 ≤ (mnew m 107 c c).2.1 e ∧ (mnew m 107 c c).2.1 e ≤ 107 := by omega
  have em : min ((mnew m 107 c c).2.2.1 e) c = n := by omega
  have hc : (107 ≤ (mnew m 107 c c).2.1 e ∧ (mnew m 107 c c).2.1 e ≤ 107) ∧ (mnew m 107 c c).2.1 m.2.2.2.1 = 107 ∧ 0 ≤ min ((mnew m 107 c c).2.2.1 e) c ∧ (0 ≤ (0 : Int) ∧ 0 + min ((mnew m 107 c c).2.2.1 e) c ≤ (mnew m 107 c c).2.2.1 e) ∧ (0 ≤ (0 : Int) ∧ 0 + min ((mnew m 107 c c).2.2.1 e) c ≤ (mnew m 107 c c).2.2.1 m.2.2.2.1) := by
    refine ⟨hk1, s2, by omega, by omega, by omega⟩
  rw [← em] at hq
  refine RJr [] [] 60 ?_
  repeat' first | (refine ⟨fun _ => ?_, fun _ => ?_⟩ <;> try omega) | (refine ⟨by first | omega | assumption | (refine ⟨by omega, by omega⟩) | fail, ?_⟩) | (refine ⟨hr1, ?_⟩) | (refine ⟨hk1, ?_⟩) | (refine ⟨hc, ?_⟩) | (exact hq) | omega | fail
theorem J_264 {e n c : Int} (h1 : m.2.1 e = 107) (hl : m.2.2.1 e = n) (hn : 0 ≤ n ∧ n ≤ c ∧ c ≤ 65536) (hr : m.2.2.2.1 + 1 ≤ CXm ∧ m.2.2.2.2 + c ≤ SXm) (he : e ≠ m.2.2.2.1) (hq : Q (rR m.2.2.2.1) (mcpy (mnew m 107 c c) e 0 m.2.2.2.1 0 n)) : RJ (d + 2) 264 (0, [some (mR e), some (mI c)], [], m) Q := by
  refine RJr [] [] 60 ?_
  repeat' first | (refine ⟨fun _ => ?_, fun _ => ?_⟩ <;> try omega) | (refine ⟨by first | omega | assumption | (refine ⟨by omega, by omega⟩) | fail, ?_⟩) | (refine J_265 h1 hl hn hr he ?_) | (exact hq) | omega | fail
/-- a list's array after it has grown -/
def grown (m : mM) (a e n : Int) : mM := mst (mcpy (mnew m 107 (n + max 1 (n / 2)) (n + max 1 (n / 2))) e 0 m.2.2.2.1 0 n) a ((1 : Nat) : Int) m.2.2.2.1
theorem grown_k {e n b : Int} (h : b ≠ m.2.2.2.1) : (grown m a e n).2.1 b = m.2.1 b ∧ (grown m a e n).2.2.1 b = m.2.2.1 b := (mnew_o (m := m) (k := 107) (len := n + max 1 (n / 2)) (n := n + max 1 (n / 2)) h).2
theorem grown_s {e n : Int} : (grown m a e n).2.1 m.2.2.2.1 = 107 ∧ (grown m a e n).2.2.1 m.2.2.2.1 = n + max 1 (n / 2) := (mnew_s (m := m) (k := 107) (len := n + max 1 (n / 2)) (n := n + max 1 (n / 2))).2
theorem grown_1 {e n b j : Int} (h : b ≠ m.2.2.2.1) : (grown m a e n).1 b j = if b = a ∧ j = 1 then m.2.2.2.1 else m.1 b j := by
  show (if b = a ∧ j = ((1 : Nat) : Int) then m.2.2.2.1 else (if b = m.2.2.2.1 ∧ 0 ≤ j ∧ j < 0 + n then _ else (mnew m 107 (n + max 1 (n / 2)) (n + max 1 (n / 2))).1 b j)) = _
  rw [if_neg (c := b = m.2.2.2.1 ∧ 0 ≤ j ∧ j < 0 + n) (fun q => h q.1), (mnew_o h).1]
  rfl
theorem grown_2 {e n j : Int} (h : a ≠ m.2.2.2.1) (he : e ≠ m.2.2.2.1) (hj : 0 ≤ j ∧ j < n) : (grown m a e n).1 m.2.2.2.1 j = m.1 e j := by
  show (if m.2.2.2.1 = a ∧ j = ((1 : Nat) : Int) then m.2.2.2.1 else (if m.2.2.2.1 = m.2.2.2.1 ∧ 0 ≤ j ∧ j < 0 + n then (mnew m 107 (n + max 1 (n / 2)) (n + max 1 (n / 2))).1 e (0 + (j - 0)) else _)) = _
  rw [if_neg (fun q => h q.1.symm), if_pos ⟨rfl, by omega, by omega⟩, (mnew_o he).1, show 0 + (j - 0) = j by omega]
theorem J_65 {n : Int} (h1 : m.2.1 a = 24) (h2 : m.2.1 (m.1 a ((1 : Nat) : Int)) = 107) (hl : m.2.2.1 (m.1 a ((1 : Nat) : Int)) = n) (hn : 1 ≤ n ∧ n ≤ 10000) (hr : m.2.2.2.1 + 1 ≤ CXm ∧ m.2.2.2.2 + (n + max 1 (n / 2)) ≤ SXm) (ha : a ≠ m.2.2.2.1) (he : m.1 a ((1 : Nat) : Int) ≠ m.2.2.2.1)
    (hq : Q (rR m.2.2.2.1) (grown m a (m.1 a ((1 : Nat) : Int)) n)) : RJ (d + 3) 65 (0, [some (mR a), some (mI (n + 1)), none, none], [], m) Q := by
  have hq' : Q (rR m.2.2.2.1) (mst (mcpy (mnew m 107 (n + max 1 (n / 2)) (n + max 1 (n / 2))) (m.1 a ((1 : Nat) : Int)) 0 m.2.2.2.1 0 n) a ((1 : Nat) : Int) m.2.2.2.1) := hq
  have hk : 24 ≤ (mcpy (mnew m 107 (n + max 1 (n / 2)) (n + max 1 (n / 2))) (m.1 a ((1 : Nat) : Int)) 0 m.2.2.2.1 0 n).2.1 a ∧ (mcpy (mnew m 107 (n + max 1 (n / 2)) (n + max 1 (n / 2))) (m.1 a ((1 : Nat) : Int)) 0 m.2.2.2.1 0 n).2.1 a ≤ 24 := by
    show 24 ≤ (mnew m 107 (n + max 1 (n / 2)) (n + max 1 (n / 2))).2.1 a ∧ (mnew m 107 (n + max 1 (n / 2)) (n + max 1 (n / 2))).2.1 a ≤ 24
    rw [(mnew_o ha).2.1]
    omega
  have ez := zshr1 (x := n) (by omega)
  have e1 : n + max (n + 1 - n) (zshr n 1) = n + max 1 (n / 2) := by rw [ez, show n + 1 - n = 1 by omega]
  rw [← e1] at hq' hk hr
  rw [← hl] at hq' hk hr e1 ez hn ⊢
  refine RJr [] [] 60 ?_
  repeat' first | (refine ⟨fun _ => ?_, fun _ => ?_⟩ <;> try omega) | (refine ⟨by first | omega | assumption | (refine ⟨by omega, by omega⟩) | fail, ?_⟩) | (refine J_285 (by omega) (by omega) (by omega) (by omega) ?_) | (refine J_264 h2 rfl (by omega) hr he ?_) | (refine ⟨hk, ?_⟩) | (exact hq') | omega | fail
theorem J_64 {n : Int} (h1 : m.2.1 a = 24) (h2 : m.2.1 (m.1 a ((1 : Nat) : Int)) = 107) (hl : m.2.2.1 (m.1 a ((1 : Nat) : Int)) = n) (hs : m.1 a ((2 : Nat) : Int) = n) (hn : 1 ≤ n ∧ n ≤ 10000) (hr : m.2.2.2.1 + 1 ≤ CXm ∧ m.2.2.2.2 + (n + max 1 (n / 2)) ≤ SXm) (ha : a ≠ m.2.2.2.1) (he : m.1 a ((1 : Nat) : Int) ≠ m.2.2.2.1)
    (hq : Q (rR m.2.2.2.1) (grown m a (m.1 a ((1 : Nat) : Int)) n)) : RJ (d + 4) 64 (0, [some (mR a)], [], m) Q := by
  rw [← hs] at hn hr hl hq
  refine RJr [] [] 60 ?_
  repeat' first | (refine ⟨fun _ => ?_, fun _ => ?_⟩ <;> try omega) | (refine ⟨by first | omega | assumption | (refine ⟨by omega, by omega⟩) | fail, ?_⟩) | (refine hub_j (by dsimp only [rK]; first | omega | (simp only [mst_2]; omega) | fail) (J_65 h1 h2 hl hn hr ha he ?_)) | (exact hq) | omega | fail
theorem J_63g {x e n : Int} (h1 : m.2.1 a = 24) (h2 : m.2.1 e = 107) (hea : m.1 a ((1 : Nat) : Int) = e) (hl : m.2.2.1 e = n) (hs : m.1 a ((2 : Nat) : Int) = n) (hn : 1 ≤ n ∧ n ≤ 10000) (hr : m.2.2.2.1 + 1 ≤ CXm ∧ m.2.2.2.2 + (n + max 1 (n / 2)) ≤ SXm) (ha : a ≠ m.2.2.2.1) (he : e ≠ m.2.2.2.1) (hx : x = 0 ∨ (1 ≤ m.2.1 x ∧ m.2.1 x ≤ 50)) (hx2 : x ≠ m.2.2.2.1)
    (hq : Q rV (mst (mst (grown m a e n) m.2.2.2.1 n x) a ((2 : Nat) : Int) (n + 1))) : RJ (d + 5) 63 (0, [some (mR a), some (mR x), some (mR e), some (mI n)], [], m) Q := by
  have k1 := (grown_k (m := m) (a := a) (e := m.1 a ((1 : Nat) : Int)) (n := n) ha).1
  have k2 := (grown_k (m := m) (a := a) (e := m.1 a ((1 : Nat) : Int)) (n := n) hx2).1
  obtain ⟨s1, s2⟩ := grown_s (m := m) (a := a) (e := m.1 a ((1 : Nat) : Int)) (n := n)
  have c1 : (grown m a (m.1 a ((1 : Nat) : Int)) n).2.1 m.2.2.2.1 = 107 ∧ (0 ≤ n ∧ n < (grown m a (m.1 a ((1 : Nat) : Int)) n).2.2.1 m.2.2.2.1) ∧ (x = 0 ∨ (1 ≤ (grown m a (m.1 a ((1 : Nat) : Int)) n).2.1 x ∧ (grown m a (m.1 a ((1 : Nat) : Int)) n).2.1 x ≤ 50)) := by
    refine ⟨s1, by omega, ?_⟩
    rw [k2]
    exact hx
  have c2 : 24 ≤ (mst (grown m a (m.1 a ((1 : Nat) : Int)) n) m.2.2.2.1 n x).2.1 a ∧ (mst (grown m a (m.1 a ((1 : Nat) : Int)) n) m.2.2.2.1 n x).2.1 a ≤ 24 := by
    rw [mst_2, k1]
    omega
  rw [← hea] at hq h2 hl he ⊢
  refine RJr [] [] 60 ?_
  repeat' first | (refine ⟨fun _ => ?_, fun _ => ?_⟩ <;> try omega) | (refine ⟨by first | omega | assumption | (refine ⟨by omega, by omega⟩) | fail, ?_⟩) | (refine hub_j (by dsimp only [rK]; first | omega | (simp only [mst_2]; omega) | fail) (J_64 h1 h2 hl hs hn hr ha he ?_)) | (refine ⟨c1, ?_⟩) | (refine ⟨c2, ?_⟩) | (exact hq) | omega | fail
/-- add: there is room -/
theorem J_62 {x e n : Int} (h1 : m.2.1 a = 24) (h2 : m.2.1 e = 107) (hea : m.1 a ((1 : Nat) : Int) = e) (hs : m.1 a ((2 : Nat) : Int) = n) (hc : 0 ≤ m.1 a ((0 : Nat) : Int) ∧ m.1 a ((0 : Nat) : Int) ≤ 5000000) (hn : 0 ≤ n ∧ n < m.2.2.1 e ∧ n ≤ 10000) (hx : x = 0 ∨ (1 ≤ m.2.1 x ∧ m.2.1 x ≤ 50))
    (hq : Q (rI 1) (mst (mst (mst m a ((0 : Nat) : Int) (m.1 a ((0 : Nat) : Int) + 1)) e n x) a ((2 : Nat) : Int) (n + 1))) : RJ (d + 6) 62 (0, [some (mR a), some (mR x)], [], m) Q := by
  have f1 : (mst m a ((0 : Nat) : Int) (m.1 a ((0 : Nat) : Int) + 1)).1 a ((1 : Nat) : Int) = e := by rw [mst_i (by decide)]; exact hea
  have f2 : (mst m a ((0 : Nat) : Int) (m.1 a ((0 : Nat) : Int) + 1)).1 a ((2 : Nat) : Int) = n := by rw [mst_i (by decide)]; exact hs
  have kk : 24 ≤ (mst m a ((0 : Nat) : Int) (m.1 a ((0 : Nat) : Int) + 1)).2.1 a ∧ (mst m a ((0 : Nat) : Int) (m.1 a ((0 : Nat) : Int) + 1)).2.1 a ≤ 24 := by rw [mst_2]; omega
  rw [← f1] at hn h2 hq
  rw [← f2] at hn hq
  refine RJr [] [] 60 ?_
  repeat' first | (refine ⟨fun _ => ?_, fun _ => ?_⟩ <;> try omega) | (refine ⟨by first | omega | assumption | (refine ⟨by omega, by omega⟩) | fail, ?_⟩) | (refine ⟨kk, ?_⟩) | (refine hub_j (by dsimp only [rK]; first | omega | (simp only [mst_2]; omega) | fail) (J_63 h1 h2 hn hx ?_)) | (exact hq) | omega | fail
/-- add: the array grows -/
theorem J_62g {x e n : Int} (h1 : m.2.1 a = 24) (h2 : m.2.1 e = 107) (hea : m.1 a ((1 : Nat) : Int) = e) (hl : m.2.2.1 e = n) (hs : m.1 a ((2 : Nat) : Int) = n) (hc : 0 ≤ m.1 a ((0 : Nat) : Int) ∧ m.1 a ((0 : Nat) : Int) ≤ 5000000) (hn : 1 ≤ n ∧ n ≤ 10000) (hr : m.2.2.2.1 + 1 ≤ CXm ∧ m.2.2.2.2 + (n + max 1 (n / 2)) ≤ SXm) (ha : a ≠ m.2.2.2.1) (he : e ≠ m.2.2.2.1) (hx : x = 0 ∨ (1 ≤ m.2.1 x ∧ m.2.1 x ≤ 50)) (hx2 : x ≠ m.2.2.2.1)
    (hq : Q (rI 1) (mst (mst (grown (mst m a ((0 : Nat) : Int) (m.1 a ((0 : Nat) : Int) + 1)) a e n) m.2.2.2.1 n x) a ((2 : Nat) : Int) (n + 1))) : RJ (d + 6) 62 (0, [some (mR a), some (mR x)], [], m) Q := by
  have f1 : (mst m a ((0 : Nat) : Int) (m.1 a ((0 : Nat) : Int) + 1)).1 a ((1 : Nat) : Int) = e := by rw [mst_i (by decide)]; exact hea
  have f2 : (mst m a ((0 : Nat) : Int) (m.1 a ((0 : Nat) : Int) + 1)).1 a ((2 : Nat) : Int) = n := by rw [mst_i (by decide)]; exact hs
  have kk : 24 ≤ (mst m a ((0 : Nat) : Int) (m.1 a ((0 : Nat) : Int) + 1)).2.1 a ∧ (mst m a ((0 : Nat) : Int) (m.1 a ((0 : Nat) : Int) + 1)).2.1 a ≤ 24 := by rw [mst_2]; omega
  rw [← f2] at hn hq hl hr
  rw [← f1] at h2 hq hl he
  refine RJr [] [] 60 ?_
  repeat' first | (refine ⟨fun _ => ?_, fun _ => ?_⟩ <;> try omega) | (refine ⟨by first | omega | assumption | (refine ⟨by omega, by omega⟩) | fail, ?_⟩) | (refine ⟨kk, ?_⟩) | (refine hub_j (by dsimp only [rK]; first | omega | (simp only [mst_2]; omega) | fail) (J_63g (m := mst m a ((0 : Nat) : Int) (m.1 a ((0 : Nat) : Int) + 1)) h1 h2 rfl hl rfl hn hr ha he hx hx2 ?_)) | (exact hq) | omega | fail
end
