/-! the Desk: trees of sums and conditions, by their postfix code -/
set_option maxHeartbeats 400000
/-- a sum's tree at a, of at most n levels, has the code c -/
def TS (m : mD) : Nat → Int → List Int → Prop
  | 0, _, _ => False
  | n + 1, a, c => (m.2.1 a = 8 ∧ (0 ≤ m.1 800 a 0 ∧ m.1 800 a 0 ≤ 9999) ∧ c = [m.1 800 a 0]) ∨ (m.2.1 a = 9 ∧ (0 ≤ m.1 900 a 0 ∧ m.1 900 a 0 < 13) ∧ c = [10000 + m.1 900 a 0]) ∨
    (m.2.1 a = 10 ∧ ∃ c1 c2 s, TS m n (m.1 1001 a 0) c1 ∧ TS m n (m.1 1002 a 0) c2 ∧ (m.1 1000 a 0 = 43 ∧ s = -1 ∨ m.1 1000 a 0 = 45 ∧ s = -2 ∨ m.1 1000 a 0 = 42 ∧ s = -3) ∧ c = c1 ++ (c2 ++ [s]))
/-- parts' codes joined -/
def jcode (op : Int) : List Int → List (List Int) → List Int
  | acc, [] => acc
  | acc, c :: r => jcode op (acc ++ (c ++ [op])) r
/-- a condition's tree -/
def TC (m : mD) : Nat → Int → List Int → Prop
  | 0, _, _ => False
  | n + 1, a, c => (m.2.1 a = 11 ∧ ∃ c1 c2 s, TS m n (m.1 1101 a 0) c1 ∧ TS m n (m.1 1102 a 0) c2 ∧ (m.1 1100 a 0 = 60 ∧ s = -4 ∨ m.1 1100 a 0 = 62 ∧ s = -5 ∨ m.1 1100 a 0 = 61 ∧ s = -6) ∧ c = c1 ++ (c2 ++ [s])) ∨
    (m.2.1 a = 12 ∧ m.2.1 (m.1 1201 a 0) = 11201 ∧ ∃ c0 cs, (m.1 21201 (m.1 1201 a 0) 0 = ((c0 :: cs).length : Int)) ∧ m.1 21201 (m.1 1201 a 0) 0 ≤ 1000 ∧ (∀ i : Nat, i < (c0 :: cs).length → TC m n (m.1 11201 (m.1 1201 a 0) i) ((c0 :: cs).getD i [])) ∧ (m.1 1200 a 0 = 1 ∧ c = jcode (-7) c0 cs ∨ m.1 1200 a 0 = 0 ∧ c = jcode (-8) c0 cs)) ∨
    (m.2.1 a = 13 ∧ ∃ c1, TC m n (m.1 1300 a 0) c1 ∧ c = c1 ++ [-9])
abbrev runS := @run
/-- a code's value: it pushes v, its comparisons gave l (last first) -/
def CV (nm : Int → Int) (c : List Int) (v : Int) (l : List Int) : Prop := ∀ st log rest, run nm (c ++ rest) st log = run nm rest (v :: st) (l ++ log)
theorem CV.run {nm : Int → Int} {c : List Int} {v : Int} {l : List Int} (h : CV nm c v l) : run nm c [] [] = some ([v], l) := by
  have := h [] [] []
  rw [List.append_nil, List.append_nil] at this
  exact this
theorem CV_num {nm : Int → Int} {k : Int} (h : 0 ≤ k ∧ k ≤ 9999) : CV nm [k] k [] := by
  intro st log rest
  show (match sgn nm k st log with | some (st', log') => runS nm rest st' log' | none => none) = _
  have e : sgn nm k st log = some (k :: st, log) := by
    unfold sgn
    rw [if_pos h.1, if_neg (by omega)]
  rw [e]
  rfl
theorem CV_nam {nm : Int → Int} {k : Int} (h : 0 ≤ k) : CV nm [10000 + k] (nm k) [] := by
  intro st log rest
  show (match sgn nm (10000 + k) st log with | some (st', log') => runS nm rest st' log' | none => none) = _
  have e : sgn nm (10000 + k) st log = some (nm k :: st, log) := by
    unfold sgn
    rw [if_pos (by omega), if_pos (by omega)]
    congr 3
    congr 1
    omega
  rw [e]
  rfl
theorem CV_bin {nm : Int → Int} {c1 c2 l1 l2 l : List Int} {s v1 v2 v : Int} (h1 : CV nm c1 v1 l1) (h2 : CV nm c2 v2 l2) (hs : ∀ st log, sgn nm s (v2 :: v1 :: st) log = some (v :: st, l ++ log)) : CV nm (c1 ++ (c2 ++ [s])) v (l ++ (l2 ++ l1)) := by
  intro st log rest
  rw [List.append_assoc, h1, List.append_assoc, h2]
  show (match sgn nm s (v2 :: v1 :: st) (l2 ++ (l1 ++ log)) with | some (st', log') => runS nm rest st' log' | none => none) = _
  rw [hs]
  show runS nm rest (v :: st) (l ++ (l2 ++ (l1 ++ log))) = _
  rw [List.append_assoc, List.append_assoc]
theorem CV_not {nm : Int → Int} {c l : List Int} {v : Int} (h : CV nm c v l) (hv : v = 0 ∨ v = 1) : CV nm (c ++ [-9]) (1 - v) l := by
  intro st log rest
  rw [List.append_assoc, h]
  show (match sgn nm (-9) (v :: st) (l ++ log) with | some (st', log') => runS nm rest st' log' | none => none) = _
  have e : sgn nm (-9) (v :: st) (l ++ log) = some ((1 - v) :: st, l ++ log) := by
    unfold sgn
    rw [if_neg (by omega), if_pos rfl]
    exact if_pos hv
  rw [e]
theorem run_app {nm : Int → Int} : ∀ (c1 c2 st log : List Int), run nm (c1 ++ c2) st log = (match run nm c1 st log with | some (st', log') => run nm c2 st' log' | none => none)
  | [], c2, st, log => rfl
  | s :: c1, c2, st, log => by
    show (match sgn nm s st log with | some (st', log') => runS nm (c1 ++ c2) st' log' | none => none) = (match (match sgn nm s st log with | some (st', log') => runS nm c1 st' log' | none => none) with | some (st', log') => runS nm c2 st' log' | none => none)
    cases sgn nm s st log with
    | none => rfl
    | some q => exact run_app c1 c2 q.1 q.2
section
variable {m : mD}
/-- a call of a sum's 'of', by its kind -/
def SumCall (d : Nat) (m : mD) (a : Int) (Q : mQ mD) : Prop := (8 ≤ m.2.1 a ∧ m.2.1 a ≤ 10) ∧ (m.2.1 a = 8 → RD d 280 (0, [some (mR a), some (mR 1021)], [], m) Q) ∧ (m.2.1 a = 9 → RD d 278 (0, [some (mR a), some (mR 1021)], [], m) Q) ∧ (m.2.1 a = 10 → RD d 282 (0, [some (mR a), some (mR 1021), none, none, none, none], [], m) Q)
theorem dS_call {d : Nat} {a v : Int} {X : Nat} {K : mQ mD} (S : ∀ Q : mQ mD, Q (rJ v) m → SumCall d m a Q) (hX : X = m.2.1 a) (hK : K (rJ v) m) :
    (8 ≤ X ∧ X ≤ 8 → RD d 280 (0, [some (mR a), some (mR 1021)], [], m) K) ∧ (¬ (8 ≤ X ∧ X ≤ 8) → (9 ≤ X ∧ X ≤ 9 → RD d 278 (0, [some (mR a), some (mR 1021)], [], m) K) ∧ (¬ (9 ≤ X ∧ X ≤ 9) → (10 ≤ X ∧ X ≤ 10 → RD d 282 (0, [some (mR a), some (mR 1021), none, none, none, none], [], m) K) ∧ (¬ (10 ≤ X ∧ X ≤ 10) → False))) := by
  obtain ⟨hk, h8, h9, h10⟩ := S K hK
  subst hX
  exact ⟨fun h => h8 (by omega), fun _ => ⟨fun h => h9 (by omega), fun _ => ⟨fun h => h10 (by omega), fun h => by omega⟩⟩⟩
theorem D_of (hnm : ∀ i, 0 ≤ i → i < 13 → -1000000000 ≤ m.1 10119 1021 i ∧ m.1 10119 1021 i ≤ 1000000000) : ∀ (n : Nat) (a : Int) (c : List Int), TS m n a c →
    (∀ s ∈ c, -9 ≤ s ∧ s < 10013) ∧ ∃ v, (-1000000000 ≤ v ∧ v ≤ 1000000000) ∧ CV (m.1 10119 1021) c v [] ∧ ∀ (d : Nat) (Q : mQ mD), Q (rJ v) m → SumCall (d + n + 2) m a Q := by
  intro n
  induction n with
  | zero => intro a c h; exact h.elim
  | succ n ih =>
    intro a c h
    rcases h with ⟨k8, hr, rfl⟩ | ⟨k9, hr, rfl⟩ | ⟨k10, c1, c2, s, t1, t2, hs, rfl⟩
    · refine ⟨fun s hs => by simp at hs; omega, m.1 800 a 0, by omega, CV_num hr, fun d Q hQ => ⟨by omega, fun _ => ?_, fun h => by omega, fun h => by omega⟩⟩
      refine RDr [] [] 20 ?_
      repeat' first | (refine ⟨fun _ => ?_, fun _ => ?_⟩ <;> try omega) | (refine ⟨by first | omega | rfl | assumption | (simp only [dst_1, dst_2, up3_ap, upd1_ap, Nat.reduceEqDiff, ↓reduceIte, eq_self] at * <;> omega) | fail, ?_⟩) | (exact hQ) | (simp only [dst_1, dst_2, up3_ap, upd1_ap, Nat.reduceEqDiff, ↓reduceIte, eq_self] at *) | omega | fail
    · have hb := hnm (m.1 900 a 0) hr.1 hr.2
      refine ⟨fun s hs => by simp at hs; omega, m.1 10119 1021 (m.1 900 a 0), hb, CV_nam hr.1, fun d Q hQ => ⟨by omega, fun h => by omega, fun _ => ?_, fun h => by omega⟩⟩
      refine RDr [] [] 20 ?_
      repeat' first | (refine ⟨fun _ => ?_, fun _ => ?_⟩ <;> try omega) | (refine ⟨by first | omega | rfl | assumption | (simp only [dst_1, dst_2, up3_ap, upd1_ap, Nat.reduceEqDiff, ↓reduceIte, eq_self] at * <;> omega) | fail, ?_⟩) | (exact hQ) | (simp only [dst_1, dst_2, up3_ap, upd1_ap, Nat.reduceEqDiff, ↓reduceIte, eq_self] at *) | omega | fail
    · obtain ⟨g1, v1, b1, cv1, e1⟩ := ih _ _ t1
      obtain ⟨g2, v2, b2, cv2, e2⟩ := ih _ _ t2
      have hmul := mul_b b1 b2
      have hgood : ∀ x ∈ c1 ++ (c2 ++ [s]), -9 ≤ x ∧ x < 10013 := by
        intro x hx
        rcases List.mem_append.mp hx with h | h
        · exact g1 x h
        · rcases List.mem_append.mp h with h | h
          · exact g2 x h
          · simp at h; omega
      have hev : ∀ v, (∀ st log, sgn (m.1 10119 1021) s (v2 :: v1 :: st) log = some (v :: st, log)) → CV (m.1 10119 1021) (c1 ++ (c2 ++ [s])) v [] := fun v h => CV_bin (l := []) cv1 cv2 h
      have hcall : ∀ (d : Nat) (Q : mQ mD) (v : Int), (∀ Q' : mQ mD, (m.1 1000 a 0 = 43 → Q' (rJ (bd (v1 + v2))) m) → (m.1 1000 a 0 = 45 → Q' (rJ (bd (v1 - v2))) m) → (m.1 1000 a 0 = 42 → Q' (rJ (bd (v1 * v2))) m) → Q' = Q → True) → (m.1 1000 a 0 = 43 → Q (rJ (bd (v1 + v2))) m) → (m.1 1000 a 0 = 45 → Q (rJ (bd (v1 - v2))) m) → (m.1 1000 a 0 = 42 → Q (rJ (bd (v1 * v2))) m) → RD (d + n + 3) 282 (0, [some (mR a), some (mR 1021), none, none, none, none], [], m) Q := by
        intro d Q v _ q1 q2 q3
        have hs3 : m.1 1000 a 0 = 43 ∨ m.1 1000 a 0 = 45 ∨ m.1 1000 a 0 = 42 := by omega
        refine RDr [] [] 100 ?_
        refine ⟨by omega, ?_⟩
        have s1 := e1 d
        have s2 := e2 d
        refine dS_call s1 rfl ?_
        refine ⟨by omega, ?_⟩
        refine dS_call s2 rfl ?_
        repeat' first | (refine ⟨fun _ => ?_, fun _ => ?_⟩ <;> try omega) | (refine ⟨by first | omega | rfl | assumption | (simp only [dst_1, dst_2, up3_ap, upd1_ap, Nat.reduceEqDiff, ↓reduceIte, eq_self] at * <;> omega) | fail, ?_⟩) | (refine D_held ?_) | (exact q1 (by omega)) | (exact q2 (by omega)) | (exact q3 (by omega)) | (simp only [dst_1, dst_2, up3_ap, upd1_ap, Nat.reduceEqDiff, ↓reduceIte, eq_self] at *) | omega | fail
      rcases hs with ⟨hs1, rfl⟩ | ⟨hs1, rfl⟩ | ⟨hs1, rfl⟩
      · refine ⟨hgood, bd (v1 + v2), bd_b _, hev _ (fun st log => rfl), fun d Q hQ => ⟨by omega, fun h => by omega, fun h => by omega, fun _ => ?_⟩⟩
        exact hcall d Q 0 (fun _ _ _ _ _ => True.intro) (fun _ => hQ) (fun h => by omega) (fun h => by omega)
      · refine ⟨hgood, bd (v1 - v2), bd_b _, hev _ (fun st log => rfl), fun d Q hQ => ⟨by omega, fun h => by omega, fun h => by omega, fun _ => ?_⟩⟩
        exact hcall d Q 0 (fun _ _ _ _ _ => True.intro) (fun h => by omega) (fun _ => hQ) (fun h => by omega)
      · refine ⟨hgood, bd (v1 * v2), bd_b _, hev _ (fun st log => rfl), fun d Q hQ => ⟨by omega, fun h => by omega, fun h => by omega, fun _ => ?_⟩⟩
        exact hcall d Q 0 (fun _ _ _ _ _ => True.intro) (fun h => by omega) (fun h => by omega) (fun _ => hQ)
end
