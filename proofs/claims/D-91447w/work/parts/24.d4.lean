/-! the Desk: conditions at work -/
set_option maxHeartbeats 400000
theorem jc7 {nm : Int → Int} (w : Nat → Int) (lw : Nat → List Int) : ∀ (cs : List (List Int)) (k : Nat) (acc : List Int) (va : Int) (la : List Int), CV nm acc va la → (va = 0 ∨ va = 1) → (∀ i : Nat, i < cs.length → CV nm (cs.getD i []) (w (k + i)) (lw (k + i)) ∧ (w (k + i) = 0 ∨ w (k + i) = 1)) →
    ∃ v l, CV nm (jcode (-7) acc cs) v l ∧ (v = 0 ∨ v = 1) ∧ (v = 1 ↔ va = 1 ∧ ∀ i : Nat, i < cs.length → w (k + i) = 1)
  | [], k, acc, va, la, h, hv, hc => ⟨va, la, h, hv, ⟨fun e => ⟨e, fun i hi => by simp at hi⟩, fun e => e.1⟩⟩
  | c :: cs, k, acc, va, la, h, hv, hc => by
    obtain ⟨h0, hb0⟩ := hc 0 (by simp)
    rw [Nat.add_zero] at h0 hb0
    have h0 : CV nm c (w k) (lw k) := h0
    have hnew : CV nm (acc ++ (c ++ [-7])) (va * w k) ([] ++ (lw k ++ la)) := by
      refine CV_bin h h0 (fun st log => ?_)
      unfold sgn
      rw [if_neg (by omega), if_neg (by omega)]
      show (if (-7 : Int) = -1 then _ else if (-7 : Int) = -2 then _ else if (-7 : Int) = -3 then _ else if (-7 : Int) = -4 then _ else if (-7 : Int) = -5 then _ else if (-7 : Int) = -6 then _ else if (-7 : Int) = -7 then (if (va = 0 ∨ va = 1) ∧ (w k = 0 ∨ w k = 1) then some (va * w k :: st, log) else none) else _) = _
      rw [if_neg (by omega), if_neg (by omega), if_neg (by omega), if_neg (by omega), if_neg (by omega), if_neg (by omega), if_pos rfl, if_pos ⟨hv, hb0⟩]
      rfl
    have hbn : va * w k = 0 ∨ va * w k = 1 := by rcases hv with rfl | rfl <;> rcases hb0 with e | e <;> rw [e] <;> decide
    obtain ⟨v, l, e1, e2, e3⟩ := jc7 w lw cs (k + 1) (acc ++ (c ++ [-7])) (va * w k) _ hnew hbn (fun i hi => by
      have := hc (i + 1) (by simp; exact hi)
      rw [show k + (i + 1) = k + 1 + i from by omega] at this
      exact this)
    refine ⟨v, l, e1, e2, ?_⟩
    rw [e3]
    constructor
    · rintro ⟨a1, a2⟩
      have a3 : va = 1 ∧ w k = 1 := by rcases hv with rfl | rfl <;> rcases hb0 with e | e <;> rw [e] at a1 ⊢ <;> simp at a1 ⊢
      refine ⟨a3.1, fun i hi => ?_⟩
      cases i with
      | zero => exact a3.2
      | succ i =>
        rw [show k + (i + 1) = k + 1 + i from by omega]
        exact a2 i (by simpa using hi)
    · rintro ⟨a1, a2⟩
      refine ⟨by rw [a1, show w k = 1 from a2 0 (by simp)]; rfl, fun i hi => ?_⟩
      have := a2 (i + 1) (by simp; exact hi)
      rw [show k + (i + 1) = k + 1 + i from by omega] at this
      exact this
theorem jc8 {nm : Int → Int} (w : Nat → Int) (lw : Nat → List Int) : ∀ (cs : List (List Int)) (k : Nat) (acc : List Int) (va : Int) (la : List Int), CV nm acc va la → (va = 0 ∨ va = 1) → (∀ i : Nat, i < cs.length → CV nm (cs.getD i []) (w (k + i)) (lw (k + i)) ∧ (w (k + i) = 0 ∨ w (k + i) = 1)) →
    ∃ v l, CV nm (jcode (-8) acc cs) v l ∧ (v = 0 ∨ v = 1) ∧ (v = 0 ↔ va = 0 ∧ ∀ i : Nat, i < cs.length → w (k + i) = 0)
  | [], k, acc, va, la, h, hv, hc => ⟨va, la, h, hv, ⟨fun e => ⟨e, fun i hi => by simp at hi⟩, fun e => e.1⟩⟩
  | c :: cs, k, acc, va, la, h, hv, hc => by
    obtain ⟨h0, hb0⟩ := hc 0 (by simp)
    rw [Nat.add_zero] at h0 hb0
    have h0 : CV nm c (w k) (lw k) := h0
    have hnew : CV nm (acc ++ (c ++ [-8])) (if 0 < va + w k then 1 else 0) ([] ++ (lw k ++ la)) := by
      refine CV_bin h h0 (fun st log => ?_)
      rfl
    have hbn : (if 0 < va + w k then (1 : Int) else 0) = 0 ∨ (if 0 < va + w k then (1 : Int) else 0) = 1 := by split <;> simp
    obtain ⟨v, l, e1, e2, e3⟩ := jc8 w lw cs (k + 1) (acc ++ (c ++ [-8])) _ _ hnew hbn (fun i hi => by
      have := hc (i + 1) (by simp; exact hi)
      rw [show k + (i + 1) = k + 1 + i from by omega] at this
      exact this)
    refine ⟨v, l, e1, e2, ?_⟩
    rw [e3]
    constructor
    · rintro ⟨a1, a2⟩
      have a3 : va = 0 ∧ w k = 0 := by
        split at a1
        · cases a1
        · omega
      refine ⟨a3.1, fun i hi => ?_⟩
      cases i with
      | zero => exact a3.2
      | succ i =>
        rw [show k + (i + 1) = k + 1 + i from by omega]
        exact a2 i (by simpa using hi)
    · rintro ⟨a1, a2⟩
      have a4 : w k = 0 := a2 0 (by simp)
      refine ⟨by rw [a1, a4]; rfl, fun i hi => ?_⟩
      have := a2 (i + 1) (by simp; exact hi)
      rw [show k + (i + 1) = k + 1 + i from by omega] at this
      exact this
theorem jcode_mem {op : Int} (hop : -9 ≤ op ∧ op < 10013) : ∀ (cs : List (List Int)) (acc : List Int), (∀ s ∈ acc, -9 ≤ s ∧ s < 10013) → (∀ i : Nat, i < cs.length → ∀ s ∈ cs.getD i [], -9 ≤ s ∧ s < 10013) → ∀ s ∈ jcode op acc cs, -9 ≤ s ∧ s < 10013
  | [], acc, h, _ => h
  | c :: cs, acc, h, hc => by
    refine jcode_mem hop cs (acc ++ (c ++ [op])) (fun s hs => ?_) (fun i hi => ?_)
    · rcases List.mem_append.mp hs with h1 | h1
      · exact h s h1
      · rcases List.mem_append.mp h1 with h2 | h2
        · exact hc 0 (by simp) s h2
        · simp at h2; omega
    · have := hc (i + 1) (by simp; exact hi)
      exact this
section
variable {m : mD}
/-- a call of a condition's 'holds', by its kind -/
def CondCall (d : Nat) (m : mD) (a : Int) (Q : mQ mD) : Prop := (11 ≤ m.2.1 a ∧ m.2.1 a ≤ 13) ∧ (m.2.1 a = 11 → RD d 284 (0, [some (mR a), some (mR 1021), none, none, none, none], [], m) Q) ∧ (m.2.1 a = 12 → RD d 275 (0, [some (mR a), some (mR 1021), none], [], m) Q) ∧ (m.2.1 a = 13 → RD d 288 (0, [some (mR a), some (mR 1021)], [], m) Q)
theorem dC_call {d : Nat} {a v : Int} {X : Nat} {K : mQ mD} (S : ∀ Q : mQ mD, Q (rI v) m → CondCall d m a Q) (hX : X = m.2.1 a) (hK : K (rI v) m) :
    (11 ≤ X ∧ X ≤ 11 → RD d 284 (0, [some (mR a), some (mR 1021), none, none, none, none], [], m) K) ∧ (¬ (11 ≤ X ∧ X ≤ 11) → (12 ≤ X ∧ X ≤ 12 → RD d 275 (0, [some (mR a), some (mR 1021), none], [], m) K) ∧ (¬ (12 ≤ X ∧ X ≤ 12) → (13 ≤ X ∧ X ≤ 13 → RD d 288 (0, [some (mR a), some (mR 1021)], [], m) K) ∧ (¬ (13 ≤ X ∧ X ≤ 13) → False))) := by
  obtain ⟨hk, h8, h9, h10⟩ := S K hK
  subst hX
  exact ⟨fun h => h8 (by omega), fun _ => ⟨fun h => h9 (by omega), fun _ => ⟨fun h => h10 (by omega), fun h => by omega⟩⟩⟩
theorem D_holds (hnm : ∀ i, 0 ≤ i → i < 13 → -1000000000 ≤ m.1 10119 1021 i ∧ m.1 10119 1021 i ≤ 1000000000) : ∀ (n : Nat) (a : Int) (c : List Int), TC m n a c →
    (∀ s ∈ c, -9 ≤ s ∧ s < 10013) ∧ ∃ v l, (v = 0 ∨ v = 1) ∧ CV (m.1 10119 1021) c v l ∧ ∀ (d : Nat) (Q : mQ mD), Q (rI v) m → CondCall (d + n + 4) m a Q := by
  intro n
  induction n with
  | zero => intro a c h; exact h.elim
  | succ n ih =>
    intro a c h
    rcases h with ⟨k11, c1, c2, s, t1, t2, hs, rfl⟩ | ⟨k12, kl, c0, cs, hlen, hlen1, ht, hop⟩ | ⟨k13, c1, t1, rfl⟩
    · obtain ⟨g1, v1, b1, cv1, e1⟩ := D_of hnm _ _ _ t1
      obtain ⟨g2, v2, b2, cv2, e2⟩ := D_of hnm _ _ _ t2
      have hgood : ∀ x ∈ c1 ++ (c2 ++ [s]), -9 ≤ x ∧ x < 10013 := by
        intro x hx
        rcases List.mem_append.mp hx with h | h
        · exact g1 x h
        · rcases List.mem_append.mp h with h | h
          · exact g2 x h
          · simp at h; omega
      have hcall : ∀ (d : Nat) (Q : mQ mD), (m.1 1100 a 0 = 60 → ∀ v, (v = if v1 < v2 then 1 else 0) → Q (rI v) m) → (m.1 1100 a 0 = 62 → ∀ v, (v = if v2 < v1 then 1 else 0) → Q (rI v) m) → (m.1 1100 a 0 = 61 → ∀ v, (v = if v1 = v2 then 1 else 0) → Q (rI v) m) → RD (d + n + 5) 284 (0, [some (mR a), some (mR 1021), none, none, none, none], [], m) Q := by
        intro d Q q1 q2 q3
        have hs3 : m.1 1100 a 0 = 60 ∨ m.1 1100 a 0 = 62 ∨ m.1 1100 a 0 = 61 := by omega
        have s1 := e1 (d + 2)
        have s2 := e2 (d + 2)
        rw [show d + 2 + n + 2 = d + n + 4 from by omega] at s1 s2
        refine RDr [] [] 100 ?_
        refine ⟨by omega, ?_⟩
        refine dS_call s1 rfl ?_
        refine ⟨by omega, ?_⟩
        refine dS_call s2 rfl ?_
        clear e1 e2 s1 s2 ih
        repeat' first | (refine ⟨fun _ => ?_, fun _ => ?_⟩ <;> try omega) | (refine ⟨by first | omega | rfl | assumption | (simp only [dst_1, dst_2, up3_ap, upd1_ap, Nat.reduceEqDiff, ↓reduceIte, eq_self] at * <;> omega) | fail, ?_⟩) | (exact q1 (by omega) _ (by first | (rw [if_pos (by omega)]) | (rw [if_neg (by omega)]) | fail)) | (exact q2 (by omega) _ (by first | (rw [if_pos (by omega)]) | (rw [if_neg (by omega)]) | fail)) | (exact q3 (by omega) _ (by first | (rw [if_pos (by omega)]) | (rw [if_neg (by omega)]) | fail)) | (simp only [dst_1, dst_2, up3_ap, upd1_ap, Nat.reduceEqDiff, ↓reduceIte, eq_self] at *) | omega | fail
      have fin : ∀ v, (v = 0 ∨ v = 1) → (∀ st log, sgn (m.1 10119 1021) s (v2 :: v1 :: st) log = some (v :: st, [v] ++ log)) → (∀ (d : Nat) (Q : mQ mD), Q (rI v) m → RD (d + n + 5) 284 (0, [some (mR a), some (mR 1021), none, none, none, none], [], m) Q) → (∀ s_1 ∈ c1 ++ (c2 ++ [s]), -9 ≤ s_1 ∧ s_1 < 10013) ∧ ∃ v l, (v = 0 ∨ v = 1) ∧ CV (m.1 10119 1021) (c1 ++ (c2 ++ [s])) v l ∧ ∀ (d : Nat) (Q : mQ mD), Q (rI v) m → CondCall (d + (n + 1) + 4) m a Q := by
        intro v hv he hc
        refine ⟨hgood, v, _, hv, CV_bin (l := [v]) cv1 cv2 he, fun d Q hQ => ⟨by omega, fun _ => ?_, fun h => by omega, fun h => by omega⟩⟩
        exact hc d Q hQ
      rcases hs with ⟨hs1, rfl⟩ | ⟨hs1, rfl⟩ | ⟨hs1, rfl⟩
      · refine fin (if v1 < v2 then 1 else 0) (by split <;> simp) (fun st log => rfl) (fun d Q hQ => ?_)
        exact hcall d Q (fun _ v hv => by rw [hv]; exact hQ) (fun h => by omega) (fun h => by omega)
      · refine fin (if v2 < v1 then 1 else 0) (by split <;> simp) (fun st log => rfl) (fun d Q hQ => ?_)
        exact hcall d Q (fun h => by omega) (fun _ v hv => by rw [hv]; exact hQ) (fun h => by omega)
      · refine fin (if v1 = v2 then 1 else 0) (by split <;> simp) (fun st log => rfl) (fun d Q hQ => ?_)
        exact hcall d Q (fun h => by omega) (fun h => by omega) (fun _ v hv => by rw [hv]; exact hQ)
    · -- some of which all hold, or one does
      have hsk : ∃ f : Nat → Int × List Int, ∀ i, i < (c0 :: cs).length → ((∀ s ∈ (c0 :: cs).getD i [], -9 ≤ s ∧ s < 10013) ∧ ((f i).1 = 0 ∨ (f i).1 = 1) ∧ CV (m.1 10119 1021) ((c0 :: cs).getD i []) (f i).1 (f i).2 ∧ ∀ (d : Nat) (Q : mQ mD), Q (rI (f i).1) m → CondCall (d + n + 4) m (m.1 11201 (m.1 1201 a 0) i) Q) := by
        refine (Classical.skolem (p := fun (i : Nat) (y : Int × List Int) => i < (c0 :: cs).length → ((∀ s ∈ (c0 :: cs).getD i [], -9 ≤ s ∧ s < 10013) ∧ (y.1 = 0 ∨ y.1 = 1) ∧ CV (m.1 10119 1021) ((c0 :: cs).getD i []) y.1 y.2 ∧ ∀ (d : Nat) (Q : mQ mD), Q (rI y.1) m → CondCall (d + n + 4) m (m.1 11201 (m.1 1201 a 0) i) Q))).mp (fun i => ?_)
        by_cases hi : i < (c0 :: cs).length
        · obtain ⟨g, v, l, e1, e2, e3⟩ := ih _ _ (ht i hi)
          exact ⟨(v, l), fun _ => ⟨g, e1, e2, e3⟩⟩
        · exact ⟨(0, []), fun h => absurd h hi⟩
      obtain ⟨f, hf⟩ := hsk
      have hlen2 : ((c0 :: cs).length : Int) = cs.length + 1 := by simp
      obtain ⟨f0g, f0b, f0c, -⟩ := hf 0 (by simp)
      have f0c : CV (m.1 10119 1021) c0 (f 0).1 (f 0).2 := f0c
      have f0g : ∀ s ∈ c0, -9 ≤ s ∧ s < 10013 := f0g
      have hrest : ∀ i : Nat, i < cs.length → CV (m.1 10119 1021) (cs.getD i []) ((fun j => (f j).1) (1 + i)) ((fun j => (f j).2) (1 + i)) ∧ ((fun j => (f j).1) (1 + i) = 0 ∨ (fun j => (f j).1) (1 + i) = 1) := by
        intro i hi
        obtain ⟨-, hb, hc, -⟩ := hf (i + 1) (by simp; exact hi)
        rw [Nat.add_comm 1 i]
        exact ⟨hc, hb⟩
      have hgoodc : ∀ op, (op = -7 ∨ op = -8) → ∀ s ∈ jcode op c0 cs, -9 ≤ s ∧ s < 10013 := by
        intro op hop
        refine jcode_mem (by omega) cs c0 f0g (fun i hi => ?_)
        exact (hf (i + 1) (by simp; exact hi)).1
      have hcall : ∀ (d : Nat) (Q : mQ mD), (m.1 1200 a 0 = 0 ∨ m.1 1200 a 0 = 1) → ((∀ i : Nat, i < (c0 :: cs).length → (f i).1 = m.1 1200 a 0) → Q (rI (m.1 1200 a 0)) m) → (¬ (∀ i : Nat, i < (c0 :: cs).length → (f i).1 = m.1 1200 a 0) → Q (rI (1 - m.1 1200 a 0)) m) → RD (d + n + 5) 275 (0, [some (mR a), some (mR 1021), none], [], m) Q := by
        intro d Q hall q1 q0
        refine RDr [] [2750002] 40 ?_
        refine up_ind (n := m.1 21201 (m.1 1201 a 0) 0) (P := fun k => (∀ i : Nat, (i : Int) < k → (f i).1 = m.1 1200 a 0) → RD (d + n + 5) 275 (2, [some (mR a), some (mR 1021), some (mI k)], [], m) Q) ?_ ?_ 0 (by omega) (by omega) (fun i hi => by omega)
        · intro hk
          have q1 := q1 (fun i hi => hk i (by omega))
          refine RDr [] [2750002] 40 ?_
          repeat' first | (refine ⟨fun _ => ?_, fun _ => ?_⟩ <;> try omega) | (refine ⟨by first | omega | rfl | assumption | (simp only [dst_1, dst_2, up3_ap, upd1_ap, Nat.reduceEqDiff, ↓reduceIte, eq_self] at * <;> omega) | fail, ?_⟩) | (exact q1) | (simp only [dst_1, dst_2, up3_ap, upd1_ap, Nat.reduceEqDiff, ↓reduceIte, eq_self] at *) | omega | fail
        · intro k h0 h1 ihk hk
          have hki : ((k.toNat : Nat) : Int) = k := by omega
          obtain ⟨-, hb, -, hc⟩ := hf k.toNat (by omega)
          have hc := hc d
          rw [hki] at hc
          have hck := (hc (fun _ _ => True) True.intro).1
          have f1 : (f k.toNat).1 = m.1 1200 a 0 → RD (d + n + 5) 275 (2, [some (mR a), some (mR 1021), some (mI (k + 1))], [], m) Q := by
            intro he
            refine ihk (fun i hi => ?_)
            by_cases e : (i : Int) = k
            · have : i = k.toNat := by omega
              rw [this]; exact he
            · exact hk i (by omega)
          have f0 : (f k.toNat).1 ≠ m.1 1200 a 0 → Q (rI (1 - m.1 1200 a 0)) m := fun he => q0 (fun hh => he (hh k.toNat (by omega)))
          clear ihk hk q1 q0
          refine RDr [] [2750002] 60 ?_
          refine ⟨by omega, by omega, fun h => by omega, fun _ => ?_⟩
          refine ⟨by omega, by omega, by omega, by omega, ?_⟩
          refine dC_call hc rfl ?_
          generalize (f k.toNat).1 = w at *
          rcases hall with hall | hall
          · rw [hall] at f0
            repeat' first | (refine ⟨fun _ => ?_, fun _ => ?_⟩ <;> try omega) | (refine ⟨by first | omega | rfl | assumption | (simp only [dst_1, dst_2, up3_ap, upd1_ap, Nat.reduceEqDiff, ↓reduceIte, eq_self] at * <;> omega) | fail, ?_⟩) | (exact f1 (by omega)) | (exact f0 (by omega)) | (simp only [dst_1, dst_2, up3_ap, upd1_ap, Nat.reduceEqDiff, ↓reduceIte, eq_self] at *) | omega | fail
          · rw [hall] at f0
            repeat' first | (refine ⟨fun _ => ?_, fun _ => ?_⟩ <;> try omega) | (refine ⟨by first | omega | rfl | assumption | (simp only [dst_1, dst_2, up3_ap, upd1_ap, Nat.reduceEqDiff, ↓reduceIte, eq_self] at * <;> omega) | fail, ?_⟩) | (exact f1 (by omega)) | (exact f0 (by omega)) | (simp only [dst_1, dst_2, up3_ap, upd1_ap, Nat.reduceEqDiff, ↓reduceIte, eq_self] at *) | omega | fail
      rcases hop with ⟨ha, rfl⟩ | ⟨ha, rfl⟩
      · obtain ⟨v, l, e1, e2, e3⟩ := jc7 (fun j => (f j).1) (fun j => (f j).2) cs 1 c0 (f 0).1 (f 0).2 f0c f0b hrest
        refine ⟨hgoodc _ (Or.inl rfl), v, l, e2, e1, fun d Q hQ => ⟨by omega, fun h => by omega, fun _ => ?_, fun h => by omega⟩⟩
        refine hcall d Q (Or.inr ha) (fun hh => ?_) (fun hh => ?_)
        · have : v = 1 := e3.mpr ⟨by rw [hh 0 (by simp), ha], fun i hi => by show (f (1 + i)).1 = 1; rw [hh (1 + i) (by simp; omega), ha]⟩
          rw [ha, ← this]; exact hQ
        · have : v = 0 := by
            rcases e2 with e | e
            · exact e
            · exfalso
              obtain ⟨z0, z1⟩ := e3.mp e
              refine hh (fun i hi => ?_)
              rw [ha]
              cases i with
              | zero => exact z0
              | succ i =>
                have := z1 i (by simpa using hi)
                rw [Nat.add_comm 1 i] at this
                exact this
          rw [ha, show (1 : Int) - 1 = v from by omega]; exact hQ
      · obtain ⟨v, l, e1, e2, e3⟩ := jc8 (fun j => (f j).1) (fun j => (f j).2) cs 1 c0 (f 0).1 (f 0).2 f0c f0b hrest
        refine ⟨hgoodc _ (Or.inr rfl), v, l, e2, e1, fun d Q hQ => ⟨by omega, fun h => by omega, fun _ => ?_, fun h => by omega⟩⟩
        refine hcall d Q (Or.inl ha) (fun hh => ?_) (fun hh => ?_)
        · have : v = 0 := e3.mpr ⟨by rw [hh 0 (by simp), ha], fun i hi => by show (f (1 + i)).1 = 0; rw [hh (1 + i) (by simp; omega), ha]⟩
          rw [ha, ← this]; exact hQ
        · have : v = 1 := by
            rcases e2 with e | e
            · exfalso
              obtain ⟨z0, z1⟩ := e3.mp e
              refine hh (fun i hi => ?_)
              rw [ha]
              cases i with
              | zero => exact z0
              | succ i =>
                have := z1 i (by simpa using hi)
                rw [Nat.add_comm 1 i] at this
                exact this
            · exact e
          rw [ha, show (1 : Int) - 0 = v from by omega]; exact hQ
    · obtain ⟨g1, v1, l1, b1, cv1, e1⟩ := ih _ _ t1
      refine ⟨fun x hx => ?_, 1 - v1, l1, by omega, CV_not cv1 b1, fun d Q hQ => ⟨by omega, fun h => by omega, fun h => by omega, fun _ => ?_⟩⟩
      · rcases List.mem_append.mp hx with h | h
        · exact g1 x h
        · simp at h; omega
      · have s1 := e1 d
        refine RDr [] [] 60 ?_
        refine ⟨by omega, ?_⟩
        refine dC_call s1 rfl ?_
        rcases b1 with rfl | rfl
        · repeat' first | (refine ⟨fun _ => ?_, fun _ => ?_⟩ <;> try omega) | (refine ⟨by first | omega | rfl | assumption | (simp only [dst_1, dst_2, up3_ap, upd1_ap, Nat.reduceEqDiff, ↓reduceIte, eq_self] at * <;> omega) | fail, ?_⟩) | (exact hQ) | (simp only [dst_1, dst_2, up3_ap, upd1_ap, Nat.reduceEqDiff, ↓reduceIte, eq_self] at *) | omega | fail
        · repeat' first | (refine ⟨fun _ => ?_, fun _ => ?_⟩ <;> try omega) | (refine ⟨by first | omega | rfl | assumption | (simp only [dst_1, dst_2, up3_ap, upd1_ap, Nat.reduceEqDiff, ↓reduceIte, eq_self] at * <;> omega) | fail, ?_⟩) | (exact hQ) | (simp only [dst_1, dst_2, up3_ap, upd1_ap, Nat.reduceEqDiff, ↓reduceIte, eq_self] at *) | omega | fail
end
