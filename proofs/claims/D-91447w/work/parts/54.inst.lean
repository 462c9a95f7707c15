/-! THE TABLES' INSTANCE: old cells: the script 50, the cache of Integers 59 (500 ..), a Class object 60, the String constants 100 .. (their bytes 200 ..), static fields under -1 -/
set_option maxHeartbeats 1600000
def oMem (L : Nat) (xs st : Int → Int) : (Int → Int → Int) × (Int → Nat) × (Int → Int) :=
  (fun z j => if z = -1 then st j else if z = 50 then xs j else if z = 59 then 500 + j else if 500 ≤ z ∧ z < 756 then z - 628 else if 100 ≤ z ∧ z < 159 then (if j = 0 then z + 100 else 0) else if 200 ≤ z ∧ z < 259 then (lit (z - 100)).getD j.toNat 0 else 0,
   fun z => if z = 50 then 101 else if z = 59 then 109 else if 500 ≤ z ∧ z < 756 then 30 else if 100 ≤ z ∧ z < 159 then 28 else if 200 ≤ z ∧ z < 259 then 102 else 0,
   fun z => if z = 50 then (L : Int) else if z = 59 then 256 else if 200 ≤ z ∧ z < 259 then ((lit (z - 100)).length : Int) else 0)
def gC0 (A : Nat → Prop) (L : Nat) (xs st : Int → Int) : State → Heap → (Int → Nat) → Prop := fun s H ad =>
  va_T .int (ad 50) L (fun j => .int (Int32.ofInt (xs j))) A s H ∧
  va_T (.object "java/lang/Integer") (ad 59) 256 (fun j => va_rf (gr ad (500 + (j : Int)))) A s H ∧
  (∀ k : Nat, k < 256 → va_O "java/lang/Integer" (ad (500 + (k : Int))) A s H ∧ va_OF "java/lang/Integer" "value" "I" (.int (Int32.ofInt ((k : Int) - 128))) (ad (500 + (k : Int))) A s H) ∧
  (∀ q ∈ strL, vk_R q.1 q.2.1 q.2.2.1 (ad (q.2.2.2 : Int)) s) ∧
  (∀ i : Nat, i < 59 → va_O "java/lang/String" (ad (100 + (i : Int))) A s H ∧ va_OF "java/lang/String" "value" "[B" (va_rf (gr ad (200 + (i : Int)))) (ad (100 + (i : Int))) A s H ∧ va_OF "java/lang/String" "coder" "B" (.int (Int32.ofInt 0)) (ad (100 + (i : Int))) A s H ∧ va_T .byte (ad (200 + (i : Int))) (lit (100 + (i : Int))).length (fun j => .int (Int32.ofInt ((lit (100 + (i : Int))).getD j 0))) A s H) ∧
  va_Mi "[Ljava/lang/Object;" (ad 60) s ∧
  (va_Z "java/util/ArrayList" "EMPTY_ELEMENTDATA" "[Ljava/lang/Object;" (va_rf (gr ad (st 0))) A s H ∧ va_Z "java/util/ArrayList" "DEFAULTCAPACITY_EMPTY_ELEMENTDATA" "[Ljava/lang/Object;" (va_rf (gr ad (st 1))) A s H ∧ va_Z "java/lang/Integer$IntegerCache" "cache" "[Ljava/lang/Integer;" (va_rf (gr ad (st 2))) A s H ∧
   va_Z "java/lang/Throwable" "UNASSIGNED_STACK" "[Ljava/lang/StackTraceElement;" (va_rf (gr ad (st 3))) A s H ∧ va_Z "java/lang/Throwable" "SUPPRESSED_SENTINEL" "Ljava/util/List;" (va_rf (gr ad (st 4))) A s H ∧ va_Z "jdk/internal/util/Preconditions" "SIOOBE_FORMATTER" "Ljava/util/function/BiFunction;" (va_rf (gr ad (st 5))) A s H) ∧
  (va_Z "java/lang/String" "COMPACT_STRINGS" "Z" (.int (Int32.ofInt 1)) A s H ∧ va_Z "java/lang/Integer$IntegerCache" "high" "I" (.int (Int32.ofInt 127)) A s H) ∧
  (vaL "java/lang/Throwable" "UNASSIGNED_STACK" "[Ljava/lang/StackTraceElement;" A s H ∧ vaL "java/lang/Throwable" "SUPPRESSED_SENTINEL" "Ljava/util/List;" A s H) ∧
  (∀ z, 0 < z → z < 1000 → (z < 60 ∨ 65 < z) → ¬ A (ad z))
def iX (D : va_G) (dA : Nat → ClassId) (A : Nat → Prop) (L : Nat) (xs st : Int → Int) : gX := (D, dA, A, gC0 A L xs st, oMem L xs st)
section
variable {D : va_G} {dA : Nat → ClassId} {A : Nat → Prop} {L : Nat} {xs st : Int → Int}
theorem oK101 {z : Int} (h : (oMem L xs st).2.1 z = 101) : z = 50 := by
  unfold oMem at h; dsimp only at h
  repeat' (split at h)
  all_goals omega
theorem oK109 {z : Int} (h : (oMem L xs st).2.1 z = 109) : z = 59 := by
  unfold oMem at h; dsimp only at h
  repeat' (split at h)
  all_goals omega
theorem oK30 {z : Int} (h : (oMem L xs st).2.1 z = 30) : 500 ≤ z ∧ z < 756 := by
  unfold oMem at h; dsimp only at h
  repeat' (split at h)
  all_goals omega
theorem oK28 {z : Int} (h : (oMem L xs st).2.1 z = 28) : 100 ≤ z ∧ z < 159 := by
  unfold oMem at h; dsimp only at h
  repeat' (split at h)
  all_goals omega
theorem oK102 {z : Int} (h : (oMem L xs st).2.1 z = 102) : 200 ≤ z ∧ z < 259 := by
  unfold oMem at h; dsimp only at h
  repeat' (split at h)
  all_goals omega
theorem oKn {z : Int} {k : Nat} (h : (oMem L xs st).2.1 z = k) (h0 : k ≠ 0) (h1 : k ≤ 50) : k = 28 ∨ k = 30 := by
  unfold oMem at h; dsimp only at h
  repeat' (split at h)
  all_goals omega
theorem oM50 (j : Int) : (oMem L xs st).1 50 j = xs j := by
  unfold oMem; dsimp only
  rw [if_neg (by omega), if_pos rfl]
theorem oM59 (j : Int) : (oMem L xs st).1 59 j = 500 + j := by
  unfold oMem; dsimp only
  rw [if_neg (by omega), if_neg (by omega), if_pos rfl]
theorem oMi {z : Int} (h0 : 500 ≤ z) (h1 : z < 756) (j : Int) : (oMem L xs st).1 z j = z - 628 := by
  unfold oMem; dsimp only
  rw [if_neg (by omega), if_neg (by omega), if_neg (by omega), if_pos ⟨h0, h1⟩]
theorem oMs {z : Int} (h0 : 100 ≤ z) (h1 : z < 159) (j : Int) : (oMem L xs st).1 z j = if j = 0 then z + 100 else 0 := by
  unfold oMem; dsimp only
  rw [if_neg (by omega), if_neg (by omega), if_neg (by omega), if_neg (by omega), if_pos ⟨h0, h1⟩]
theorem oMb {z : Int} (h0 : 200 ≤ z) (h1 : z < 259) (j : Int) : (oMem L xs st).1 z j = (lit (z - 100)).getD j.toNat 0 := by
  unfold oMem; dsimp only
  rw [if_neg (by omega), if_neg (by omega), if_neg (by omega), if_neg (by omega), if_neg (by omega), if_pos ⟨h0, h1⟩]
theorem oM1 (j : Int) : (oMem L xs st).1 (-1) j = st j := by
  unfold oMem; dsimp only
  rw [if_pos rfl]
theorem oLb {z : Int} (h0 : 200 ≤ z) (h1 : z < 259) : (oMem L xs st).2.2 z = ((lit (z - 100)).length : Int) := by
  unfold oMem; dsimp only
  rw [if_neg (by omega), if_neg (by omega), if_pos ⟨h0, h1⟩]
theorem nd (k : Nat) (h : k = 28 ∨ k = 30 ∨ k = 101 ∨ k = 102 ∨ k = 109) : ¬ dynK (gcl (g0 (iX D dA A L xs st))) k := by
  intro hd
  have e : (gcl (g0 (iX D dA A L xs st))).length = 27 := rfl
  unfold dynK at hd
  rw [e] at hd
  omega
/-- a String's signs are bytes, few -/
theorem lit_b : ∀ i : Nat, i < 59 → (lit (100 + (i : Int))).length ≤ 65536 ∧ ∀ x ∈ lit (100 + (i : Int)), -128 ≤ x ∧ x ≤ 127 := by decide +kernel
theorem vaT_to {ty : FieldType} {t N : Nat} {f f' : Nat → Value} {A : Nat → Prop} {U : State} {H : Heap} (h : va_T ty t N f A U H) (hf : ∀ j, j < N → f j = f' j) : va_T ty t N f' A U H := by
  obtain ⟨cell, q1, q2, q3, q4, q5, q6, q7⟩ := h
  exact ⟨cell, q1, q2, q3, q4, q5, fun j hj => by rw [← hf j hj]; exact q6 j hj, q7⟩
theorem i_gCk (hst : ∀ k, 0 ≤ st k ∧ st k < 1000) : gCk (g0 (iX D dA A L xs st)) := by
  intro s U ad0 ad hW hq had h
  obtain ⟨h1, h2, h3, h4, h5, h6, ⟨z0, z1, z2, z3, z4, z5⟩, ⟨y0, y1⟩, ⟨w0, w1⟩, h9⟩ := h
  have hvm := hW.alike
  have ha : ∀ z : Int, z < 1000 → ad z = ad0 z := had
  have hg : ∀ z : Int, z < 1000 → gr ad z = gr ad0 z := fun z hz => gr_same had hz
  refine ⟨?_, ?_, fun k hk => ?_, fun q hq2 => ?_, fun i hi => ?_, ?_, ⟨?_, ?_, ?_, ?_, ?_, ?_⟩, ⟨(y0.moved hvm).kept hq, (y1.moved hvm).kept hq⟩, ⟨(w0.moved hvm).kept hq, (w1.moved hvm).kept hq⟩, fun z p0 p1 p2 => ?_⟩
  · rw [ha 50 (by omega)]
    exact (h1.moved hvm).kept hq
  · rw [ha 59 (by omega)]
    refine vaT_to ((h2.moved hvm).kept hq) (fun j hj => ?_)
    rw [hg (500 + (j : Int)) (by omega)]
  · obtain ⟨q1, q2⟩ := h3 k hk
    rw [ha (500 + (k : Int)) (by omega)]
    exact ⟨(q1.moved hvm).kept hq, (q2.moved hvm).kept hq⟩
  · have hz : (q.2.2.2 : Int) < 1000 := by
      have := List.all_eq_true.mp (show strL.all (fun q => decide (q.2.2.2 < 1000)) = true by decide +kernel) q hq2
      have := of_decide_eq_true this
      omega
    rw [ha _ hz]
    exact (h4 q hq2).warm hW
  · obtain ⟨q1, q2, q3, q4⟩ := h5 i hi
    rw [ha (100 + (i : Int)) (by omega), ha (200 + (i : Int)) (by omega), hg (200 + (i : Int)) (by omega)]
    exact ⟨(q1.moved hvm).kept hq, (q2.moved hvm).kept hq, (q3.moved hvm).kept hq, (q4.moved hvm).kept hq⟩
  · rw [ha 60 (by omega)]
    exact h6.moved hvm
  · rw [hg _ (hst 0).2]; exact (z0.moved hvm).kept hq
  · rw [hg _ (hst 1).2]; exact (z1.moved hvm).kept hq
  · rw [hg _ (hst 2).2]; exact (z2.moved hvm).kept hq
  · rw [hg _ (hst 3).2]; exact (z3.moved hvm).kept hq
  · rw [hg _ (hst 4).2]; exact (z4.moved hvm).kept hq
  · rw [hg _ (hst 5).2]; exact (z5.moved hvm).kept hq
  · rw [ha z p1]; exact h9 z p0 p1 p2
theorem i_gO (hst : ∀ k, 0 ≤ st k ∧ st k < 1000) : gO (g0 (iX D dA A L xs st)) := by
  have cv : ∀ (s : State) (ad : Int → Nat), gC (g0 (iX D dA A L xs st)) s s.heap ad → gC0 A L xs st s s.heap ad := fun s ad h => h
  have nm : ∀ z : Int, 100 ≤ z ∧ z < 159 → ∃ i : Nat, i < 59 ∧ z = 100 + (i : Int) := fun z hz => ⟨(z - 100).toNat, by omega, by omega⟩
  have ni : ∀ z : Int, 500 ≤ z ∧ z < 756 → ∃ i : Nat, i < 256 ∧ z = 500 + (i : Int) := fun z hz => ⟨(z - 500).toNat, by omega, by omega⟩
  refine ⟨?_, ?_, ?_, ?_, ?_, ?_, ?_, ?_, ?_, ?_, ?_, ?_, ?_, ?_, ?_⟩
  · refine Or.inr ⟨nd 28 (by omega), by omega, fun s ad h z hz => ?_⟩
    obtain ⟨i, hi, rfl⟩ := nm z (oK28 hz)
    exact ((cv s ad h).2.2.2.2.1 i hi).1
  · refine Or.inr ⟨nd 30 (by omega), by omega, fun s ad h z hz => ?_⟩
    obtain ⟨i, hi, rfl⟩ := ni z (oK30 hz)
    exact ((cv s ad h).2.2.1 i hi).1
  · refine ⟨nd 28 (by omega), by omega, fun s ad h z hz => ?_⟩
    have hz0 := oK28 hz
    have e : (gM (g0 (iX D dA A L xs st))).1 z ((0 : Nat) : Int) = z + 100 := by
      show (oMem L xs st).1 z ((0 : Nat) : Int) = _
      rw [oMs hz0.1 hz0.2]; rfl
    rw [e]
    obtain ⟨i, hi, rfl⟩ := nm z hz0
    refine ⟨?_, ?_⟩
    · have q := ((cv s ad h).2.2.2.2.1 i hi).2.1
      rw [show (200 : Int) + (i : Int) = 100 + (i : Int) + 100 by omega] at q
      exact q
    · show 0 ≤ 100 + (i : Int) + 100 ∧ 100 + (i : Int) + 100 < (1000 : Int)
      omega
  · refine ⟨nd 28 (by omega), by omega, fun s ad h z hz => ?_⟩
    have hz0 := oK28 hz
    have e : (gM (g0 (iX D dA A L xs st))).1 z ((1 : Nat) : Int) = 0 := by
      show (oMem L xs st).1 z ((1 : Nat) : Int) = _
      rw [oMs hz0.1 hz0.2, if_neg (by omega)]
    rw [e]
    obtain ⟨i, hi, rfl⟩ := nm z hz0
    exact ⟨((cv s ad h).2.2.2.2.1 i hi).2.2.1, o32_i⟩
  · refine ⟨nd 30 (by omega), by omega, fun s ad h z hz => ?_⟩
    have hz0 := oK30 hz
    have e : (gM (g0 (iX D dA A L xs st))).1 z ((0 : Nat) : Int) = z - 628 := oMi hz0.1 hz0.2 _
    rw [e]
    obtain ⟨i, hi, rfl⟩ := ni z hz0
    refine ⟨?_, ?_⟩
    · have q := ((cv s ad h).2.2.1 i hi).2
      rw [show (i : Int) - 128 = 500 + (i : Int) - 628 by omega] at q
      exact q
    · show i32 (500 + (i : Int) - 628)
      exact ⟨by omega, by omega⟩
  · intro q hq s ad h
    exact (cv s ad h).2.2.2.1 q hq
  · intro s ad h
    exact (cv s ad h).2.2.2.2.2.1
  · intro s ad h
    rw [show (gM (g0 (iX D dA A L xs st))).1 (-1) ((0 : Nat) : Int) = st 0 from oM1 _]
    exact ⟨(cv s ad h).2.2.2.2.2.2.1.1, hst 0⟩
  · intro s ad h
    rw [show (gM (g0 (iX D dA A L xs st))).1 (-1) ((1 : Nat) : Int) = st 1 from oM1 _]
    exact ⟨(cv s ad h).2.2.2.2.2.2.1.2.1, hst 1⟩
  · intro s ad h
    rw [show (gM (g0 (iX D dA A L xs st))).1 (-1) ((2 : Nat) : Int) = st 2 from oM1 _]
    exact ⟨(cv s ad h).2.2.2.2.2.2.1.2.2.1, hst 2⟩
  · intro s ad h
    rw [show (gM (g0 (iX D dA A L xs st))).1 (-1) ((3 : Nat) : Int) = st 3 from oM1 _]
    exact ⟨(cv s ad h).2.2.2.2.2.2.1.2.2.2.1, hst 3⟩
  · intro s ad h
    rw [show (gM (g0 (iX D dA A L xs st))).1 (-1) ((4 : Nat) : Int) = st 4 from oM1 _]
    exact ⟨(cv s ad h).2.2.2.2.2.2.1.2.2.2.2.1, hst 4⟩
  · intro s ad h
    rw [show (gM (g0 (iX D dA A L xs st))).1 (-1) ((5 : Nat) : Int) = st 5 from oM1 _]
    exact ⟨(cv s ad h).2.2.2.2.2.2.1.2.2.2.2.2, hst 5⟩
  · intro s ad h
    exact (cv s ad h).2.2.2.2.2.2.2.1.1
  · intro s ad h
    exact (cv s ad h).2.2.2.2.2.2.2.1.2
theorem i_gG (hxs : ∀ j, i32 (xs j)) (hL : L ≤ 65536) (hst : ∀ k, 0 ≤ st k ∧ st k < 1000) : gG (g0 (iX D dA A L xs st)) := by
  have hO := i_gO (D := D) (dA := dA) (A := A) (L := L) (xs := xs) hst
  have cv : ∀ (s : State) (H : Heap) (ad : Int → Nat), gC (g0 (iX D dA A L xs st)) s H ad → gC0 A L xs st s H ad := fun s H ad h => h
  have nb : ∀ z : Int, 200 ≤ z ∧ z < 259 → ∃ i : Nat, i < 59 ∧ z = 200 + (i : Int) := fun z hz => ⟨(z - 200).toNat, by omega, by omega⟩
  refine ⟨?_, ?_, ?_, ?_, w_ai, w_ab, w_az, w_al, ?_, ?_, w_oi, w_cp, ?_, w_cl, w_m0, w_m1, w_m2, w_m3, ?_⟩
  · intro s H ad h z h0 h1 h2
    exact (cv s H ad h).2.2.2.2.2.2.2.2.2 z h0 h1 h2
  · refine ⟨nd 101 (by omega), by omega, fun s ad h z hz => ?_⟩
    have hz0 := oK101 hz
    subst hz0
    have e2 : (gM (g0 (iX D dA A L xs st))).2.2 50 = (L : Int) := by
      show (oMem L xs st).2.2 50 = _
      unfold oMem; dsimp only
      rw [if_pos rfl]
    rw [e2]
    refine ⟨?_, ⟨by omega, by omega⟩, fun j _ _ => by rw [show (gM (g0 (iX D dA A L xs st))).1 50 j = xs j from oM50 j]; exact hxs j⟩
    refine vaT_to (cv s s.heap ad h).1 (fun j hj => ?_)
    rw [show (gM (g0 (iX D dA A L xs st))).1 50 (j : Int) = xs j from oM50 _]
  · refine ⟨nd 102 (by omega), by omega, fun s ad h z hz => ?_⟩
    have hz0 := oK102 hz
    rw [show (gM (g0 (iX D dA A L xs st))).2.2 z = ((lit (z - 100)).length : Int) from oLb hz0.1 hz0.2]
    obtain ⟨i, hi, rfl⟩ := nb z hz0
    have hl := lit_b i hi
    rw [show (200 : Int) + (i : Int) - 100 = 100 + (i : Int) by omega]
    refine ⟨?_, ⟨by omega, by omega⟩, fun j hj0 hj1 => ?_⟩
    · refine vaT_to ((cv s s.heap ad h).2.2.2.2.1 i hi).2.2.2 (fun j hj => ?_)
      have e : (gM (g0 (iX D dA A L xs st))).1 (200 + (i : Int)) (j : Int) = (lit (100 + (i : Int))).getD j 0 := by
        show (oMem L xs st).1 (200 + (i : Int)) (j : Int) = _
        rw [oMb hz0.1 hz0.2, show (200 : Int) + (i : Int) - 100 = 100 + (i : Int) by omega, Int.toNat_natCast]
      rw [e]
    · have e : (gM (g0 (iX D dA A L xs st))).1 (200 + (i : Int)) j = (lit (100 + (i : Int))).getD j.toNat 0 := by
        show (oMem L xs st).1 (200 + (i : Int)) j = _
        rw [oMb hz0.1 hz0.2, show (200 : Int) + (i : Int) - 100 = 100 + (i : Int) by omega]
      rw [e]
      have hlt : j.toNat < (lit (100 + (i : Int))).length := by omega
      rw [List.getD_eq_getElem?_getD, List.getElem?_eq_getElem hlt]
      exact hl.2 _ (List.getElem_mem hlt)
  · refine ⟨"java/lang/Integer", nd 109 (by omega), by omega, fun s ad h z hz => ?_⟩
    have hz0 := oK109 hz
    subst hz0
    have e2 : (gM (g0 (iX D dA A L xs st))).2.2 59 = 256 := by
      show (oMem L xs st).2.2 59 = _
      unfold oMem; dsimp only
      rw [if_neg (by omega), if_pos rfl]
    rw [e2]
    refine ⟨?_, ⟨by omega, by omega⟩, fun j h0 h1 => ?_⟩
    · refine vaT_to (cv s s.heap ad h).2.1 (fun j hj => ?_)
      rw [show (gM (g0 (iX D dA A L xs st))).1 59 (j : Int) = 500 + (j : Int) from oM59 _]
    · rw [show (gM (g0 (iX D dA A L xs st))).1 59 j = 500 + j from oM59 _]
      show 0 ≤ 500 + j ∧ 500 + j < (1000 : Int)
      omega
  · intro q h1 h2
    by_cases h27 : q ≤ 27
    · exact anyK _ q h1 h27
    · by_cases h28 : q = 28
      · subst h28; exact ⟨_, hO.s28, Or.inl anyS⟩
      · by_cases h30 : q = 30
        · subst h30; exact ⟨_, hO.i30, Or.inl anyI⟩
        · refine ⟨"java/lang/Integer", Or.inr ⟨?_, by omega, fun s ad h z hz => ?_⟩, Or.inl anyI⟩
          · intro hd
            have e : (gcl (g0 (iX D dA A L xs st))).length = 27 := rfl
            unfold dynK at hd
            rw [e] at hd
            omega
          · exfalso
            rcases oKn (L := L) (xs := xs) (st := st) (z := z) hz (by omega) h2 with e | e <;> omega
  · exact ⟨_, isc_14 _, Or.inr ⟨rfl, 13, _, _, rfl⟩⟩
  · exact ⟨fun s ad h => hO.mir s ad h, w_gc⟩
  · intro y pc idx ic au cz h1 h2 h3 h4 h5
    exact ss_nse (cl_6 _) rfl rfl rfl rfl df_6 ⟨rfl, rfl, rfl⟩ h1 w_ns.1.1 w_ns.1.2 (w_at (fun s ad h => (cv s s.heap ad h).2.2.2.2.2.2.2.2.1.1) (fun s ad h => (cv s s.heap ad h).2.2.2.2.2.2.2.2.1.2)) w_ch h2 w_ns.2.1 w_ns.2.2.1 w_ns.2.2.2.1 w_ns.2.2.2.2 hO.z3 hO.z4 h3 h4 h5
end
