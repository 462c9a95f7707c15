/-! THE START: old cells at the law's entry -/
set_option maxRecDepth 100000
set_option maxHeartbeats 3200000
def nC : List Cond := flatC (Jvm.Cond.and given_1 narrow_1)
def blO (i : Nat) : Nat := ([408, 416, 423, 403, 432, 250, 440, 172, 216, 223, 397, 390, 256, 263, 268, 375, 380, 385, 365, 370, 360, 273, 278, 283, 553, 561, 570, 578, 586, 595, 603, 611, 619, 629, 637, 647, 655, 545, 664, 672, 706, 538, 715, 679, 687, 696, 448, 456, 464, 472, 480, 488, 496, 504, 512, 520, 528, 207, 211] : List Nat).getD i 0
def tmS (i : Nat) : Term := Term.string ((strL.getD i ("", 0, "", 0)).1) ((strL.getD i ("", 0, "", 0)).2.1)
def tmV (i : Nat) : Term := .field (tmS i) "java/lang/String" "value" "[B"
def blk (i : Nat) : List Cond := Cond.exactly (tmS i) "java/lang/String" :: Cond.eq (.field (tmS i) "java/lang/String" "coder" "B") (.int 0) :: Cond.arrayOf (tmV i) .byte :: Cond.eq (.length (tmV i)) (.int (Int32.ofNat (lit (100 + (i : Int))).length)) :: (List.range (lit (100 + (i : Int))).length).map (fun j => Cond.eq (.elem (tmV i) (.int (Int32.ofNat j))) (.int (Int32.ofInt ((lit (100 + (i : Int))).getD j 0))))
theorem blk_ok : (List.range 59).all (fun i => decide (blk i = (nC.drop (blO i)).take (blk i).length)) = true := by decide +kernel
theorem blk_in {i : Nat} (hi : i < 59) {c : Cond} (hc : c ∈ blk i) : c ∈ nC := by
  have h := of_decide_eq_true (List.all_eq_true.mp blk_ok i (List.mem_range.mpr hi))
  rw [h] at hc
  exact List.mem_of_mem_drop (List.mem_of_mem_take hc)
theorem strN : ∀ i : Nat, i < 59 → (strL.getD i ("", 0, "", 0)).2.2.2 = 100 + i := by decide +kernel
theorem strI : ∀ q ∈ strL, ∃ i, i < 59 ∧ strL.getD i ("", 0, "", 0) = q := by
  intro q hq
  obtain ⟨i, hi⟩ := List.getElem?_of_mem hq
  have hl : i < strL.length := (List.getElem?_eq_some_iff.mp hi).1
  have h59 : strL.length = 59 := rfl
  refine ⟨i, by omega, ?_⟩
  rw [List.getD_eq_getElem?_getD, hi]
  rfl
theorem litL : ∀ i : Nat, i < 59 → (lit (100 + (i : Int))).length < 2 ^ 31 := by decide +kernel
section
variable {args : Array Value} {s : State} {A : Nat → Prop}
/-- the String constants -/
theorem str_start (hn : ∀ c ∈ nC, c.before args s = true) (hA : ∀ a : Nat, a < s.heap.size → ¬ A a) : ∃ sK sV : Nat → Nat, ∀ i : Nat, i < 59 → (tmS i).eval args s none [] s = some (.ref (sK i)) ∧ va_O "java/lang/String" (sK i) A s s.heap ∧ va_OF "java/lang/String" "coder" "B" (.int 0) (sK i) A s s.heap ∧ va_OF "java/lang/String" "value" "[B" (.ref (sV i)) (sK i) A s s.heap ∧ va_T .byte (sV i) (lit (100 + (i : Int))).length (fun j => .int (Int32.ofInt ((lit (100 + (i : Int))).getD j 0))) A s s.heap := by
  have h0 : ∀ i : Nat, ∃ q : Nat × Nat, i < 59 → (tmS i).eval args s none [] s = some (.ref q.1) ∧ va_O "java/lang/String" q.1 A s s.heap ∧ va_OF "java/lang/String" "coder" "B" (.int 0) q.1 A s s.heap ∧ va_OF "java/lang/String" "value" "[B" (.ref q.2) q.1 A s s.heap ∧ va_T .byte q.2 (lit (100 + (i : Int))).length (fun j => .int (Int32.ofInt ((lit (100 + (i : Int))).getD j 0))) A s s.heap := by
    intro i
    by_cases hi : i < 59
    · have g : ∀ c ∈ blk i, c.before args s = true := fun c hc => hn c (blk_in hi hc)
      obtain ⟨a, c, cA, kA, q1, q2, q3, q4, q5, q6, -⟩ := Cond.exactly_spec (args := args) (first := s) (o := none) (s := s) (idx := []) (t := tmS i) (cls := "java/lang/String") (g _ List.mem_cons_self)
      have hco := va_eqt (g _ (List.mem_cons_of_mem _ List.mem_cons_self))
      have har := g _ (List.mem_cons_of_mem _ (List.mem_cons_of_mem _ List.mem_cons_self))
      have hle := va_eqt (g _ (List.mem_cons_of_mem _ (List.mem_cons_of_mem _ (List.mem_cons_of_mem _ List.mem_cons_self))))
      obtain ⟨t, ht, hT⟩ := va_Tof (f := fun j => .int (Int32.ofInt ((lit (100 + (i : Int))).getD j 0))) (A := A) (litL i hi) har hle (fun j hj => va_eqt (g _ (List.mem_cons_of_mem _ (List.mem_cons_of_mem _ (List.mem_cons_of_mem _ (List.mem_cons_of_mem _ (List.mem_map.mpr ⟨j, List.mem_range.mpr hj, rfl⟩))))))) hA
      exact ⟨(a, t), fun _ => ⟨q1, ⟨cA, q3, q5, by rw [q6]; exact q2, hA a (Array.getElem?_eq_some_iff.mp q3).1⟩, vk_OFof q1 hco hA, vk_OFof q1 ht hA, hT⟩⟩
    · exact ⟨(0, 0), fun h => absurd h hi⟩
  obtain ⟨ad, had⟩ := Classical.axiomOfChoice h0
  exact ⟨fun i => (ad i).1, fun i => (ad i).2, fun i hi => had i hi⟩
theorem zq_opt {C n d : String} {H : Heap} (h : va_Zq C n d A s H) : ∃ o : Option Nat, va_Z C n d (va_rf o) A s H := by
  rcases h with h | ⟨t, h⟩
  · exact ⟨none, h⟩
  · exact ⟨some t, h⟩
def stO (o : Option Nat) (z : Int) : Int := match o with
  | none => 0
  | some _ => z
theorem gr_st {ad : Int → Nat} {o : Option Nat} {z : Int} (h0 : z ≠ 0) (h : ad z = o.getD 0) : gr ad (stO o z) = o := by
  cases o with
  | none => rfl
  | some t =>
    show gr ad z = some t
    unfold gr
    rw [if_neg h0, h]
    rfl
def adS (b tc mi : Nat) (o0 o1 o3 o4 o5 : Option Nat) (iK sK sV : Nat → Nat) : Int → Nat := fun z => if z = 59 then tc else if z = 60 then mi else if z = 61 then o3.getD 0 else if z = 62 then o4.getD 0 else if z = 63 then o5.getD 0 else if z = 64 then o0.getD 0 else if z = 65 then o1.getD 0 else if 100 ≤ z ∧ z < 159 then sK (z - 100).toNat else if 200 ≤ z ∧ z < 259 then sV (z - 200).toNat else if 500 ≤ z ∧ z < 756 then iK (z - 500).toNat else b
def stS (o0 o1 o3 o4 o5 : Option Nat) : Int → Int := fun k => if k = 0 then stO o0 64 else if k = 1 then stO o1 65 else if k = 2 then 59 else if k = 3 then stO o3 61 else if k = 4 then stO o4 62 else if k = 5 then stO o5 63 else 0
theorem stO_b (o : Option Nat) {z : Int} (h0 : 0 ≤ z) (h1 : z < 1000) : 0 ≤ stO o z ∧ stO o z < 1000 := by
  cases o
  · exact ⟨by show (0 : Int) ≤ 0; omega, by show (0 : Int) < 1000; omega⟩
  · exact ⟨h0, h1⟩
theorem stS_b (o0 o1 o3 o4 o5 : Option Nat) : ∀ k, 0 ≤ stS o0 o1 o3 o4 o5 k ∧ stS o0 o1 o3 o4 o5 k < 1000 := by
  intro k
  unfold stS
  split
  · exact stO_b _ (by omega) (by omega)
  · split
    · exact stO_b _ (by omega) (by omega)
    · split
      · omega
      · split
        · exact stO_b _ (by omega) (by omega)
        · split
          · exact stO_b _ (by omega) (by omega)
          · split
            · exact stO_b _ (by omega) (by omega)
            · omega
theorem vb_cI (k : Nat) (h : k < 256) : vb_c k = Int32.ofInt ((k : Int) - 128) := by
  have h0 : ∀ k : Nat, k < 256 → vb_c k = Int32.ofInt ((k : Int) - 128) := by decide +kernel
  exact h0 k h
/-- what the start gives of old cells -/
theorem gC_start {b L : Nat} {xs : Nat → Int32} (hn : ∀ c ∈ nC, c.before args s = true) (hts : ∀ w ∈ lw_tbl, w.before args s = true) (hX : va_X b L xs s s.heap) (hL : L ≤ 384) (hA : ∀ a : Nat, a < s.heap.size → ¬ A a) :
    ∃ (ad : Int → Nat) (st : Int → Int), (∀ k, 0 ≤ st k ∧ st k < 1000) ∧ st 2 = 59 ∧ ad 50 = b ∧ gC0 A L (fun j => (xs j.toNat).toInt) st s s.heap ad := by
  have hal : ∀ w ∈ lw_all, w.before args s = true := fun w hw => hts w (lw_all_tbl hw)
  obtain ⟨sK, sV, hS⟩ := str_start hn hA
  have hlenC := va_eqt (hn (Cond.eq (.length (.static "java/lang/Integer$IntegerCache" "cache" "[Ljava/lang/Integer;")) (.int 256)) (by decide +kernel))
  obtain ⟨iK, hI, hIe⟩ := vb_Cof (args := args) (A := A) (st := .static "java/lang/Integer$IntegerCache" "cache" "[Ljava/lang/Integer;") rfl hlenC (hn _ (by decide +kernel)) hA
  obtain ⟨tc, htc, hTc⟩ := va_Tof (f := fun j => .ref (iK j)) (A := A) (N := 256) (by decide) (hn (Cond.arrayOf (.static "java/lang/Integer$IntegerCache" "cache" "[Ljava/lang/Integer;") (.object "java/lang/Integer")) (by decide +kernel)) hlenC hIe hA
  obtain ⟨mi, hmi⟩ := va_Mi.of (hn (Cond.isRef (.mirror "[Ljava/lang/Object;")) (by decide +kernel))
  obtain ⟨o0, z0⟩ := zq_opt (va_Zqof (hts _ wl_EMPTY_ELEMENTDATA.1) (hal _ wl_EMPTY_ELEMENTDATA.2) (hn _ (by decide +kernel)) hA)
  obtain ⟨o1, z1⟩ := zq_opt (va_Zqof (hts _ wl_DEFAULTCAPACITY_EMPTY_ELEMENTDATA.1) (hal _ wl_DEFAULTCAPACITY_EMPTY_ELEMENTDATA.2) (hn _ (by decide +kernel)) hA)
  have z2 := va_Zref (hts _ wl_cache.1) (hal _ wl_cache.2) htc hA
  obtain ⟨o3, z3⟩ := zq_opt (va_Zqof (hts _ wl_UNASSIGNED_STACK.1) (hal _ wl_UNASSIGNED_STACK.2) (hn _ (by decide +kernel)) hA)
  obtain ⟨o4, z4⟩ := zq_opt (va_Zqof (hts _ wl_SUPPRESSED_SENTINEL.1) (hal _ wl_SUPPRESSED_SENTINEL.2) (hn _ (by decide +kernel)) hA)
  obtain ⟨o5, z5⟩ := zq_opt (va_Zqof (hts _ wl_SIOOBE_FORMATTER.1) (hal _ wl_SIOOBE_FORMATTER.2) (hn _ (by decide +kernel)) hA)
  have y0 := va_Zof (hts _ wl_COMPACT_STRINGS.1) (hal _ wl_COMPACT_STRINGS.2) (va_eqt (hn (Cond.eq (.static "java/lang/String" "COMPACT_STRINGS" "Z") (.int 1)) (by decide +kernel))) hA
  have y1 := va_Zof (hts _ wl_high.1) (hal _ wl_high.2) (va_eqt (hn (Cond.eq (.static "java/lang/Integer$IntegerCache" "high" "I") (.int 127)) (by decide +kernel))) hA
  have a50 : adS b tc mi o0 o1 o3 o4 o5 iK sK sV 50 = b := by unfold adS; simp
  have a59 : adS b tc mi o0 o1 o3 o4 o5 iK sK sV 59 = tc := by unfold adS; simp
  have a60 : adS b tc mi o0 o1 o3 o4 o5 iK sK sV 60 = mi := by unfold adS; simp
  have a61 : adS b tc mi o0 o1 o3 o4 o5 iK sK sV 61 = o3.getD 0 := by unfold adS; simp
  have a62 : adS b tc mi o0 o1 o3 o4 o5 iK sK sV 62 = o4.getD 0 := by unfold adS; simp
  have a63 : adS b tc mi o0 o1 o3 o4 o5 iK sK sV 63 = o5.getD 0 := by unfold adS; simp
  have a64 : adS b tc mi o0 o1 o3 o4 o5 iK sK sV 64 = o0.getD 0 := by unfold adS; simp
  have a65 : adS b tc mi o0 o1 o3 o4 o5 iK sK sV 65 = o1.getD 0 := by unfold adS; simp
  have aK : ∀ i : Nat, i < 59 → adS b tc mi o0 o1 o3 o4 o5 iK sK sV (100 + (i : Int)) = sK i := fun i hi => by
    unfold adS
    rw [if_neg (by omega), if_neg (by omega), if_neg (by omega), if_neg (by omega), if_neg (by omega), if_neg (by omega), if_neg (by omega), if_pos (by omega)]
    congr 1; omega
  have aV : ∀ i : Nat, i < 59 → adS b tc mi o0 o1 o3 o4 o5 iK sK sV (200 + (i : Int)) = sV i := fun i hi => by
    unfold adS
    rw [if_neg (by omega), if_neg (by omega), if_neg (by omega), if_neg (by omega), if_neg (by omega), if_neg (by omega), if_neg (by omega), if_neg (by omega), if_pos (by omega)]
    congr 1; omega
  have aI : ∀ i : Nat, i < 256 → adS b tc mi o0 o1 o3 o4 o5 iK sK sV (500 + (i : Int)) = iK i := fun i hi => by
    unfold adS
    rw [if_neg (by omega), if_neg (by omega), if_neg (by omega), if_neg (by omega), if_neg (by omega), if_neg (by omega), if_neg (by omega), if_neg (by omega), if_neg (by omega), if_pos (by omega)]
    congr 1; omega
  obtain ⟨scr, x1, x2, x3, x4, x5⟩ := hX
  have hb : b < s.heap.size := (Array.getElem?_eq_some_iff.mp x1).1
  refine ⟨adS b tc mi o0 o1 o3 o4 o5 iK sK sV, stS o0 o1 o3 o4 o5, stS_b _ _ _ _ _, rfl, a50, ?_, ?_, fun k hk => ?_, fun q hq => ?_, fun i hi => ?_, ?_, ⟨?_, ?_, ?_, ?_, ?_, ?_⟩, ⟨y0, y1⟩, ⟨vaL.of (hts _ wl_UNASSIGNED_STACK.1) hA, vaL.of (hts _ wl_SUPPRESSED_SENTINEL.1) hA⟩, fun z p0 p1 p2 => ?_⟩
  · rw [a50]
    refine ⟨scr, x1, x2, x3, by omega, by rw [x4], fun j hj => ?_, hA _ hb⟩
    rw [x5 j hj]
    dsimp only
    rw [Int.toNat_natCast, Int32.ofInt_toInt]
  · rw [a59]
    refine vaT_to hTc (fun j hj => ?_)
    show Value.ref (iK j) = va_rf (gr _ (500 + (j : Int)))
    rw [va_rf_gr (by omega), aI j hj]
  · rw [aI k hk, ← vb_cI k hk]
    exact ⟨hI.1 k hk, hI.2 k hk⟩
  · obtain ⟨i, hi, rfl⟩ := strI q hq
    rw [strN i hi, show (((100 + i : Nat) : Int)) = 100 + (i : Int) by omega, aK i hi]
    exact vk_R.of (hts _ (w_str _ hq)) (hS i hi).1
  · obtain ⟨q1, q2, q3, q4, q5⟩ := hS i hi
    rw [aK i hi, aV i hi, va_rf_gr (by omega), aV i hi]
    exact ⟨q2, q4, q3, q5⟩
  · rw [a60]
    exact hmi
  · rw [show stS o0 o1 o3 o4 o5 0 = stO o0 64 from rfl, gr_st (by omega) a64]
    exact z0
  · rw [show stS o0 o1 o3 o4 o5 1 = stO o1 65 from rfl, gr_st (by omega) a65]
    exact z1
  · rw [show stS o0 o1 o3 o4 o5 2 = 59 from rfl, va_rf_gr (by omega), a59]
    exact z2
  · rw [show stS o0 o1 o3 o4 o5 3 = stO o3 61 from rfl, gr_st (by omega) a61]
    exact z3
  · rw [show stS o0 o1 o3 o4 o5 4 = stO o4 62 from rfl, gr_st (by omega) a62]
    exact z4
  · rw [show stS o0 o1 o3 o4 o5 5 = stO o5 63 from rfl, gr_st (by omega) a63]
    exact z5
  · by_cases h59 : z = 59
    · rw [h59, a59]; exact hTc.out
    · by_cases hs1 : 100 ≤ z ∧ z < 159
      · have e : z = 100 + ((z - 100).toNat : Int) := by omega
        rw [e, aK _ (by omega)]
        obtain ⟨cell, q1, q2, q3, q4⟩ := (hS (z - 100).toNat (by omega)).2.1
        exact q4
      · by_cases hs2 : 200 ≤ z ∧ z < 259
        · have e : z = 200 + ((z - 200).toNat : Int) := by omega
          rw [e, aV _ (by omega)]
          exact (hS (z - 200).toNat (by omega)).2.2.2.2.out
        · by_cases hs3 : 500 ≤ z ∧ z < 756
          · have e : z = 500 + ((z - 500).toNat : Int) := by omega
            rw [e, aI _ (by omega)]
            obtain ⟨cell, q1, q2, q3, q4⟩ := hI.1 (z - 500).toNat (by omega)
            exact q4
          · have e : adS b tc mi o0 o1 o3 o4 o5 iK sK sV z = b := by
              unfold adS
              rw [if_neg h59, if_neg (by omega), if_neg (by omega), if_neg (by omega), if_neg (by omega), if_neg (by omega), if_neg (by omega), if_neg hs1, if_neg hs2, if_neg hs3]
            rw [e]
            exact hA _ hb
/-- the classes' numbers and slots -/
theorem K_start (hal : ∀ w ∈ lw_all, w.before args s = true) (hts : ∀ w ∈ lw_tbl, w.before args s = true) : ∃ (D : va_G) (dA : Nat → ClassId), ∀ (A : Nat → Prop) (L : Nat) (xs st : Int → Int), va_K D gcl0 (gtys (g0 (iX D dA A L xs st))) s := by
  have h0 : ∀ c : Nat, ∃ q : ClassId × (Nat → Nat), ∀ r : vw_C, gcl0[c]? = some r → u_Kn s r.1 r.2.1 r.2.2 q.1 q.2 := by
    intro c
    cases hc : gcl0[c]? with
    | none => exact ⟨(0, fun _ => 0), fun r h => by cases h⟩
    | some r =>
      obtain ⟨n, h1, h2⟩ := w_in r (List.mem_of_getElem? hc)
      obtain ⟨cC, iS, h3⟩ := u_known hal h2 (hal _ h1)
      exact ⟨(cC, iS), fun r' h => by cases h; exact h3⟩
  obtain ⟨q, hq⟩ := Classical.axiomOfChoice h0
  have arr : ∀ ty : FieldType, (Cond.arrayClass ty).before args s = true → (∀ C, ty ≠ .object C) → ∃ cA : ClassId, ArrOfT s cA ty ∧ va_RA s cA ty := by
    intro ty h hne
    obtain ⟨c, k, comp, h1, h2, h3⟩ := Cond.arrayClass_spec h
    refine ⟨c, fun n z => ⟨fun k h => (by cases h), k, h2, comp, h3⟩, ?_⟩
    cases ty <;> first | exact h1 | exact absurd rfl (hne _)
  have arq : ∀ C : String, (Cond.arrayOver (.object C)).before args s = true → ∃ cA : ClassId, ArrOfT s cA (.object C) ∧ va_RA s cA (.object C) := by
    intro C h
    obtain ⟨comp, c, k, h1, h2, h3, h4, h5⟩ := Cond.arrayOver_spec h
    exact ⟨c, fun n z => ⟨fun k h => (by cases h), k, h3, comp, h4⟩, k, comp, h3, h4, h1, h5⟩
  obtain ⟨c3, k3⟩ := arr .byte (hal _ w_ab) (fun C => by intro h; cases h)
  obtain ⟨c4, k4⟩ := arr .boolean (hal _ w_az) (fun C => by intro h; cases h)
  obtain ⟨c5, k5⟩ := arr .int (hal _ w_ai) (fun C => by intro h; cases h)
  obtain ⟨c6, k6⟩ := arr .long (hal _ w_al) (fun C => by intro h; cases h)
  obtain ⟨c7, k7⟩ := arq "java/lang/Object" (hts _ w_ao.1)
  obtain ⟨c8, k8⟩ := arq "TrustDesk$Fund" (hts _ w_ao.2)
  refine ⟨(fun c => (q c).1, fun c => (q c).2), fun k => if k = 103 then c3 else if k = 104 then c4 else if k = 105 then c5 else if k = 106 then c6 else if k = 107 then c7 else c8, fun A L xs st => ⟨fun c r h => hq c r h, fun k r hr => ?_⟩⟩
  match k, hr with
  | 0, hr => cases hr; exact k3
  | 1, hr => cases hr; exact k4
  | 2, hr => cases hr; exact k5
  | 3, hr => cases hr; exact k6
  | 4, hr => cases hr; exact k7
  | 5, hr => cases hr; exact k8
end
