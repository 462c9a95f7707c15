/-! THE PASSAGE for the Desk: new lists, removal -/
set_option maxHeartbeats 3200000
set_option maxRecDepth 100000
section
variable {mb : mM} {md : mD} {m : mM} {Q : mQ mD} {a : Int} {r : Nat}
theorem e1000 (hE : ED mb md m) {k : Nat} (h : md.2.1 a = k) (hk : k ≠ 1) : a ≠ 1000 := by
  intro e
  have hnk : md.2.1 1000 = 1 := hE.2.2.2.2.1 1000 rfl
  rw [e] at h
  omega
theorem dkd_o {k : Nat} {c z : Int} (h : z ≠ a) : (dkd md a k c).2.1 z = md.2.1 z := by
  show (if z = a then k else md.2.1 z) = _
  rw [if_neg h]
theorem dkd_s {k : Nat} {c : Int} : (dkd md a k c).2.1 a = k := by
  show (if a = a then k else md.2.1 a) = _
  rw [if_pos rfl]
theorem fx_k : ∀ z : Nat, fxN z = true → nkD z ≠ 99 ∧ nkD z ≠ 98 := by
  intro z hz
  have hz2 : z ∈ [1000, 1001, 1002, 1003, 1004, 1005, 1006, 1008, 1012, 1014, 1016, 1017, 1018, 1019, 1020, 1021, 1022, 1024, 1025] := m_has_mem hz
  have : ∀ z ∈ [1000, 1001, 1002, 1003, 1004, 1005, 1006, 1008, 1012, 1014, 1016, 1017, 1018, 1019, 1020, 1021, 1022, 1024, 1025], nkD z ≠ 99 ∧ nkD z ≠ 98 := by decide
  exact this z hz2
theorem L_61 {n : Int} (hE : ED mb md m) (hk0 : mb.2.1 0 = 0) (hr : isLs r = true) (hk : md.2.1 a = 99) (hn : 1 ≤ n ∧ n ≤ 10) (hb : n + 4 ≤ md.2.2.2) (hq : Q rV (dst (dkd md a r (n + 4)) (r + 10000) a 0 0)) (d : Nat) : m.2.1 a = 24 ∧ Rn rO rK tQ tU (10 + d) 61 (0, [some (mR a), some (mI n)], [], m) (PoD mb Q) := by
  have hc := hE.cell hk (by decide)
  obtain ⟨c1, c2⟩ := CRd_99 hc.2
  have hbb := hE.1
  have hl := ls_lo hr
  have hnd := hE.nD (z := a) (by omega) (by omega)
  have an : a ≠ m.2.2.2.1 := by omega
  refine ⟨c1, ?_⟩
  rw [show 10 + d = (d + 8) + 2 by omega]
  refine SIMJ (J_61 c1 (by omega) ⟨by omega, by omega⟩ an ⟨_, ?_, hq⟩) rfl rfl
  have o := mnew_o (m := mst m a ((0 : Nat) : Int) 0) (k := 107) (len := n) (n := n) (b := a) an
  obtain ⟨t1, t2, t3⟩ := mnew_s (m := mst m a ((0 : Nat) : Int) 0) (k := 107) (len := n) (n := n)
  have f1 : (mst (mnew (mst m a ((0 : Nat) : Int) 0) 107 n n) a ((1 : Nat) : Int) m.2.2.2.1).1 a 1 = m.2.2.2.1 := mst_s
  have f0 : (mst (mnew (mst m a ((0 : Nat) : Int) 0) 107 n n) a ((1 : Nat) : Int) m.2.2.2.1).1 a 0 = 0 := by
    rw [mst_i (by decide), o.1]; exact mst_s
  have f2 : (mst (mnew (mst m a ((0 : Nat) : Int) 0) 107 n n) a ((1 : Nat) : Int) m.2.2.2.1).1 a 2 = 0 := by
    rw [mst_i (by decide), o.1, mst_i (by decide)]; exact c2 2
  have nx : (mst (mnew (mst m a ((0 : Nat) : Int) 0) 107 n n) a ((1 : Nat) : Int) m.2.2.2.1).2.2.2.1 = m.2.2.2.1 + 1 := rfl
  have nx2 : (mst (mnew (mst m a ((0 : Nat) : Int) 0) 107 n n) a ((1 : Nat) : Int) m.2.2.2.1).2.2.2.2 = m.2.2.2.2 + n := rfl
  have k' : (dst (dkd md a r (n + 4)) (r + 10000) a 0 0).2.1 a = r := dkd_s
  have b' : (dst (dkd md a r (n + 4)) (r + 10000) a 0 0).2.2.2 = md.2.2.2 - (n + 4) := rfl
  have n' : (dst (dkd md a r (n + 4)) (r + 10000) a 0 0).2.2.1 = md.2.2.1 := rfl
  refine E_upd hE hk0 a m.2.2.2.1 ⟨Or.inl (by omega), hnd, by omega⟩ (Or.inr (Or.inr ⟨Int.le_refl _, by omega, by omega⟩)) (fun z hz => ⟨dkd_o hz, fun r' => dst_oz hz r'⟩) (fun w w1 w2 w3 => ?_) ⟨by rw [k']; omega, ?_, Or.inr ?_⟩ ⟨by omega, by omega, by omega, by omega, by omega, by omega⟩ (fun z hz e => ?_) (fun e => absurd e (e1000 hE hk (by decide)))
  · have wn : w ≠ m.2.2.2.1 := by omega
    have q := mnew_o (m := mst m a ((0 : Nat) : Int) 0) (k := 107) (len := n) (n := n) (b := w) wn
    refine ⟨by rw [mst_o w1, q.1, mst_o w1], q.2.1, q.2.2⟩
  · rw [k']
    refine Or.inr (Or.inr (Or.inl ⟨hr, o.2.1.trans c1, ?_, ?_, ?_, ?_, fun i i0 i1 => ?_⟩))
    · rw [f2, dst_s, upd1_s]
    · rw [f1]; exact t2
    · rw [f1, f2]
      have : (mst (mnew (mst m a ((0 : Nat) : Int) 0) 107 n n) a ((1 : Nat) : Int) m.2.2.2.1).2.2.1 m.2.2.2.1 = n := t3
      omega
    · rw [f0]; omega
    · rw [f2] at i1; omega
  · rw [k']
    unfold hdn
    rw [hr]
    exact f1
  · exfalso
    have := hE.2.2.2.2.1 z hz
    rw [e, hk] at this
    exact (fx_k z hz).1 this.symm
theorem L_71 {i : Int} (hE : ED mb md m) (hk0 : mb.2.1 0 = 0) (hr : isLs r = true) (hk : md.2.1 a = r) (hi : 0 ≤ i ∧ i < md.1 (r + 10000) a 0) (hb : 1 ≤ md.2.2.2)
    (hq : Q (rR (md.1 r a i)) (dpy (dst (drow md r a (fun k => if k < i then md.1 r a k else md.1 r a (k + 1))) (r + 10000) a 0 (md.1 (r + 10000) a 0 - 1)) 1)) (d : Nat) : Rn rO rK tQ tU (10 + d) 71 (0, [some (mR a), some (mI i), none, none], [], m) (PoD mb Q) := by
  obtain ⟨⟨l1, l2, l3, l4, l5, l6⟩, ⟨s1, s2, s3, s4, s5⟩, s6⟩ := E_ls hE hk0 hr hk
  have hbb := hE.1
  have hl := ls_lo hr
  rw [← l2] at hi hq
  generalize hN : m.1 a 2 = n at *
  generalize hEe : m.1 a 1 = e at *
  rw [show 10 + d = (d + 8) + 2 by omega]
  have d1 : ∀ z, z ≠ a → ∀ r', (dpy (dst (drow md r a (fun k => if k < i then md.1 r a k else md.1 r a (k + 1))) (r + 10000) a 0 (n - 1)) 1).1 r' z = md.1 r' z := fun z hz r' => by
    show (dst (drow md r a _) (r + 10000) a 0 (n - 1)).1 r' z = _
    rw [dst_oz hz]
    show (if r' = r then (fun a' => if a' = a then _ else md.1 r a') else md.1 r') z = _
    by_cases er : r' = r
    · rw [if_pos er]
      show (if z = a then _ else md.1 r z) = _
      rw [if_neg hz, er]
    · rw [if_neg er]
  have d2 : (dpy (dst (drow md r a (fun k => if k < i then md.1 r a k else md.1 r a (k + 1))) (r + 10000) a 0 (n - 1)) 1).1 (r + 10000) a 0 = n - 1 := by
    show (dst (drow md r a _) (r + 10000) a 0 (n - 1)).1 (r + 10000) a 0 = _
    rw [dst_s, upd1_s]
  have d3 : ∀ k, (dpy (dst (drow md r a (fun k => if k < i then md.1 r a k else md.1 r a (k + 1))) (r + 10000) a 0 (n - 1)) 1).1 r a k = if k < i then md.1 r a k else md.1 r a (k + 1) := fun k => by
    show (dst (drow md r a _) (r + 10000) a 0 (n - 1)).1 r a k = _
    rw [dst_or (by omega)]
    show (if r = r then (fun a' => if a' = a then _ else md.1 r a') else md.1 r) a k = _
    rw [if_pos rfl]
    show (if a = a then (fun k => if k < i then md.1 r a k else md.1 r a (k + 1)) else md.1 r a) k = _
    rw [if_pos rfl]
  have d4 : (dpy (dst (drow md r a (fun k => if k < i then md.1 r a k else md.1 r a (k + 1))) (r + 10000) a 0 (n - 1)) 1).2.2.2 = md.2.2.2 - 1 := rfl
  have d5 : (dpy (dst (drow md r a (fun k => if k < i then md.1 r a k else md.1 r a (k + 1))) (r + 10000) a 0 (n - 1)) 1).2.1 = md.2.1 := rfl
  have d6 : (dpy (dst (drow md r a (fun k => if k < i then md.1 r a k else md.1 r a (k + 1))) (r + 10000) a 0 (n - 1)) 1).2.2.1 = md.2.2.1 := rfl
  generalize dpy (dst (drow md r a (fun k => if k < i then md.1 r a k else md.1 r a (k + 1))) (r + 10000) a 0 (n - 1)) 1 = md' at *
  have hv : m.1 e i = md.1 r a i := l6 i hi.1 hi.2
  rw [← hv] at hq
  refine SIMJ (J_71 l1 l3 hEe hN (show 0 ≤ m.1 a 0 ∧ m.1 a 0 ≤ 5000000 by omega) ⟨hi.1, hi.2, by omega, by omega⟩ s1 ⟨md', ?_, hq⟩) rfl rfl
  have g2 : (gone m a e i n).2 = m.2 := by
    unfold gone
    split <;> rfl
  have g1 : ∀ b j, (gone m a e i n).1 b j = if b = a ∧ j = 0 then m.1 a 0 + 1 else if b = e ∧ i ≤ j ∧ j < n - 1 then m.1 e (j + 1) else m.1 b j := by
    intro b j
    unfold gone
    by_cases hc : n - 1 ≤ i
    · rw [if_pos hc]
      show (if b = a ∧ j = 0 then m.1 a 0 + 1 else m.1 b j) = _
      by_cases h1 : b = a ∧ j = 0
      · rw [if_pos h1, if_pos h1]
      · rw [if_neg h1, if_neg h1, if_neg (by omega)]
    · rw [if_neg hc]
      show (if b = e ∧ i ≤ j ∧ j < i + (n - 1 - i) then (mst m a 0 (m.1 a 0 + 1)).1 e (i + 1 + (j - i)) else (if b = a ∧ j = 0 then m.1 a 0 + 1 else m.1 b j)) = _
      by_cases h1 : b = a ∧ j = 0
      · rw [if_neg (fun q => s1 (q.1.symm.trans h1.1)), if_pos h1, if_pos h1]
      · rw [if_neg h1, if_neg h1]
        by_cases h2 : b = e ∧ i ≤ j ∧ j < n - 1
        · rw [if_pos ⟨h2.1, h2.2.1, by omega⟩, if_pos h2, mst_o s1, show i + 1 + (j - i) = j + 1 by omega]
        · rw [if_neg (fun q => h2 ⟨q.1, q.2.1, by omega⟩), if_neg h2]
  generalize gone m a e i n = m1 at *
  have mk : (mst (mst m1 a ((2 : Nat) : Int) (n - 1)) e (n - 1) 0).2 = m.2 := g2
  refine E_upd hE hk0 a e ⟨Or.inl s5, s4, by rw [mk]; exact s3⟩ (Or.inr (Or.inl ⟨s5, s6⟩)) (fun z hz => ⟨by rw [d5], d1 z hz⟩) (fun w w1 w2 w3 => ?_) ⟨by rw [d5]; exact s5, ?_, Or.inr ?_⟩ ⟨by omega, by rw [mk]; omega, by rw [mk]; omega, by rw [mk]; omega, by rw [mk]; omega, by omega⟩ (fun z _ _ => by rw [d5]) (fun e0 => absurd e0 (e1000 hE hk (by omega)))
  · have w2 : w ≠ e := by
      rcases w2 with q | q
      · have hk0' : m.2.1 0 = 0 := by rw [(hE.2.1 0 (Or.inl (by omega))).2.1]; exact hk0
        rw [q, hk0'] at l3
        cases l3
      · exact q
    rw [mk]
    refine ⟨?_, rfl, rfl⟩
    rw [mst_o w2, mst_o w1]
    funext j
    rw [g1, if_neg (fun q => w1 q.1), if_neg (fun q => w2 q.1)]
  · rw [d5, hk]
    have f1 : (mst (mst m1 a ((2 : Nat) : Int) (n - 1)) e (n - 1) 0).1 a 1 = e := by
      rw [mst_o (fun q => s1 q.symm), mst_i (by decide), g1, if_neg (fun q => absurd q.2 (by decide)), if_neg (fun q => s1 q.1.symm)]; exact hEe
    have f0 : (mst (mst m1 a ((2 : Nat) : Int) (n - 1)) e (n - 1) 0).1 a 0 = m.1 a 0 + 1 := by
      rw [mst_o (fun q => s1 q.symm), mst_i (by decide), g1, if_pos ⟨rfl, rfl⟩]
    have f2 : (mst (mst m1 a ((2 : Nat) : Int) (n - 1)) e (n - 1) 0).1 a 2 = n - 1 := by
      rw [mst_o (fun q => s1 q.symm)]; exact mst_s
    refine Or.inr (Or.inr (Or.inl ⟨hr, by rw [mk]; exact l1, by rw [f2, d2], ?_, ?_, ?_, fun j j0 j1 => ?_⟩))
    · rw [f1, mk]; exact l3
    · rw [f1, f2, mk]; omega
    · rw [f0]; omega
    · rw [f1]
      rw [f2] at j1
      rw [d3, mst_i (by omega), mst_o s1, g1, if_neg (fun q => s1 q.1)]
      by_cases hj : j < i
      · rw [if_pos hj, if_neg (by omega)]
        exact l6 j j0 (by omega)
      · rw [if_neg hj, if_pos ⟨rfl, by omega, j1⟩]
        exact l6 (j + 1) (by omega) (by omega)
  · rw [d5, hk]
    unfold hdn
    rw [hr]
    show (mst (mst m1 a ((2 : Nat) : Int) (n - 1)) e (n - 1) 0).1 a 1 = e
    rw [mst_o (fun q => s1 q.symm), mst_i (by decide), g1, if_neg (fun q => absurd q.2 (by decide)), if_neg (fun q => s1 q.1.symm)]; exact hEe
theorem L_74 (hE : ED mb md m) (hk0 : mb.2.1 0 = 0) (hr : isLs r = true) (hk : md.2.1 a = r) (hb : 1 ≤ md.2.2.2) (hq : Q rV (dpy (dst md (r + 10000) a 0 0) 1)) (d : Nat) : Rn rO rK tQ tU (10 + d) 74 (0, [some (mR a), none, none, none], [], m) (PoD mb Q) := by
  obtain ⟨⟨l1, l2, l3, l4, l5, l6⟩, ⟨s1, s2, s3, s4, s5⟩, s6⟩ := E_ls hE hk0 hr hk
  have hbb := hE.1
  have hl := ls_lo hr
  have b' : (dpy (dst md (r + 10000) a 0 0) 1).2.2.2 = md.2.2.2 - 1 := rfl
  have n' : (dpy (dst md (r + 10000) a 0 0) 1).2.2.1 = md.2.2.1 := rfl
  have k' : (dpy (dst md (r + 10000) a 0 0) 1).2.1 = md.2.1 := rfl
  refine SIMJ (J_74 l1 l3 rfl rfl (show 0 ≤ m.1 a 0 ∧ m.1 a 0 ≤ 5000000 by omega) (show 0 ≤ m.1 a 2 ∧ m.1 a 2 ≤ m.2.2.1 (m.1 a 1) ∧ m.1 a 2 ≤ 65536 by omega) s1 (fun m' g1 g2 g3 => ⟨_, ?_, hq⟩)) rfl rfl
  have f0 : m'.1 a 0 = m.1 a 0 + 1 := g3.1
  have f1 : m'.1 a 1 = m.1 a 1 := g3.2.1
  have f2 : m'.1 a 2 = 0 := g3.2.2
  refine E_upd hE hk0 a (m.1 a 1) ⟨Or.inl s5, s4, by rw [g1]; exact s3⟩ (Or.inr (Or.inl ⟨s5, s6⟩)) (fun z hz => ⟨by rw [k'], fun r' => dst_oz hz r'⟩) (fun w w1 w2 w3 => ?_) ⟨by rw [k']; exact s5, ?_, Or.inr ?_⟩ ⟨by omega, by rw [g1]; omega, by rw [g1]; omega, by rw [g1]; omega, by rw [g1]; omega, by omega⟩ (fun z _ _ => by rw [k']) (fun e0 => absurd e0 (e1000 hE hk (by omega)))
  · have w2 : w ≠ m.1 a 1 := by
      rcases w2 with q | q
      · have hk0' : m.2.1 0 = 0 := by rw [(hE.2.1 0 (Or.inl (by omega))).2.1]; exact hk0
        rw [q, hk0'] at l3
        cases l3
      · exact q
    rw [g1]
    exact ⟨g2 w w1 w2, rfl, rfl⟩
  · rw [k', hk]
    refine Or.inr (Or.inr (Or.inl ⟨hr, by rw [g1]; exact l1, ?_, ?_, ?_, ?_, fun j j0 j1 => ?_⟩))
    · rw [f2]
      show 0 = (dst md (r + 10000) a 0 0).1 (r + 10000) a 0
      rw [dst_s, upd1_s]
    · rw [f1, g1]; exact l3
    · rw [f1, f2, g1]; omega
    · rw [f0]; omega
    · rw [f2] at j1; omega
  · rw [k', hk]
    unfold hdn
    rw [hr]
    exact f1
end
