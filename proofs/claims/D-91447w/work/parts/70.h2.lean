/-! THE PASSAGE for the Desk: lists -/
set_option maxHeartbeats 3200000
set_option maxRecDepth 100000
theorem fstN_cg {p q : Int → Bool} : ∀ (n : Nat) (k : Int), (∀ i, k ≤ i → i < k + n → p i = q i) → fstN p n k = fstN q n k
  | 0, _, _ => rfl
  | n + 1, k, h => by
    show (if p k then k else fstN p n (k + 1)) = (if q k then k else fstN q n (k + 1))
    rw [h k (Int.le_refl _) (by omega), fstN_cg n (k + 1) (fun i h1 h2 => h i (by omega) (by omega))]
theorem fst_cg {p q : Int → Bool} {n : Int} (h : ∀ i, 0 ≤ i → i < n → p i = q i) : fst p n = fst q n := fstN_cg n.toNat 0 (fun i h1 h2 => h i h1 (by omega))
abbrev PoD (mb : mM) (Q : mQ mD) : mQ mM := fun o m' => ∃ md', ED mb md' m' ∧ Q o md'
section
variable {mb : mM} {md : mD} {m : mM} {Q : mQ mD} {a : Int} {r : Nat}
theorem dst_r2 {g : Nat} {z i v : Int} {k : Nat} (h : k ≠ g) : (dst md g z i v).1 k = md.1 k := dst_or h
/-- a list: what is known -/
theorem E_ls (hE : ED mb md m) (hk0 : mb.2.1 0 = 0) (hr : isLs r = true) (hk : md.2.1 a = r) :
    (m.2.1 a = 24 ∧ m.1 a 2 = md.1 (r + 10000) a 0 ∧ m.2.1 (m.1 a 1) = 107 ∧ (0 ≤ m.1 a 2 ∧ m.1 a 2 ≤ m.2.2.1 (m.1 a 1) ∧ 1 ≤ m.2.2.1 (m.1 a 1) ∧ m.2.2.1 (m.1 a 1) ≤ 20000) ∧ (0 ≤ m.1 a 0 ∧ m.1 a 0 + md.2.2.2 ≤ 5000000) ∧ ∀ i, 0 ≤ i → i < m.1 a 2 → m.1 (m.1 a 1) i = md.1 r a i) ∧
    (m.1 a 1 ≠ a ∧ m.1 a 1 < m.2.2.2.1 ∧ a < m.2.2.2.1 ∧ ¬ notD a ∧ md.2.1 a ≠ 0) ∧ hdn m a (md.2.1 a) = m.1 a 1 := by
  have hl := ls_lo hr
  have hc := hE.cell hk (by omega)
  have hL := CRd_ls hc.2 hr
  have hh : hdn m a (md.2.1 a) = m.1 a 1 := by rw [hk]; unfold hdn; rw [hr]; rfl
  have hk0' : m.2.1 0 = 0 := by rw [(hE.2.1 0 (Or.inl (by omega))).2.1]; exact hk0
  have he0 : m.1 a 1 ≠ 0 := fun e => by rw [e, hk0'] at hL; exact absurd hL.2.2.1 (by decide)
  have hs := hE.2.2.2.1 a (by omega) (by rw [hh]; exact he0)
  rw [hh] at hs
  refine ⟨hL, ⟨fun e => ?_, hs.1.1, hc.1, hE.nD (by omega) (by omega), by omega⟩, hh⟩
  have := hs.1.2.2
  rw [e] at this
  omega
theorem L_60 (hE : ED mb md m) (hk0 : mb.2.1 0 = 0) (hr : isLs r = true) (hk : md.2.1 a = r) (hq : Q (rI (md.1 (r + 10000) a 0)) md) (d : Nat) : Rn rO rK tQ tU (10 + d) 60 (0, [some (mR a)], [], m) (PoD mb Q) := by
  obtain ⟨⟨l1, l2, l3, l4, l5, l6⟩, -⟩ := E_ls hE hk0 hr hk
  refine SIMJ (J_60 l1 ⟨md, hE, ?_⟩) rfl rfl
  rw [show m.1 a ((2 : Nat) : Int) = md.1 (r + 10000) a 0 from l2]
  exact hq
theorem L_73 (hE : ED mb md m) (hk0 : mb.2.1 0 = 0) (hr : isLs r = true) (hk : md.2.1 a = r) (hq : (md.1 (r + 10000) a 0 = 0 → Q (rI 1) md) ∧ (md.1 (r + 10000) a 0 ≠ 0 → Q (rI 0) md)) (d : Nat) : Rn rO rK tQ tU (10 + d) 73 (0, [some (mR a)], [], m) (PoD mb Q) := by
  obtain ⟨⟨l1, l2, l3, l4, l5, l6⟩, -⟩ := E_ls hE hk0 hr hk
  rw [← l2] at hq
  exact SIMJ (J_73 l1 (fun h => ⟨md, hE, hq.1 h⟩) (fun h => ⟨md, hE, hq.2 h⟩)) rfl rfl
theorem L_66 {i : Int} (hE : ED mb md m) (hk0 : mb.2.1 0 = 0) (hr : isLs r = true) (hk : md.2.1 a = r) (hi : 0 ≤ i ∧ i < md.1 (r + 10000) a 0) (hq : Q (rR (md.1 r a i)) md) (d : Nat) : Rn rO rK tQ tU (10 + d) 66 (0, [some (mR a), some (mI i)], [], m) (PoD mb Q) := by
  obtain ⟨⟨l1, l2, l3, l4, l5, l6⟩, -⟩ := E_ls hE hk0 hr hk
  rw [← l2] at hi
  rw [show 10 + d = (d + 8) + 2 by omega]
  refine SIMJ (J_66 l1 l3 ⟨hi.1, show i < m.2.2.1 (m.1 a 1) by omega⟩ hi.2 ⟨md, hE, ?_⟩) rfl rfl
  rw [show m.1 (m.1 a ((1 : Nat) : Int)) i = md.1 r a i from l6 i hi.1 hi.2]
  exact hq
theorem L_69 {x : Int} (hE : ED mb md m) (hk0 : mb.2.1 0 = 0) (hr : isLs r = true) (hk : md.2.1 a = r) (hx : md.2.1 x = 26) (hel : ∀ i, 0 ≤ i → i < md.1 (r + 10000) a 0 → md.2.1 (md.1 r a i) = 26) :
    x ≠ 0 ∧ (m.2.1 x = 26 ∨ m.2.1 x = 30) ∧ (∀ i, 0 ≤ i → i < m.1 a 2 → m.2.1 (m.1 (m.1 a 1) i) = 26 ∨ m.2.1 (m.1 (m.1 a 1) i) = 30) ∧ fst (fun i => decide (m.1 (m.1 (m.1 a 1) i) 0 = m.1 x 0)) (m.1 a 2) = bIdx md r (r + 10000) a x := by
  obtain ⟨⟨l1, l2, l3, l4, l5, l6⟩, -⟩ := E_ls hE hk0 hr hk
  have cx := CRd_int (hE.cell hx (by decide)).2
  have hk0' : m.2.1 0 = 0 := by rw [(hE.2.1 0 (Or.inl (by omega))).2.1]; exact hk0
  have ci : ∀ i, 0 ≤ i → i < m.1 a 2 → (m.2.1 (m.1 (m.1 a 1) i) = 26 ∨ m.2.1 (m.1 (m.1 a 1) i) = 30) ∧ m.1 (m.1 (m.1 a 1) i) 0 = md.1 2600 (md.1 r a i) 0 := by
    intro i i0 i1
    rw [l6 i i0 i1]
    exact CRd_int (hE.cell (hel i i0 (by omega)) (by decide)).2
  refine ⟨fun e => ?_, cx.1, fun i i0 i1 => (ci i i0 i1).1, ?_⟩
  · rw [e, hk0'] at cx
    omega
  · unfold bIdx
    rw [← l2]
    refine fst_cg (fun i i0 i1 => ?_)
    rw [(ci i i0 i1).2, cx.2]
/-- what an added one is -/
theorem E_kx (hE : ED mb md m) (hk0 : mb.2.1 0 = 0) {x : Int} (h : x = 0 ∨ (1 ≤ md.2.1 x ∧ md.2.1 x ≤ 27)) : (x = 0 ∨ (1 ≤ m.2.1 x ∧ m.2.1 x ≤ 50)) ∧ x ≠ m.2.2.2.1 := by
  have hb := hE.1
  rcases h with h | h
  · exact ⟨Or.inl h, by omega⟩
  · obtain ⟨c1, c2⟩ := hE.cell (z := x) rfl (by omega)
    refine ⟨Or.inr ?_, by omega⟩
    have hl := ar_lo (k := md.2.1 x) (by omega)
    rcases c2 with q | q | q | q | q | q | q | q
    · obtain ⟨q1, q2, q3, -⟩ := q
      omega
    · rw [hl] at q; exact absurd rfl q.1
    · have := ls_lo q.1; omega
    all_goals omega
theorem E_b0 (hE : ED mb md m) (hk0 : mb.2.1 0 = 0) (hr : isLs r = true) (hk : md.2.1 a = r) {x : Int} (hn : md.1 (r + 10000) a 0 ≤ 10000 ∧ 2 * md.1 (r + 10000) a 0 + 20 ≤ md.2.2.2 ∧ (x = 0 ∨ (1 ≤ md.2.1 x ∧ md.2.1 x ≤ 27)))
    (hq : Q (rI 1) (dpy (dst (dst md r a (md.1 (r + 10000) a 0) x) (r + 10000) a 0 (md.1 (r + 10000) a 0 + 1)) (2 * md.1 (r + 10000) a 0 + 20))) (d : Nat) : Rn rO rK tQ tU (10 + d) 62 (0, [some (mR a), some (mR x)], [], m) (PoD mb Q) := by
  obtain ⟨⟨l1, l2, l3, l4, l5, l6⟩, ⟨s1, s2, s3, s4, s5⟩, s6⟩ := E_ls hE hk0 hr hk
  obtain ⟨x1, x2⟩ := E_kx hE hk0 hn.2.2
  have hb := hE.1
  have hl := ls_lo hr
  rw [← l2] at hn hq
  generalize hN : m.1 a 2 = n at *
  generalize hEe : m.1 a 1 = e at *
  rw [show 10 + d = (d + 4) + 6 by omega]
  -- the Desk's memory afterwards
  have d1 : ∀ z, z ≠ a → ∀ r', (dpy (dst (dst md r a n x) (r + 10000) a 0 (n + 1)) (2 * n + 20)).1 r' z = md.1 r' z := fun z hz r' => by
    show (dst (dst md r a n x) (r + 10000) a 0 (n + 1)).1 r' z = _
    rw [dst_oz hz, dst_oz hz]
  have d2 : (dpy (dst (dst md r a n x) (r + 10000) a 0 (n + 1)) (2 * n + 20)).1 (r + 10000) a 0 = n + 1 := by
    show (dst (dst md r a n x) (r + 10000) a 0 (n + 1)).1 (r + 10000) a 0 = _
    rw [dst_s, upd1_s]
  have d3 : ∀ i, (dpy (dst (dst md r a n x) (r + 10000) a 0 (n + 1)) (2 * n + 20)).1 r a i = if i = n then x else md.1 r a i := fun i => by
    show (dst (dst md r a n x) (r + 10000) a 0 (n + 1)).1 r a i = _
    rw [dst_or (by omega), dst_s, upd1_ap]
  have d4 : (dpy (dst (dst md r a n x) (r + 10000) a 0 (n + 1)) (2 * n + 20)).2.2.2 = md.2.2.2 - (2 * n + 20) := rfl
  have d5 : (dpy (dst (dst md r a n x) (r + 10000) a 0 (n + 1)) (2 * n + 20)).2.1 = md.2.1 := rfl
  have d6 : (dpy (dst (dst md r a n x) (r + 10000) a 0 (n + 1)) (2 * n + 20)).2.2.1 = md.2.2.1 := rfl
  generalize dpy (dst (dst md r a n x) (r + 10000) a 0 (n + 1)) (2 * n + 20) = md' at *
  by_cases hfull : n = m.2.2.1 e
  · refine SIMJ (J_62g l1 l3 hEe hfull.symm hN (show 0 ≤ m.1 a 0 ∧ m.1 a 0 ≤ 5000000 by omega) (by omega) ⟨by omega, by omega⟩ (by omega) (by omega) x1 x2 ⟨md', ?_, hq⟩) rfl rfl
    generalize hm1 : mst m a ((0 : Nat) : Int) (m.1 a ((0 : Nat) : Int) + 1) = m1
    have m1k : m1.2 = m.2 := by rw [← hm1]; rfl
    have m1o : ∀ b, b ≠ a → m1.1 b = m.1 b := fun b hb => by rw [← hm1]; exact mst_o hb
    have m1n : m1.2.2.2.1 = m.2.2.2.1 := by rw [m1k]
    have gk := fun b hb => grown_k (m := m1) (a := a) (e := e) (n := n) (b := b) hb
    obtain ⟨gs1, gs2⟩ := grown_s (m := m1) (a := a) (e := e) (n := n)
    rw [m1n] at gs1 gs2
    have nx : (grown m1 a e n).2.2.2.1 = m.2.2.2.1 + 1 ∧ (grown m1 a e n).2.2.2.2 = m.2.2.2.2 + (n + max 1 (n / 2)) := by
      refine ⟨?_, ?_⟩
      · show m1.2.2.2.1 + 1 = _
        rw [m1k]
      · show m1.2.2.2.2 + _ = _
        rw [m1k]
    have ga := fun b j hb => grown_1 (m := m1) (a := a) (e := e) (n := n) (b := b) (j := j) hb
    have m1a : m1.1 a 0 = m.1 a 0 + 1 ∧ m1.1 a 2 = n := by
      rw [← hm1]
      exact ⟨mst_s, by rw [mst_i (by decide)]; exact hN⟩
    refine E_upd hE hk0 a m.2.2.2.1 ⟨Or.inl s5, s4, by rw [mst_2, mst_2, nx.1]; omega⟩ (Or.inr (Or.inr ⟨Int.le_refl _, by rw [mst_2, mst_2, nx.1]; omega, by omega⟩)) (fun z hz => ⟨by rw [d5], d1 z hz⟩) (fun w w1 w2 w3 => ?_) ⟨by rw [d5]; exact s5, ?_, Or.inr ?_⟩ ⟨by omega, by rw [mst_2, mst_2, nx.1]; omega, by rw [mst_2, mst_2, nx.1]; omega, by rw [mst_2, mst_2, nx.1]; omega, by rw [mst_2, mst_2, nx.2]; omega, by omega⟩ (fun z _ _ => by rw [d5]) (fun e0 g g0 g1 g2 => ?_)
    · have wn : w ≠ m.2.2.2.1 := by omega
      rw [mst_2, mst_2]
      have q := gk w (by rw [m1n]; exact wn)
      refine ⟨?_, by rw [q.1, m1k], by rw [q.2, m1k]⟩
      funext j
      rw [mst_o w1, mst_o wn, ga w j (by rw [m1n]; exact wn), if_neg (fun q => w1 q.1), m1o w w1]
    · rw [d5, hk]
      have an : a ≠ m.2.2.2.1 := by omega
      have f1 : (mst (mst (grown m1 a e n) m.2.2.2.1 n x) a ((2 : Nat) : Int) (n + 1)).1 a 1 = m.2.2.2.1 := by
        rw [mst_i (by decide), mst_o an, ga a 1 (by rw [m1n]; exact an), if_pos ⟨rfl, rfl⟩, m1n]
      have f0 : (mst (mst (grown m1 a e n) m.2.2.2.1 n x) a ((2 : Nat) : Int) (n + 1)).1 a 0 = m.1 a 0 + 1 := by
        rw [mst_i (by decide), mst_o an, ga a 0 (by rw [m1n]; exact an), if_neg (fun q => absurd q.2 (by decide)), m1a.1]
      have f2 : (mst (mst (grown m1 a e n) m.2.2.2.1 n x) a ((2 : Nat) : Int) (n + 1)).1 a 2 = n + 1 := mst_s
      refine Or.inr (Or.inr (Or.inl ⟨hr, ?_, by rw [f2, d2], ?_, ?_, ?_, fun i i0 i1 => ?_⟩))
      · rw [mst_2, mst_2, (gk a (by rw [m1n]; exact an)).1, m1k]; exact l1
      · rw [f1, mst_2, mst_2]; exact gs1
      · rw [f1, f2, mst_2, mst_2, gs2]; omega
      · rw [f0]; omega
      · rw [f1]
        rw [f2] at i1
        rw [d3, mst_o (fun q => an q.symm)]
        by_cases ein : i = n
        · rw [if_pos ein, ein, mst_s]
        · rw [if_neg ein, mst_i ein, ← m1n, grown_2 (by rw [m1n]; exact an) (by rw [m1n]; omega) (by omega), m1o e s1]
          exact l6 i i0 (by omega)
    · rw [d5, hk]
      unfold hdn
      rw [hr]
      show (mst (mst (grown m1 a e n) m.2.2.2.1 n x) a ((2 : Nat) : Int) (n + 1)).1 a 1 = m.2.2.2.1
      have an : a ≠ m.2.2.2.1 := by omega
      rw [mst_i (by decide), mst_o an, ga a 1 (by rw [m1n]; exact an), if_pos ⟨rfl, rfl⟩, m1n]
    · have hnk : md.2.1 1000 = 1 := hE.2.2.2.2.1 1000 rfl
      rw [e0] at hk
      omega
  · refine SIMJ (J_62 l1 l3 hEe hN (show 0 ≤ m.1 a 0 ∧ m.1 a 0 ≤ 5000000 by omega) ⟨by omega, by omega, by omega⟩ x1 ⟨md', ?_, hq⟩) rfl rfl
    refine E_upd hE hk0 a e ⟨Or.inl s5, s4, s3⟩ (Or.inr (Or.inl ⟨s5, s6⟩)) (fun z hz => ⟨by rw [d5], d1 z hz⟩) (fun w w1 w2 w3 => ?_) ⟨by rw [d5]; exact s5, ?_, Or.inr ?_⟩ ⟨by omega, by rw [mst_2, mst_2, mst_2]; omega, by rw [mst_2, mst_2, mst_2]; omega, by rw [mst_2, mst_2, mst_2]; omega, by rw [mst_2, mst_2, mst_2]; omega, by omega⟩ (fun z _ _ => by rw [d5]) (fun e0 g g0 g1 g2 => ?_)
    · have w2 : w ≠ e := by
        rcases w2 with q | q
        · have hk0' : m.2.1 0 = 0 := by rw [(hE.2.1 0 (Or.inl (by omega))).2.1]; exact hk0
          rw [q, hk0'] at l3
          cases l3
        · exact q
      rw [mst_o w1, mst_o w2, mst_o w1]
      exact ⟨rfl, rfl, rfl⟩
    · rw [d5, hk]
      have f1 : (mst (mst (mst m a ((0 : Nat) : Int) (m.1 a ((0 : Nat) : Int) + 1)) e n x) a ((2 : Nat) : Int) (n + 1)).1 a 1 = e := by
        rw [mst_i (by decide), mst_o (fun q => s1 q.symm), mst_i (by decide)]; exact hEe
      have f0 : (mst (mst (mst m a ((0 : Nat) : Int) (m.1 a ((0 : Nat) : Int) + 1)) e n x) a ((2 : Nat) : Int) (n + 1)).1 a 0 = m.1 a 0 + 1 := by
        rw [mst_i (by decide), mst_o (fun q => s1 q.symm)]; exact mst_s
      have f2 : (mst (mst (mst m a ((0 : Nat) : Int) (m.1 a ((0 : Nat) : Int) + 1)) e n x) a ((2 : Nat) : Int) (n + 1)).1 a 2 = n + 1 := mst_s
      refine Or.inr (Or.inr (Or.inl ⟨hr, l1, by rw [f2, d2], ?_, ?_, ?_, fun i i0 i1 => ?_⟩))
      · rw [f1]; exact l3
      · rw [f1, f2, mst_2, mst_2, mst_2]; omega
      · rw [f0]; omega
      · rw [f1]
        rw [f2] at i1
        rw [d3, mst_o s1]
        by_cases ein : i = n
        · rw [if_pos ein, ein, mst_s]
        · rw [if_neg ein, mst_i ein, mst_o s1]
          exact l6 i i0 (by omega)
    · rw [d5, hk]
      unfold hdn
      rw [hr]
      show (mst (mst (mst m a ((0 : Nat) : Int) (m.1 a ((0 : Nat) : Int) + 1)) e n x) a ((2 : Nat) : Int) (n + 1)).1 a 1 = e
      rw [mst_i (by decide), mst_o (fun q => s1 q.symm), mst_i (by decide)]; exact hEe
    · have hnk : md.2.1 1000 = 1 := hE.2.2.2.2.1 1000 rfl
      rw [e0] at hk
      omega
end
