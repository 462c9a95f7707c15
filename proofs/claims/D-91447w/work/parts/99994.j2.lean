/-! BOTH: facts told, the tape, groups laid -/
set_option maxHeartbeats 3200000
set_option maxRecDepth 100000
theorem zand3 {k : Int} (h : 0 ≤ k ∧ k < 20) : zand k 3 = k % 4 := by
  have : ∀ i : Fin 20, zand (i.val : Int) 3 = (i.val : Int) % 4 := by decide
  have := this ⟨k.toNat, by omega⟩
  rw [show ((k.toNat : Nat) : Int) = k by omega] at this
  exact this
section
variable {d : Nat} {h h' : mD} {m m' : sg} {Q : mQ mD} {c : Int}
theorem J_end {n : Int} (hR : Rc (c + 1) h m) (hc : 0 ≤ c) : RD (d + 100) 8 (0, [some (mR 1000), some (mI n)], [], h) (JM 86 [some (mR 1026), some (mI n)] m c) := by
  have hL := hR.1
  have h7 := hL.tp.1
  refine D_end (fun n0 n1 d' => M_end (fun _ _ => ⟨rfl, ?_⟩) (fun hh => absurd hh (by omega))) (fun hh d' => M_end (fun _ _ => absurd hh (by omega)) (fun _ => ⟨rfl, hR.s0 hc⟩))
  have hn := hL.nx
  have hF : Fr [107] h (dst h 107 1000 0 n) := Fr.rf.ds (by decide)
  have hM : FrJ [0, 14] m (upm (upm m 0 0 0) 14 0 n) := (FrJ.rf.up (by decide)).up (by decide)
  have e14 : (upm (upm m 0 0 0) 14 0 n) 14 0 = n := by rw [upm_s, upd1_s]
  have htp : RTp (dst h 107 1000 0 n) (upm (upm m 0 0 0) 14 0 n) := by
    unfold RTp
    rw [e14, dsz_0, ds_n (by decide), ds_n (by decide), upm_n (by decide), upm_n (by decide), upm_n (by decide), upm_n (by decide)]
    exact ⟨⟨rfl, n0, by omega⟩, hL.tp.2.1, fun k k0 k1 => hL.tp.2.2 k k0 (by omega)⟩
  refine ⟨?_, hc, ?_⟩
  · exact ⟨(by have := hF.1; omega), hL.now.fr hn hF hM (by decide) (by decide), hL.fc.fr hn hF hM (by decide) (by decide), htp, hL.ac.fr hn hF hM (by decide) (by decide), hL.en.fr hn hF hM (by decide) (by decide), hL.pd.fr hn hF hM (by decide) (by decide), hL.ao.fr hn hF hM (by decide) (by decide), hL.fl.fr hn hF hM (by decide) (by decide), hL.fv.fr hL.fl hn hF hM (by decide) (by decide), hL.fj.fr hL.fl hn hF hM (by decide) (by decide), hL.fp.fr hL.fl hn hF hM (by decide) (by decide), hL.fe.fr hL.fl hn hF hM (by decide) (by decide), hL.fa.fr hL.fl hL.fe hn hF hM (by decide) (by decide) (by decide) (by decide), hL.ft.fr hL.fl hn hF hM (by decide) (by decide) (by decide), hL.ne.fr hn hF hM (by decide) (by decide) (by decide) (by decide), hL.sl.fr hn hF hM (by decide) (by decide) (by decide), hL.sv.fr hL.sl hn hF hM (by decide) (by decide), hL.so.fr hL.sl hn hF hM (by decide) (by decide) (by decide), hL.ss.fr hL.sl hn hF hM (by decide) (by decide) (by decide), hL.mz.fr hM (by decide), (let ⟨et_, h_⟩ := hL.et; ⟨et_, h_.fr hM (by decide)⟩)⟩
  · have := hR.2.2
    rw [e14]
    show _ ≤ h.2.2.2
    omega
theorem J_fact {w y v : Int} (hR : Rc (c + 1) h m) (hc : 0 ≤ c) : RD (d + 100) 1 (0, [some (mR 1000), some (mI w), some (mI y), some (mI v)], [], h) (JM 79 [some (mR 1026), some (mI w), some (mI y), some (mI v)] m c) := by
  have hL := hR.1
  have h2 := hL.fc.1
  refine D_fact (d := d + 98) (by omega) (fun a1 a2 a3 a4 d' => M_fact (d := d' + 99) h2.2 (fun _ _ _ _ => ⟨rfl, ?_⟩) (fun hh => absurd ⟨a1, a2, a3, by omega⟩ hh)) (fun hh d' => M_fact (d := d' + 99) h2.2 (fun a1 a2 a3 a4 => absurd ⟨a1, a2, a3, by omega⟩ hh) (fun _ => ⟨rfl, hR.s0 hc⟩))
  have hn := hL.nx
  have e0 := h2.1
  have e1 := hL.now.1
  rw [e0, e1]
  have hF : Fr [104, 10100, 10101, 10102, 10103] h (dst (dst (dst (dst (dst h 10100 1001 (m 2 0) w) 10101 1002 (m 2 0) y) 10102 1003 (m 2 0) (m 1 0)) 10103 1004 (m 2 0) v) 104 1000 0 (m 2 0 + 1)) := ((((Fr.rf.ds (by decide)).ds (by decide)).ds (by decide)).ds (by decide)).ds (by decide)
  have hM : FrJ [0, 2, 3] m (upm (upm (upm (upm (upm (upm m 0 0 0) 3 (4 * m 2 0) w) 3 (4 * m 2 0 + 1) y) 3 (4 * m 2 0 + 2) v) 3 (4 * m 2 0 + 3) (m 1 0)) 2 0 (m 2 0 + 1)) := (((((FrJ.rf.up (by decide)).up (by decide)).up (by decide)).up (by decide)).up (by decide)).up (by decide)
  have hfc : RFc (dst (dst (dst (dst (dst h 10100 1001 (m 2 0) w) 10101 1002 (m 2 0) y) 10102 1003 (m 2 0) (m 1 0)) 10103 1004 (m 2 0) v) 104 1000 0 (m 2 0 + 1)) (upm (upm (upm (upm (upm (upm m 0 0 0) 3 (4 * m 2 0) w) 3 (4 * m 2 0 + 1) y) 3 (4 * m 2 0 + 2) v) 3 (4 * m 2 0 + 3) (m 1 0)) 2 0 (m 2 0 + 1)) := by
    unfold RFc
    have d0 : (dst (dst (dst (dst (dst h 10100 1001 (m 2 0) w) 10101 1002 (m 2 0) y) 10102 1003 (m 2 0) (m 1 0)) 10103 1004 (m 2 0) v) 104 1000 0 (m 2 0 + 1)).1 104 1000 0 = m 2 0 + 1 := dsz_0
    have d1 : (dst (dst (dst (dst (dst h 10100 1001 (m 2 0) w) 10101 1002 (m 2 0) y) 10102 1003 (m 2 0) (m 1 0)) 10103 1004 (m 2 0) v) 104 1000 0 (m 2 0 + 1)).1 10100 1001 = upd1 (h.1 10100 1001) (m 2 0) w := by rw [ds_n (by decide), ds_n (by decide), ds_n (by decide), ds_n (by decide), ds_u]
    have d2 : (dst (dst (dst (dst (dst h 10100 1001 (m 2 0) w) 10101 1002 (m 2 0) y) 10102 1003 (m 2 0) (m 1 0)) 10103 1004 (m 2 0) v) 104 1000 0 (m 2 0 + 1)).1 10101 1002 = upd1 (h.1 10101 1002) (m 2 0) y := by rw [ds_n (by decide), ds_n (by decide), ds_n (by decide), ds_u, ds_n (by decide)]
    have d3 : (dst (dst (dst (dst (dst h 10100 1001 (m 2 0) w) 10101 1002 (m 2 0) y) 10102 1003 (m 2 0) (m 1 0)) 10103 1004 (m 2 0) v) 104 1000 0 (m 2 0 + 1)).1 10102 1003 = upd1 (h.1 10102 1003) (m 2 0) (m 1 0) := by rw [ds_n (by decide), ds_n (by decide), ds_u, ds_n (by decide), ds_n (by decide)]
    have d4 : (dst (dst (dst (dst (dst h 10100 1001 (m 2 0) w) 10101 1002 (m 2 0) y) 10102 1003 (m 2 0) (m 1 0)) 10103 1004 (m 2 0) v) 104 1000 0 (m 2 0 + 1)).1 10103 1004 = upd1 (h.1 10103 1004) (m 2 0) v := by rw [ds_n (by decide), ds_u, ds_n (by decide), ds_n (by decide), ds_n (by decide)]
    rw [d0, d1, d2, d3, d4]
    have e2 : (upm (upm (upm (upm (upm (upm m 0 0 0) 3 (4 * m 2 0) w) 3 (4 * m 2 0 + 1) y) 3 (4 * m 2 0 + 2) v) 3 (4 * m 2 0 + 3) (m 1 0)) 2 0 (m 2 0 + 1)) 2 0 = m 2 0 + 1 := by rw [upm_s, upd1_s]
    have e3 : ∀ i, (upm (upm (upm (upm (upm (upm m 0 0 0) 3 (4 * m 2 0) w) 3 (4 * m 2 0 + 1) y) 3 (4 * m 2 0 + 2) v) 3 (4 * m 2 0 + 3) (m 1 0)) 2 0 (m 2 0 + 1)) 3 i = if i = 4 * m 2 0 + 3 then m 1 0 else if i = 4 * m 2 0 + 2 then v else if i = 4 * m 2 0 + 1 then y else if i = 4 * m 2 0 then w else m 3 i := fun i => by
      rw [upm_n (by decide), upm_s, upd1_ap, upm_s, upd1_ap, upm_s, upd1_ap, upm_s, upd1_ap, upm_n (by decide)]
    rw [e2]
    refine ⟨⟨rfl, by omega, by omega⟩, fun k k0 k1 => ?_⟩
    rw [e3, e3, e3, e3, upd1_ap, upd1_ap, upd1_ap, upd1_ap]
    by_cases hk : k = m 2 0
    · subst hk
      rw [if_pos rfl, if_pos rfl, if_pos rfl, if_pos rfl, if_neg (by omega), if_neg (by omega), if_neg (by omega), if_pos rfl, if_neg (by omega), if_neg (by omega), if_pos rfl, if_pos rfl, if_neg (by omega), if_pos rfl]
      exact ⟨rfl, rfl, rfl, rfl, a3⟩
    · rw [if_neg hk, if_neg hk, if_neg hk, if_neg hk, if_neg (by omega), if_neg (by omega), if_neg (by omega), if_neg (by omega), if_neg (by omega), if_neg (by omega), if_neg (by omega), if_neg (by omega), if_neg (by omega), if_neg (by omega), if_neg (by omega), if_neg (by omega), if_neg (by omega), if_neg (by omega), if_neg (by omega), if_neg (by omega)]
      exact hL.fc.2 k k0 (by omega)
  refine ⟨?_, hc, ?_⟩
  · exact ⟨(by have := hF.1; omega), hL.now.fr hn hF hM (by decide) (by decide), hfc, hL.tp.fr hn hF hM (by decide) (by decide), hL.ac.fr hn hF hM (by decide) (by decide), hL.en.fr hn hF hM (by decide) (by decide), hL.pd.fr hn hF hM (by decide) (by decide), hL.ao.fr hn hF hM (by decide) (by decide), hL.fl.fr hn hF hM (by decide) (by decide), hL.fv.fr hL.fl hn hF hM (by decide) (by decide), hL.fj.fr hL.fl hn hF hM (by decide) (by decide), hL.fp.fr hL.fl hn hF hM (by decide) (by decide), hL.fe.fr hL.fl hn hF hM (by decide) (by decide), hL.fa.fr hL.fl hL.fe hn hF hM (by decide) (by decide) (by decide) (by decide), hL.ft.fr hL.fl hn hF hM (by decide) (by decide) (by decide), hL.ne.fr hn hF hM (by decide) (by decide) (by decide) (by decide), hL.sl.fr hn hF hM (by decide) (by decide) (by decide), hL.sv.fr hL.sl hn hF hM (by decide) (by decide), hL.so.fr hL.sl hn hF hM (by decide) (by decide) (by decide), hL.ss.fr hL.sl hn hF hM (by decide) (by decide) (by decide), hL.mz.fr hM (by decide), (let ⟨et_, h_⟩ := hL.et; ⟨et_, h_.fr hM (by decide)⟩)⟩
  · have := hR.2.2
    rw [hM 14 (by decide)]
    show _ ≤ h.2.2.2
    omega
theorem D_feed {a b c d' e : Int} {x6 x7 : Option mV} (ht : 0 ≤ h.1 107 1000 0 ∧ h.1 107 1000 0 ≤ 400)
    (h0 : 400 < h.1 107 1000 0 + 20 → Q (rI (-1)) h)
    (h1 : h.1 107 1000 0 + 20 ≤ 400 → ∀ m', m'.2 = h.2 → (∀ g b, g ≠ 107 → g ≠ 10106 → m'.1 g b = h.1 g b) → m'.1 107 1000 0 = h.1 107 1000 0 + 20 → (∀ k, 0 ≤ k → k < 20 → m'.1 10106 1005 (h.1 107 1000 0 + k) = fbyte a b c d' e k) → (∀ i, i < h.1 107 1000 0 → m'.1 10106 1005 i = h.1 10106 1005 i) → Q (rI (h.1 107 1000 0 + 20)) m') : RD d 7 (0, [some (mR 1000), some (mI a), some (mI b), some (mI c), some (mI d'), some (mI e), x6, x7], [], h) Q := by
  by_cases hc : h.1 107 1000 0 + 20 ≤ 400
  · have h1 := h1 hc
    clear h0
    have key : ∀ k, 0 ≤ k → k ≤ 20 → ∀ m' x7, m'.2 = h.2 → (∀ g b, g ≠ 107 → g ≠ 10106 → m'.1 g b = h.1 g b) → m'.1 107 1000 0 = h.1 107 1000 0 + k → (∀ i, 0 ≤ i → i < k → m'.1 10106 1005 (h.1 107 1000 0 + i) = fbyte a b c d' e i) → (∀ i, i < h.1 107 1000 0 → m'.1 10106 1005 i = h.1 10106 1005 i) → RD d 7 (18, [some (mR 1000), some (mI a), some (mI b), some (mI c), some (mI d'), some (mI e), some (mI k), x7], [], m') Q := by
      refine up_ind ?_ ?_
      · intro m' x7 hfr0 hfr h14 hb hold
        have fin := h1 m' hfr0 hfr h14 hb hold
        rw [← h14] at fin
        refine RDr [] [70018] 200 ?_
        repeat' first | (refine ⟨fun _ => ?_, fun _ => ?_⟩ <;> try omega) | (refine ⟨by first | omega | rfl | assumption | (simp only [dst_1, dst_2, up3_ap, upd1_ap, Nat.reduceEqDiff, ↓reduceIte, eq_self] at * <;> omega) | fail, ?_⟩) | (exact fin) | (simp only [dst_1, dst_2, up3_ap, upd1_ap, Nat.reduceEqDiff, ↓reduceIte, eq_self] at *) | omega | fail
      · intro k hk0 hk1 ih m' x7 hfr0 hfr h14 hb hold
        have fin : ∀ w, zi2b (zi2b (zshr w (24 - 8 * zand k 3))) = fbyte a b c d' e k → RD d 7 (18, [some (mR 1000), some (mI a), some (mI b), some (mI c), some (mI d'), some (mI e), some (mI (k + 1)), some (mI w)], [], dst (dst m' 10106 1005 (m'.1 107 1000 0) (zi2b (zi2b (zshr w (24 - 8 * zand k 3))))) 107 1000 0 (m'.1 107 1000 0 + 1)) Q := by
          intro w hw
          refine ih _ _ hfr0 (fun j b c1 c2 => by rw [ds_n c1, ds_n c2]; exact hfr j b c1 c2) (by rw [dsz_0]; omega) (fun i h0 h1 => ?_) (fun i h => ?_)
          · rw [ds_n (by decide), ds_u, upd1_ap]
            by_cases hik : i = k
            · rw [hik, h14, if_pos rfl, hw]
            · rw [h14, if_neg (by omega)]
              exact hb i h0 (by omega)
          · rw [ds_n (by decide), ds_u, upd1_ap, h14, if_neg (by omega)]
            exact hold i h
        have e3 := zand3 (k := k) (by omega)
        have fin2 : ∀ w, (w = if k < 4 then a else if k < 8 then b else if k < 12 then c else if k < 16 then d' else e) → RD d 7 (18, [some (mR 1000), some (mI a), some (mI b), some (mI c), some (mI d'), some (mI e), some (mI (k + 1)), some (mI w)], [], dst (dst m' 10106 1005 (m'.1 107 1000 0) (zi2b (zi2b (zshr w (24 - 8 * zand k 3))))) 107 1000 0 (m'.1 107 1000 0 + 1)) Q := by
          intro w hw
          refine fin w ?_
          unfold fbyte
          rw [← hw, e3]
          exact zi2b_i (zi2b_r _)
        clear fin ih hb hold hfr h1
        refine RDr [] [70018] 200 ?_
        repeat' first | (refine ⟨fun _ => ?_, fun _ => ?_⟩ <;> try omega) | (refine ⟨by first | omega | rfl | assumption | (simp only [dst_1, dst_2, up3_ap, upd1_ap, Nat.reduceEqDiff, ↓reduceIte, eq_self] at * <;> omega) | fail, ?_⟩) | (exact fin2 _ (by first | (rw [if_pos (by omega)]) | (rw [if_neg (by omega), if_pos (by omega)]) | (rw [if_neg (by omega), if_neg (by omega), if_pos (by omega)]) | (rw [if_neg (by omega), if_neg (by omega), if_neg (by omega), if_pos (by omega)]) | (rw [if_neg (by omega), if_neg (by omega), if_neg (by omega), if_neg (by omega)]) | fail)) | (simp only [dst_1, dst_2, up3_ap, upd1_ap, Nat.reduceEqDiff, ↓reduceIte, eq_self] at *) | omega | fail
    have st := key 0 (by omega) (by omega) h x7 rfl (fun _ _ _ _ => rfl) (by omega) (fun i h0 h1 => by omega) (fun i h => rfl)
    clear key h1
    refine RDr [] [70018] 200 ?_
    repeat' first | (refine ⟨fun _ => ?_, fun _ => ?_⟩ <;> try omega) | (refine ⟨by first | omega | rfl | assumption | (simp only [dst_1, dst_2, up3_ap, upd1_ap, Nat.reduceEqDiff, ↓reduceIte, eq_self] at * <;> omega) | fail, ?_⟩) | (exact st) | (simp only [dst_1, dst_2, up3_ap, upd1_ap, Nat.reduceEqDiff, ↓reduceIte, eq_self] at *) | omega | fail
  · refine RDr [] [] 200 ?_
    repeat' first | (refine ⟨fun _ => ?_, fun _ => ?_⟩ <;> try omega) | (refine ⟨by first | omega | rfl | assumption | (simp only [dst_1, dst_2, up3_ap, upd1_ap, Nat.reduceEqDiff, ↓reduceIte, eq_self] at * <;> omega) | fail, ?_⟩) | (exact h0 (by omega)) | (simp only [dst_1, dst_2, up3_ap, upd1_ap, Nat.reduceEqDiff, ↓reduceIte, eq_self] at *) | omega | fail
theorem J_feed {a b e1 e2 e3 : Int} (hR : Rc (c + 1) h m) (hc : 0 ≤ c) : RD (d + 100) 7 (0, [some (mR 1000), some (mI a), some (mI b), some (mI e1), some (mI e2), some (mI e3), none, none], [], h) (JM 85 [some (mR 1026), some (mI a), some (mI b), some (mI e1), some (mI e2), some (mI e3), none, none] m c) := by
  have hL := hR.1
  have h7 := hL.tp.1
  have hn := hL.nx
  refine D_feed (by omega) (fun hh d' => M_feed h7.2 (fun _ => ⟨rfl, hR.s0 hc⟩) (fun hh2 => absurd hh (by omega))) (fun hlt h2 k0 kf k107 kb kold d' => M_feed h7.2 (fun hh => absurd hh (by omega)) (fun _ m2 f1 f14 fb fold _ => ⟨by rw [h7.1], ?_⟩))
  have hF : Fr [107, 10106] h h2 := ⟨by rw [k0]; omega, fun b _ => by rw [k0], fun g b hg _ => kf g b (fun e => by subst e; cases hg) (fun e => by subst e; cases hg)⟩
  have hM : FrJ [0, 13, 14] m m2 := fun j hj => f1 j (fun e => by subst e; cases hj) (fun e => by subst e; cases hj) (fun e => by subst e; cases hj)
  have htp : RTp h2 m2 := by
    unfold RTp
    rw [k107, f14, h7.1, kf 108 1000 (by decide) (by decide), hM 21 (by decide)]
    refine ⟨⟨rfl, by omega, by omega⟩, hL.tp.2.1, fun k k0' k1 => ?_⟩
    by_cases hk : k < m 14 0
    · rw [kold k (by omega), fold k hk]
      exact hL.tp.2.2 k k0' hk
    · have e1 := kb (k - m 14 0) (by omega) (by omega)
      have e2 := fb (k - m 14 0) (by omega) (by omega)
      rw [h7.1] at e1
      rw [show m 14 0 + (k - m 14 0) = k by omega] at e1 e2
      rw [e1, e2]
      exact ⟨rfl, zi2b_r _⟩
  refine ⟨?_, hc, ?_⟩
  · exact ⟨(by have := hF.1; omega), hL.now.fr hn hF hM (by decide) (by decide), hL.fc.fr hn hF hM (by decide) (by decide), htp, hL.ac.fr hn hF hM (by decide) (by decide), hL.en.fr hn hF hM (by decide) (by decide), hL.pd.fr hn hF hM (by decide) (by decide), hL.ao.fr hn hF hM (by decide) (by decide), hL.fl.fr hn hF hM (by decide) (by decide), hL.fv.fr hL.fl hn hF hM (by decide) (by decide), hL.fj.fr hL.fl hn hF hM (by decide) (by decide), hL.fp.fr hL.fl hn hF hM (by decide) (by decide), hL.fe.fr hL.fl hn hF hM (by decide) (by decide), hL.fa.fr hL.fl hL.fe hn hF hM (by decide) (by decide) (by decide) (by decide), hL.ft.fr hL.fl hn hF hM (by decide) (by decide) (by decide), hL.ne.fr hn hF hM (by decide) (by decide) (by decide) (by decide), hL.sl.fr hn hF hM (by decide) (by decide) (by decide), hL.sv.fr hL.sl hn hF hM (by decide) (by decide), hL.so.fr hL.sl hn hF hM (by decide) (by decide) (by decide), hL.ss.fr hL.sl hn hF hM (by decide) (by decide) (by decide), hL.mz.fr hM (by decide), (let ⟨et_, h_⟩ := hL.et; ⟨et_, h_.fr hM (by decide)⟩)⟩
  · have := hR.2.2
    rw [f14, show h2.2.2.2 = h.2.2.2 by rw [k0]]
    omega
/-- one fund's numbers change -/
theorem RL.Fne (hL : RL h m) {f g : Int} (hf : 0 ≤ f ∧ f < m 32 0) (hg : 0 ≤ g ∧ g < m 32 0) (hne : g ≠ f) : (h.1 10111 1012 g) ≠ (h.1 10111 1012 f) := by
  intro e
  have h1 := (hL.fl.2 f hf.1 hf.2).2.1
  have h2 := (hL.fl.2 g hg.1 hg.2).2.1
  rw [e, h1] at h2
  exact hne h2.symm
theorem RFv.at {S : List Nat} (hL : RL h m) (hF : Fr S h h') (hd : dsj [10111] S) {f : Int} (hf : 0 ≤ f ∧ f < m 32 0) (h1 : ∀ g b, m_has [1401, 1402, 1406, 1407, 1408, 1409, 1410] g = true → b < h.2.2.1 → b ≠ (h.1 10111 1012 f) → h'.1 g b = h.1 g b) (h32 : m' 32 0 = m 32 0) (h2 : ∀ j i, m_has [33, 34, 35, 36, 38, 39, 66] j = true → 0 ≤ i → i < m 32 0 → i ≠ f → m' j i = m j i)
    (h3 : (h'.1 1401 ((h.1 10111 1012 f)) 0 = m' 38 f ∧ h'.1 1402 ((h.1 10111 1012 f)) 0 = m' 39 f ∧ h'.1 1406 ((h.1 10111 1012 f)) 0 = m' 33 f ∧ h'.1 1407 ((h.1 10111 1012 f)) 0 = m' 34 f ∧ h'.1 1408 ((h.1 10111 1012 f)) 0 = m' 36 f ∧ h'.1 1409 ((h.1 10111 1012 f)) 0 = m' 66 f ∧ h'.1 1410 ((h.1 10111 1012 f)) 0 = m' 35 f) ∧ (1 ≤ m' 38 f ∧ m' 38 f ≤ 7) ∧ (1 ≤ m' 39 f ∧ m' 39 f ≤ 7) ∧ (0 ≤ m' 33 f ∧ m' 33 f ≤ 999) ∧ (0 ≤ m' 34 f ∧ m' 34 f ≤ 99999) ∧ (0 ≤ m' 36 f ∧ m' 36 f ≤ 255) ∧ (0 ≤ m' 66 f ∧ m' 66 f ≤ 7) ∧ (0 ≤ m' 35 f ∧ m' 35 f ≤ 1000000000000000)) : RFv h' m' := by
  have hn := hL.nx
  unfold RFv
  rw [hF.2.2 10111 1012 (dj hd (by decide)) (by omega), h32]
  intro g g0 g1
  by_cases e : g = f
  · subst e; exact h3
  · have b3 := (hL.fl.2 g g0 g1).1.2.2
    have ne := hL.Fne hf ⟨g0, g1⟩ e
    rw [h1 1401 _ (by decide) b3 ne, h1 1402 _ (by decide) b3 ne, h1 1406 _ (by decide) b3 ne, h1 1407 _ (by decide) b3 ne, h1 1408 _ (by decide) b3 ne, h1 1409 _ (by decide) b3 ne, h1 1410 _ (by decide) b3 ne, h2 33 g (by decide) g0 g1 e, h2 34 g (by decide) g0 g1 e, h2 35 g (by decide) g0 g1 e, h2 36 g (by decide) g0 g1 e, h2 38 g (by decide) g0 g1 e, h2 39 g (by decide) g0 g1 e, h2 66 g (by decide) g0 g1 e]
    exact hL.fv g g0 g1
theorem J_lay {f k : Int} (hR : Rc (c + 1) h m) (hc : 0 ≤ c) : RD (d + 100) 53 (0, [some (mR 1000), some (mI f), some (mI k)], [], h) (JM 175 [some (mR 1026), some (mI f), some (mI k)] m c) := by
  have hL := hR.1
  have hs := hR.s0 hc
  have n32 := hL.fl.1
  have hf := hL.fnd
  have hn := hL.nx
  by_cases f1 : (0 ≤ f ∧ f < (h.1 20111 1012 0)) ∧ 0 ≤ k ∧ k ≤ 7
  · have fr : 0 ≤ f ∧ f < m 32 0 := by omega
    have fin : JM 175 [some (mR 1026), some (mI f), some (mI k)] m c (rI 1) (dst h 1409 ((h.1 10111 1012 f)) 0 k) := fun d' => M_lay (by omega) (fun _ _ _ _ => ⟨rfl, ?_⟩) (fun hh => absurd hh (by omega))
    · have kF := hf.2.2 f f1.1.1 f1.1.2
      have k0 := n32.1
      refine RDr [] [] 40 ?_
      repeat' first | (refine D_fundAt hf (fun _ _ => ?_) (fun _ => ?_)) | (refine D_in (fun _ _ => ?_) (fun _ => ?_)) | (refine ⟨fun _ => ?_, fun _ => ?_⟩ <;> try omega) | (refine ⟨by first | omega | rfl | assumption | (simp only [dst_1, dst_2, up3_ap, upd1_ap, Nat.reduceEqDiff, ↓reduceIte, eq_self] at * <;> omega) | fail, ?_⟩) | (exact fin) | (simp only [dst_1, dst_2, up3_ap, upd1_ap, Nat.reduceEqDiff, ↓reduceIte, eq_self] at *) | omega | fail
    · have hF : Fr [1409] h (dst h 1409 ((h.1 10111 1012 f)) 0 k) := Fr.rf.ds (by decide)
      have hM : FrJ [0, 66] m (upm (upm m 0 0 0) 66 f k) := (FrJ.rf.up (by decide)).up (by decide)
      have hfv : RFv (dst h 1409 ((h.1 10111 1012 f)) 0 k) (upm (upm m 0 0 0) 66 f k) := by
        refine RFv.at hL hF (by decide) fr (fun g b _ _ hb => ds_o hb g) (by rw [hM 32 (by decide)]) (fun j i hj _ _ hi => ?_) ?_
        · by_cases e : j = 66
          · subst e
            rw [upm_s, upd1_n hi, upm_n (by decide)]
          · rw [upm_n e, upm_n (by intro e0; subst e0; cases hj)]
        · rw [ds_n (by decide), ds_n (by decide), ds_n (by decide), ds_n (by decide), ds_n (by decide), dsz_0, ds_n (by decide), hM 33 (by decide), hM 34 (by decide), hM 35 (by decide), hM 36 (by decide), hM 38 (by decide), hM 39 (by decide), upm_s, upd1_s]
          have := hL.fv f fr.1 fr.2
          exact ⟨⟨this.1.1, this.1.2.1, this.1.2.2.1, this.1.2.2.2.1, this.1.2.2.2.2.1, rfl, this.1.2.2.2.2.2.2⟩, this.2.1, this.2.2.1, this.2.2.2.1, this.2.2.2.2.1, this.2.2.2.2.2.1, f1.2, this.2.2.2.2.2.2.2⟩
      have hmz : RMz (upm (upm m 0 0 0) 66 f k) := by
        have := hL.mz
        unfold RMz at this ⊢
        rw [hM 32 (by decide), hM 37 (by decide), hM 40 (by decide), hM 41 (by decide), hM 43 (by decide), hM 53 (by decide), hM 60 (by decide), hM 61 (by decide), hM 62 (by decide)]
        refine ⟨fun g g0 g1 => ?_, this.2⟩
        rw [upm_s, upd1_n (by omega), upm_n (by decide)]
        exact this.1 g g0 g1
      refine ⟨?_, hc, ?_⟩
      · exact ⟨(by have := hF.1; omega), hL.now.fr hn hF hM (by decide) (by decide), hL.fc.fr hn hF hM (by decide) (by decide), hL.tp.fr hn hF hM (by decide) (by decide), hL.ac.fr hn hF hM (by decide) (by decide), hL.en.fr hn hF hM (by decide) (by decide), hL.pd.fr hn hF hM (by decide) (by decide), hL.ao.fr hn hF hM (by decide) (by decide), hL.fl.fr hn hF hM (by decide) (by decide), hfv, hL.fj.fr hL.fl hn hF hM (by decide) (by decide), hL.fp.fr hL.fl hn hF hM (by decide) (by decide), hL.fe.fr hL.fl hn hF hM (by decide) (by decide), hL.fa.fr hL.fl hL.fe hn hF hM (by decide) (by decide) (by decide) (by decide), hL.ft.fr hL.fl hn hF hM (by decide) (by decide) (by decide), hL.ne.fr hn hF hM (by decide) (by decide) (by decide) (by decide), hL.sl.fr hn hF hM (by decide) (by decide) (by decide), hL.sv.fr hL.sl hn hF hM (by decide) (by decide), hL.so.fr hL.sl hn hF hM (by decide) (by decide) (by decide), hL.ss.fr hL.sl hn hF hM (by decide) (by decide) (by decide), hmz, (let ⟨et_, h_⟩ := hL.et; ⟨et_, h_.fr hM (by decide)⟩)⟩
      · have := hR.2.2
        rw [hM 14 (by decide)]
        show _ ≤ h.2.2.2
        omega
  · have fin : JM 175 [some (mR 1026), some (mI f), some (mI k)] m c (rI 0) h := fun d' => M_lay (by omega) (fun _ _ _ _ => absurd f1 (by omega)) (fun hh => ⟨rfl, hs⟩)
    by_cases f2 : 0 ≤ f ∧ f < (h.1 20111 1012 0)
    · have kF := hf.2.2 f f2.1 f2.2
      refine RDr [] [] 40 ?_
      repeat' first | (refine D_fundAt hf (fun _ _ => ?_) (fun _ => ?_)) | (refine D_in (fun _ _ => ?_) (fun _ => ?_)) | (refine ⟨fun _ => ?_, fun _ => ?_⟩ <;> try omega) | (refine ⟨by first | omega | rfl | assumption | (simp only [dst_1, dst_2, up3_ap, upd1_ap, Nat.reduceEqDiff, ↓reduceIte, eq_self] at * <;> omega) | fail, ?_⟩) | (exact fin) | (simp only [dst_1, dst_2, up3_ap, upd1_ap, Nat.reduceEqDiff, ↓reduceIte, eq_self] at *) | omega | fail
    · refine RDr [] [] 40 ?_
      repeat' first | (refine D_fundAt hf (fun _ _ => ?_) (fun _ => ?_)) | (refine D_in (fun _ _ => ?_) (fun _ => ?_)) | (refine ⟨fun _ => ?_, fun _ => ?_⟩ <;> try omega) | (refine ⟨by first | omega | rfl | assumption | (simp only [dst_1, dst_2, up3_ap, upd1_ap, Nat.reduceEqDiff, ↓reduceIte, eq_self] at * <;> omega) | fail, ?_⟩) | (exact fin) | (simp only [dst_1, dst_2, up3_ap, upd1_ap, Nat.reduceEqDiff, ↓reduceIte, eq_self] at *) | omega | fail
end
