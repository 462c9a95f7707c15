/-! THE DESK READS deeds: clause by clause -/
set_option maxHeartbeats 3200000
set_option maxRecDepth 100000
abbrev dPostD (t : Int → Int) (n r dd : Int) (m0 : mD) (B : Int) (x : (Int × Int) ⊕ List Cl) (Q : mQ mD) : Prop := match x with
  | .inl (k, p) => ∀ w m', WQ r m0 k p (B - 600) w m' → Q (Sum.inr w) m'
  | .inr cs => ∀ m', RX r 0 m0 m' → DDp t n m0.2.2.1 m' dd cs (mks cs 0) (tmo cs 7) (tye cs 1) → B ≤ m'.2.2.2 → Q (rR dd) m'
section
variable {t : Int → Int} {n : Int} {nm : Nat} {ai r L lo : Int} {d : Nat} {m m0 m1 : mD} {Q : mQ mD}
theorem DDp.app {dd mk mo ye : Int} {cs : List Cl} {c : Cl} (h : DDp t n lo m dd cs mk mo ye) (h8 : c.1 ≠ 8) : DDp t n lo m dd (cs ++ [c]) mk mo ye := by
  have en : nms (cs ++ [c]) = nms cs := by
    rw [nms_app]
    show _ ++ (if c.1 = 8 then [(c.2.2.2.2.2.2, c.2.1)] else []) = _
    rw [if_neg h8, List.append_nil]
  have ee : edl (cs ++ [c]) = edl cs := by
    rw [edl_app]
    show _ ++ (if c.1 = 8 then [c] else []) = _
    rw [if_neg h8, List.append_nil]
  unfold DDp
  rw [en, ee]
  exact h
/-- marks, one by one -/
theorem D_mrk {dd B mo ye M : Int} {cs : List Cl} {i : Int} (hr0 : r < m0.2.2.1) : ∀ (g : Nat) (q b : Int) (m : mD) (x : (Int × Int) ⊕ (Cl × Int)), semC t n (mrkC t n g q b) = some x → DS t n 10 q 0 0 r m → RX r 0 m0 m → DDp t n m0.2.2.1 m dd cs (zor M b) mo ye → 1000 ≤ B → B + 900 * (n - q) ≤ m.2.2.2 →
    (match x with
      | .inl (k, p) => ∀ w m', WQ r m0 k p (B - 600) w m' → Q (Sum.inr w) m'
      | .inr (c, q') => ∀ m', RX r 0 m0 m' → DS t n 10 q' 0 0 r m' → DDp t n m0.2.2.1 m' dd cs (zor M c.2.1) mo ye → B + 900 * (n - q') ≤ m'.2.2.2 → RD (d + 64) 208 (10, [some (mR r), some (mR dd), some (mI (i + 1))], [], m') Q) → -2147483648 ≤ i + 1 ∧ i + 1 ≤ 100 → RD (d + 64) 208 (148, [some (mR r), some (mR dd), some (mI i)], [], m) Q
  | 0, q, b, m, x, h, _, _, _, _, _, _, _ => by cases h
  | g + 1, q, b, m, x, h, hS, hX, hD, hB1, hB, hQ, hi => by
    have kr := hS.1.1
    have hq := hS.2.2.2.1
    have hrb := hS.rb
    have k8 := hS.2.1.2.2.2.2
    have k2 := hS.2.1.1
    have k15 := hD.1.1.1
    have hdd := hD.1.1
    have hnx := nx_b (t := t) hq.2
    have hdlo := hD.2.1.1
    unfold mrkC at h
    by_cases h2 : srt t n q = 2
    · rw [if_pos h2] at h k8
      have hlt := srt2_lt (Or.inl h2)
      have hv0 : 0 ≤ vlu t n q := by
        have hd : dgt t n q = true := by
          unfold srt at h2
          rw [if_neg (by omega)] at h2
          by_cases hs : sml t n q = true
          · rw [if_pos hs] at h2; omega
          · rw [if_neg hs] at h2
            by_cases hg : dgt t n q = true
            · exact hg
            · rw [if_neg hg] at h2; omega
        have sp := past_spec (dgt t n) (n := n) (k := q) (by omega)
        have te := tke_dg hd
        exact (dgv_b _ (by omega) (fun i hi => sp.1 _ (by omega) (by rw [← te]; omega))).1
      by_cases h3 : vlu t n q ≤ 7
      · rw [if_pos h3] at h
        have nxt : ∀ m1, RC r m m1 → DS t n 10 (nx t n q) 0 0 r m1 → m1.2.1 dd = 15 ∧ RD (d + 64) 208 (148, [some (mR r), some (mR dd), some (mI i)], [], dst m1 1501 dd 0 (zor (m.1 1501 dd 0) (zshl 1 (vlu t n q)))) Q := by
          intro m1 c1 s1
          have e1 := c1.1
          have D1 := hD.x (RC.x c1) hr0
          refine ⟨by rw [e1]; exact k15, ?_⟩
          have D2 := D1.st (g := 1501) (v := zor (m.1 1501 dd 0) (zshl 1 (vlu t n q))) (Or.inl rfl)
          rw [if_pos rfl, if_neg (by decide), if_neg (by decide), hD.2.2.1.1, zor_as] at D2
          rw [hD.2.2.1.1, zor_as]
          exact D_mrk hr0 g _ _ _ _ h (s1.st (by omega) (by omega)) ((hX.tr (RC.x c1)).st hdlo) D2 hB1 (by show _ ≤ m1.2.2.2; rw [e1]; omega) hQ hi
        clear hQ
        have kdd : m.1 1501 dd 0 = m.1 1501 dd 0 := rfl
        refine RDr [] [2080148] 40 ?_
        repeat' first | ((refine hub_i (by dsimp only [kdD]; omega) (E_num hS (by omega) (fun _ _ _ m1 c1 s1 => ?_) (fun _ e => by omega) (fun e => by omega)); obtain ⟨g1, g2⟩ := nxt m1 c1 s1)) | (refine ⟨fun _ => ?_, fun _ => ?_⟩ <;> try omega) | (refine ⟨by first | omega | rfl | assumption | (simp only [dst_1, dst_2, up3_ap, upd1_ap, Nat.reduceEqDiff, ↓reduceIte, eq_self] at * <;> omega) | fail, ?_⟩) | (exact g2) | (simp only [dst_1, dst_2, up3_ap, upd1_ap, Nat.reduceEqDiff, ↓reduceIte, eq_self] at *) | omega | fail
      · rw [if_neg h3] at h
        have h : cF 2 q = some x := h
        cases h
        refine RDr [] [] 40 ?_
        repeat' first | (refine hub_i (by dsimp only [kdD]; omega) (E_num hS (by omega) (fun _ _ e => by omega) (fun _ _ w m1 g1 => ?_) (fun e => by omega))) | (refine ⟨fun _ => ?_, fun _ => ?_⟩ <;> try omega) | (refine ⟨by first | omega | rfl | assumption | (simp only [dst_1, dst_2, up3_ap, upd1_ap, Nat.reduceEqDiff, ↓reduceIte, eq_self] at * <;> omega) | fail, ?_⟩) | (exact hQ _ _ ((g1.wt hX (by decide) (by omega)).q)) | (simp only [dst_1, dst_2, up3_ap, upd1_ap, Nat.reduceEqDiff, ↓reduceIte, eq_self] at *) | omega | fail
    · rw [if_neg h2] at h k8
      have h : (if isWb t n q [59] then cO (7, b, 0, [], [], [], 0) (nx t n q) else cF 1 q) = some x := h
      have bdq : byd t n (m.1 402 r 0) = byd t n q := by rw [k2]
      by_cases hg : dgt t n q = true
      · -- a number too long
        have hn : ¬ isWb t n q [59] = true := fun hh => by
          have := ((sgn_iff (by omega)).mp hh).1
          unfold srt at this
          rw [if_neg (by have := (dgt_lt hg).1; omega)] at this
          by_cases hs : sml t n q = true
          · rw [if_pos hs] at this; omega
          · rw [if_neg hs, if_pos hg] at this
            split at this <;> omega
        rw [if_neg hn] at h
        cases h
        have b2 := (byd_d (hS.1.by hq.1).1).mpr hg
        rw [← bdq] at b2
        refine RDr [] [] 60 ?_
        repeat' first | ((refine hub_i (by dsimp only [kdD]; omega) (D_byteAt hS.1 (by omega) ?_))) | (refine D_in (fun _ _ => ?_) (fun _ => ?_)) | (refine hub_i (by dsimp only [kdD]; omega) (E_num hS (by omega) (fun e => by omega) (fun e => by omega) (fun _ w m1 g1 => ?_))) | (refine ⟨fun _ => ?_, fun _ => ?_⟩ <;> try omega) | (refine ⟨by first | omega | rfl | assumption | (simp only [dst_1, dst_2, up3_ap, upd1_ap, Nat.reduceEqDiff, ↓reduceIte, eq_self] at * <;> omega) | fail, ?_⟩) | (exact hQ _ _ ((g1.wt hX (by decide) (by omega)).q)) | (simp only [dst_1, dst_2, up3_ap, upd1_ap, Nat.reduceEqDiff, ↓reduceIte, eq_self] at *) | omega | fail
      · have b2 : ¬ (48 ≤ byd t n (m.1 402 r 0) ∧ byd t n (m.1 402 r 0) ≤ 57) := fun hh => hg ((byd_d (hS.1.by hq.1).1).mp (by rw [← bdq]; exact hh))
        by_cases h59 : isWb t n q [59] = true
        · rw [if_pos h59] at h
          cases h
          have hlt := isWb_lt h59 (by decide) hq.2
          have nxt : ∀ m1, RC r m m1 → DS t n 10 (nx t n q) 0 0 r m1 → RD (d + 64) 208 (10, [some (mR r), some (mR dd), some (mI (i + 1))], [], m1) Q := fun m1 c1 s1 => hQ m1 (hX.tr (RC.x c1)) s1 (hD.x (RC.x c1) hr0) (by rw [c1.1]; omega)
          clear hQ
          refine RDr [] [2080010] 40 ?_
          repeat' first | ((refine hub_i (by dsimp only [kdD]; omega) (D_byteAt hS.1 (by omega) ?_))) | (refine D_in (fun _ _ => ?_) (fun _ => ?_)) | (refine hub_i (by dsimp only [kdD]; omega) (E_takes (w := [59]) rfl hS (by decide) (by omega) (fun _ m1 c1 s1 => ?_) (fun e1 => absurd h59 (by rw [e1]; decide)))) | (refine ⟨fun _ => ?_, fun _ => ?_⟩ <;> try omega) | (refine ⟨by first | omega | rfl | assumption | (simp only [dst_1, dst_2, up3_ap, upd1_ap, Nat.reduceEqDiff, ↓reduceIte, eq_self] at * <;> omega) | fail, ?_⟩) | (exact nxt m1 c1 s1) | (simp only [dst_1, dst_2, up3_ap, upd1_ap, Nat.reduceEqDiff, ↓reduceIte, eq_self] at *) | omega | fail
        · rw [if_neg h59] at h
          cases h
          refine RDr [] [2080010] 40 ?_
          repeat' first | ((refine hub_i (by dsimp only [kdD]; omega) (D_byteAt hS.1 (by omega) ?_))) | (refine D_in (fun _ _ => ?_) (fun _ => ?_)) | (refine hub_i (by dsimp only [kdD]; omega) (E_takes (w := [59]) rfl hS (by decide) (by omega) (fun e1 => absurd e1 h59) (fun _ w m1 g1 => ?_))) | (refine ⟨fun _ => ?_, fun _ => ?_⟩ <;> try omega) | (refine ⟨by first | omega | rfl | assumption | (simp only [dst_1, dst_2, up3_ap, upd1_ap, Nat.reduceEqDiff, ↓reduceIte, eq_self] at * <;> omega) | fail, ?_⟩) | (exact hQ _ _ ((g1.wt hX (by decide) (by omega)).q)) | (simp only [dst_1, dst_2, up3_ap, upd1_ap, Nat.reduceEqDiff, ↓reduceIte, eq_self] at *) | omega | fail
end
