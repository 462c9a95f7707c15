/-! THE DESK READS deeds: the whole -/
set_option maxHeartbeats 3200000
set_option maxRecDepth 100000
section
variable {t : Int → Int} {n : Int} {nm : Nat} {ai r L lo : Int} {d : Nat} {m m0 m1 : mD} {Q : mQ mD}
theorem D_deedL {f : Nat} {dd B : Int} {x : (Int × Int) ⊕ List Cl} (hr0 : r < m0.2.2.1) (hB1 : 1300 ≤ B) (hQ : dPostD t n r dd m0 B x Q) : ∀ (g : Nat) (q : Int) (cs : List Cl) (m : mD), deedC t n f g q cs = some x → DS t n 10 q 0 0 r m → RX r 0 m0 m → DDp t n m0.2.2.1 m dd cs (mks cs 0) (tmo cs 7) (tye cs 1) → dkOk n q cs → B + 900 * (n - q) ≤ m.2.2.2 → RD (d + 64) 208 (10, [some (mR r), some (mR dd), some (mI (cs.length : Int))], [], m) Q
  | 0, q, cs, m, h, _, _, _, _, _ => by cases h
  | g + 1, q, cs, m, h, hS, hX, hD, hk, hB => by
    have kr := hS.1.1
    have hq := hS.2.2.2.1
    have hrb := hS.rb
    have k3 := hS.2.1.2.1
    have hnx := nx_b (t := t) hq.2
    have htk := tke_b (t := t) hq.2
    have hl12 := hk.2.1
    have hX1 := hX.1
    unfold deedC at h
    by_cases hn : n ≤ q
    · rw [if_pos hn] at h
      cases h
      have fin := hQ m hX hD (by omega)
      have hqe : tke t n q = q := by omega
      refine RDr [] [2080010] 20 ?_
      repeat' first | (refine ⟨fun _ => ?_, fun _ => ?_⟩ <;> try omega) | (refine ⟨by first | omega | rfl | assumption | (simp only [dst_1, dst_2, up3_ap, upd1_ap, Nat.reduceEqDiff, ↓reduceIte, eq_self] at * <;> omega) | fail, ?_⟩) | (exact fin) | (simp only [dst_1, dst_2, up3_ap, upd1_ap, Nat.reduceEqDiff, ↓reduceIte, eq_self] at *) | omega | fail
    · rw [if_neg hn] at h
      have hlt := htk.2.2 (by omega)
      have k15 := hD.1.1.1
      have hdlo := hD.2.1
      have hdd := hD.1.1
      have hdl := hD.1.2.1
      -- the clause is over: the semicolon
      have sem : ∀ (c : Cl) (q1 : Int) (m1 : mD), clsC t n f q cs.length (nms cs) = (if isWb t n q1 [59] then cO c (nx t n q1) else cF 1 q1) → DS t n 10 q1 0 0 r m1 → RX r 0 m0 m1 → DDp t n m0.2.2.1 m1 dd (cs ++ [c]) (mks (cs ++ [c]) 0) (tmo (cs ++ [c]) 7) (tye (cs ++ [c]) 1) → B + 900 * (n - q1) ≤ m1.2.2.2 → RD (d + 64) 208 (204, [some (mR r), some (mR dd), some (mI (cs.length : Int))], [], m1) Q := by
        intro c q1 m1 hc S1 X1 D1 B1
        have kr1 := S1.1.1
        have hq1 := S1.2.2.2.1
        by_cases h59 : isWb t n q1 [59] = true
        · rw [if_pos h59] at hc
          have hlt1 := isWb_lt h59 (by decide) hq1.2
          rcases dB_some h with ⟨e, he, _⟩ | ⟨c', q', hc', hk'⟩
          · rw [hc] at he; cases he
          · rw [hc] at hc'
            cases hc'
            have nxt : ∀ m2, RC r m1 m2 → DS t n 10 (nx t n q1) 0 0 r m2 → RD (d + 64) 208 (10, [some (mR r), some (mR dd), some (mI ((cs.length : Int) + 1))], [], m2) Q := by
              intro m2 c2 s2
              have go := D_deedL hr0 hB1 hQ g _ (cs ++ [c]) m2 hk' s2 (X1.tr (RC.x c2)) (D1.x (RC.x c2) hr0) (dk_s ⟨hq.1, hq.2⟩ hk hc) (by rw [c2.1]; omega)
              rw [show (((cs ++ [c]).length : Nat) : Int) = (cs.length : Int) + 1 by rw [List.length_append]; show ((cs.length + 1 : Nat) : Int) = _; omega] at go
              exact go
            clear hQ
            refine RDr [] [2080010] 20 ?_
            repeat' first | (refine hub_i (by dsimp only [kdD]; omega) (E_takes (w := [59]) rfl S1 (by decide) (by omega) (fun _ m2 c2 s2 => ?_) (fun e1 => absurd h59 (by rw [e1]; decide)))) | (refine ⟨fun _ => ?_, fun _ => ?_⟩ <;> try omega) | (refine ⟨by first | omega | rfl | assumption | (simp only [dst_1, dst_2, up3_ap, upd1_ap, Nat.reduceEqDiff, ↓reduceIte, eq_self] at * <;> omega) | fail, ?_⟩) | (exact nxt m2 c2 s2) | (simp only [dst_1, dst_2, up3_ap, upd1_ap, Nat.reduceEqDiff, ↓reduceIte, eq_self] at *) | omega | fail
        · rw [if_neg h59] at hc
          rcases dB_some h with ⟨e, he, hx⟩ | ⟨c', q', hc', hk'⟩
          · rw [hc] at he
            cases he
            subst hx
            refine RDr [] [2080010] 20 ?_
            repeat' first | (refine hub_i (by dsimp only [kdD]; omega) (E_takes (w := [59]) rfl S1 (by decide) (by omega) (fun e1 => absurd e1 h59) (fun _ w m2 g1 => ?_))) | (refine ⟨fun _ => ?_, fun _ => ?_⟩ <;> try omega) | (refine ⟨by first | omega | rfl | assumption | (simp only [dst_1, dst_2, up3_ap, upd1_ap, Nat.reduceEqDiff, ↓reduceIte, eq_self] at * <;> omega) | fail, ?_⟩) | (exact hQ _ _ ((g1.wt X1 (by decide) (by omega)).q)) | (simp only [dst_1, dst_2, up3_ap, upd1_ap, Nat.reduceEqDiff, ↓reduceIte, eq_self] at *) | omega | fail
          · rw [hc] at hc'; cases hc'
      -- a fault
      have flt : ∀ kf p, clsC t n f q cs.length (nms cs) = cF kf p → x = .inl (kf, p) := by
        intro kf p hc
        rcases dB_some h with ⟨e, he, hx⟩ | ⟨c', q', hc', hk'⟩
        · rw [hc] at he; cases he; exact hx
        · rw [hc] at hc'; cases hc'
      obtain ⟨y, hy⟩ : ∃ y, clsC t n f q cs.length (nms cs) = some y := by
        rcases dB_some h with ⟨e, he, hx⟩ | ⟨c', q', hc', hk'⟩
        · exact ⟨_, he⟩
        · exact ⟨_, hc'⟩
      have hun := hy
      unfold clsC at hun
      by_cases he : isWb t n q wEnd = true
      · rw [if_neg (by rw [he]; simp)] at hun
        have hnM : isWb t n q wMark = false := by
          cases hh : isWb t n q wMark with
          | false => rfl
          | true =>
            have a := (isWb_iff.mp he).1
            have b := (isWb_iff.mp hh).1
            have : ((3 : Nat) : Int) = ((4 : Nat) : Int) := a.symm.trans b
            omega
        by_cases h12 : (cs.length : Int) = 12
        · rw [if_pos (Or.inl h12)] at hun
          have hx := flt 4 q (by rw [hy, ← hun])
          subst hx
          clear sem
          refine RDr [] [2080010] 60 ?_
          repeat' first | (refine hub_i (by dsimp only [kdD]; omega) (D_isC (w := wMark) rfl hS (by decide) (fun e1 => absurd e1 (by rw [hnM]; decide)) (fun e1 => ?_))) | (refine hub_i (by dsimp only [kdD]; omega) (D_isC (w := wEnd) rfl hS (by decide) (fun e1 => ?_) (fun e1 => absurd he (by rw [e1]; decide)))) | (refine hub_i (by dsimp only [kdD]; omega) (D_need (k := 1) hS (by omega) (fun _ => ?_) (fun e => absurd e (by decide)))) | (refine hub_i (by dsimp only [kdD]; omega) (D_need (k := 4) hS (by omega) (fun e => absurd rfl e) (fun _ m2 w g1 => ?_))) | (refine ⟨fun _ => ?_, fun _ => ?_⟩ <;> try omega) | (refine ⟨by first | omega | rfl | assumption | (simp only [dst_1, dst_2, up3_ap, upd1_ap, Nat.reduceEqDiff, ↓reduceIte, eq_self] at * <;> omega) | fail, ?_⟩) | (exact hQ _ _ ((g1.wt hX (by decide) (by omega)).q)) | (simp only [dst_1, dst_2, up3_ap, upd1_ap, Nat.reduceEqDiff, ↓reduceIte, eq_self] at *) | omega | fail
        · by_cases h6 : (nms cs).length = 6
          · rw [if_pos (Or.inr ⟨he, h6⟩)] at hun
            have hx := flt 4 q (by rw [hy, ← hun])
            subst hx
            have s6 : m.1 21500 (m.1 1500 dd 0) 0 = 6 := by rw [hD.1.2.2.1, h6]; rfl
            clear sem
            refine RDr [] [2080010] 60 ?_
            repeat' first | (refine hub_i (by dsimp only [kdD]; omega) (D_isC (w := wMark) rfl hS (by decide) (fun e1 => absurd e1 (by rw [hnM]; decide)) (fun e1 => ?_))) | (refine hub_i (by dsimp only [kdD]; omega) (D_isC (w := wEnd) rfl hS (by decide) (fun e1 => ?_) (fun e1 => absurd he (by rw [e1]; decide)))) | (refine hub_i (by dsimp only [kdD]; omega) (D_need (k := 1) hS (by omega) (fun _ => ?_) (fun e => absurd e (by decide)))) | (refine hub_i (by dsimp only [kdD]; omega) (D_need (g := 1) (k := 4) hS (by omega) (fun _ => ?_) (fun e => absurd e (by decide)))) | (refine hub_i (by dsimp only [kdD]; omega) (D_need (g := 0) (k := 4) hS (by omega) (fun e => absurd rfl e) (fun _ m2 w g1 => ?_))) | (refine ⟨fun _ => ?_, fun _ => ?_⟩ <;> try omega) | (refine ⟨by first | omega | rfl | assumption | (simp only [dst_1, dst_2, up3_ap, upd1_ap, Nat.reduceEqDiff, ↓reduceIte, eq_self] at * <;> omega) | fail, ?_⟩) | (exact hQ _ _ ((g1.wt hX (by decide) (by omega)).q)) | (simp only [dst_1, dst_2, up3_ap, upd1_ap, Nat.reduceEqDiff, ↓reduceIte, eq_self] at *) | omega | fail
          · rw [if_neg (fun e => e.elim h12 (fun e => h6 e.2)), if_pos he] at hun
            have s6 : m.1 21500 (m.1 1500 dd 0) 0 < 6 := by rw [hD.1.2.2.1]; have := hk.2.2.1; omega
            have hok := nm_ok hk.2.2.2
            have hl6 := hk.2.2.1
            rcases cB_some hun with ⟨⟨kf, p⟩, hc, hy2⟩ | ⟨c, q1, hc, hk2⟩
            · subst hy2
              have hx := flt kf p hy
              subst hx
              clear sem
              refine RDr [] [2080010] 70 ?_
              repeat' first | (refine hub_i (by dsimp only [kdD]; omega) (D_isC (w := wMark) rfl hS (by decide) (fun e1 => absurd e1 (by rw [hnM]; decide)) (fun e1 => ?_))) | (refine hub_i (by dsimp only [kdD]; omega) (D_isC (w := wEnd) rfl hS (by decide) (fun e1 => ?_) (fun e1 => absurd he (by rw [e1]; decide)))) | (refine hub_i (by dsimp only [kdD]; omega) (D_need (g := 1) hS (by omega) (fun _ => ?_) (fun e => absurd e (by decide)))) | ((refine hub_i (by dsimp only [kdD]; omega) (D_aim (d := d + 1) (B := B) hc hS (by omega) hD.1 hk.2.2.1 hok (by omega) hB (fun w m2 g1 => ?_)))) | (refine ⟨fun _ => ?_, fun _ => ?_⟩ <;> try omega) | (refine ⟨by first | omega | rfl | assumption | (simp only [dst_1, dst_2, up3_ap, upd1_ap, Nat.reduceEqDiff, ↓reduceIte, eq_self] at * <;> omega) | fail, ?_⟩) | (exact hQ _ _ ((g1.tr hX.f).le (by omega))) | (simp only [dst_1, dst_2, up3_ap, upd1_ap, Nat.reduceEqDiff, ↓reduceIte, eq_self] at *) | omega | fail
            · have far := end_far hnx.2.1 hc
              have aft : ∀ a m2, RX r 0 m m2 → DS t n 10 q1 0 0 r m2 → AM m.2.2.1 m2.2.2.1 m2 a c → NMs t n m2 (m2.1 1600 a 0) c.2.2.2.2.2.2 c.2.1 → B + 900 * (n - q1) + 500 ≤ m2.2.2.2 → m2.2.1 (m.1 1500 dd 0) = 11500 ∧ m2.1 21500 (m.1 1500 dd 0) 0 = ((nms cs).length : Int) ∧ m2.2.1 a = 16 ∧ 1000 ≤ m2.2.2.2 ∧ RD (d + 64) 208 (204, [some (mR r), some (mR dd), some (mI (cs.length : Int))], [], dpy (dst (dst m2 11500 (m.1 1500 dd 0) (nms cs).length a) 21500 (m.1 1500 dd 0) 0 ((nms cs).length + 1)) (2 * ((nms cs).length : Int) + 20)) Q := by
                intro a m2 X2 S2 A2 N2 B2
                have D2 := hD.x X2 hr0
                have el : m2.1 1500 dd 0 = m.1 1500 dd 0 := by rw [X2.o hdd.2.1 (by omega) (by omega)]
                have hq1 := S2.2.2.2.1
                have D3 := D2.add (k := 2 * ((nms cs).length : Int) + 20) (a := a) far.2.2.1 (A2.cg (by rw [el]; omega) (Int.le_refl _) (fun _ _ _ _ => rfl) (fun _ _ _ => rfl)) N2
                have f1 := D2.1.2.1.1
                have f2 := D2.1.2.2.1
                rw [el] at D3 f1 f2
                refine ⟨f1, f2, A2.1.2.2, by omega, ?_⟩
                have hl6 := hk.2.2.1
                have hr2 := S2.rb
                have oo : ∀ g x, x ≠ m.1 1500 dd 0 → (dpy (dst (dst m2 11500 (m.1 1500 dd 0) (nms cs).length a) 21500 (m.1 1500 dd 0) 0 ((nms cs).length + 1)) (2 * ((nms cs).length : Int) + 20)).1 g x = m2.1 g x := fun g x hx => by
                  show (dst (dst m2 11500 (m.1 1500 dd 0) (nms cs).length a) 21500 (m.1 1500 dd 0) 0 ((nms cs).length + 1)).1 g x = _
                  rw [ds_o hx, ds_o hx]
                have X02 := hX.tr X2
                refine sem c q1 _ ?_ (S2.ag (fun g => oo g r (by omega)) (oo _ _ (by omega)) rfl (Int.le_refl _)) ⟨X02.1, X02.2.1, fun g b hb => by rw [oo g b (by omega)]; exact X02.2.2 g b hb⟩ ?_ (by show _ ≤ m2.2.2.2 - (2 * ((nms cs).length : Int) + 20); omega)
                · rw [hy, ← hk2]
                · have em : mks (cs ++ [c]) 0 = mks cs 0 := by rw [mks_app]; show (if c.1 = 7 then _ else mks cs 0) = _; rw [if_neg (by omega)]
                  have et : tmo (cs ++ [c]) 7 = tmo cs 7 := by rw [tmo_app]; show (if c.1 = 9 then _ else tmo cs 7) = _; rw [if_neg (by omega)]
                  have ey : tye (cs ++ [c]) 1 = tye cs 1 := by rw [tye_app]; show (if c.1 = 9 then _ else tye cs 1) = _; rw [if_neg (by omega)]
                  rw [em, et, ey]
                  exact D3
              clear hQ sem
              refine RDr [] [2080204] 70 ?_
              repeat' first | (refine hub_i (by dsimp only [kdD]; omega) (D_isC (w := wMark) rfl hS (by decide) (fun e1 => absurd e1 (by rw [hnM]; decide)) (fun e1 => ?_))) | (refine hub_i (by dsimp only [kdD]; omega) (D_isC (w := wEnd) rfl hS (by decide) (fun e1 => ?_) (fun e1 => absurd he (by rw [e1]; decide)))) | (refine hub_i (by dsimp only [kdD]; omega) (D_need (g := 1) hS (by omega) (fun _ => ?_) (fun e => absurd e (by decide)))) | ((refine hub_i (by dsimp only [kdD]; omega) (D_aim (d := d + 1) (B := B) hc hS (by omega) hD.1 hk.2.2.1 hok (by omega) hB (fun a m2 X2 S2 A2 N2 B2 => ?_)); obtain ⟨z1, z2, z3, z4, z5⟩ := aft a m2 X2 S2 A2 N2 B2)) | ((refine ⟨z1, ⟨by omega, by omega, Or.inr (by omega)⟩, ?_⟩; rw [z2])) | (refine ⟨fun _ => ?_, fun _ => ?_⟩ <;> try omega) | (refine ⟨by first | omega | rfl | assumption | (simp only [dst_1, dst_2, up3_ap, upd1_ap, Nat.reduceEqDiff, ↓reduceIte, eq_self] at * <;> omega) | fail, ?_⟩) | (exact z5) | (simp only [dst_1, dst_2, up3_ap, upd1_ap, Nat.reduceEqDiff, ↓reduceIte, eq_self] at *) | omega | fail
      · by_cases hm : isWb t n q wMark = true
        · rw [if_neg (by rw [hm]; simp)] at hun
          have hlt2 := isWb_lt hm (by decide) hq.2
          by_cases h12 : (cs.length : Int) = 12
          · rw [if_pos (Or.inl h12)] at hun
            have hx := flt 4 q (by rw [hy, ← hun])
            subst hx
            clear sem
            refine RDr [] [2080010] 60 ?_
            repeat' first | (refine hub_i (by dsimp only [kdD]; omega) (D_isC (w := wMark) rfl hS (by decide) (fun e1 => ?_) (fun e1 => absurd hm (by rw [e1]; decide)))) | (refine hub_i (by dsimp only [kdD]; omega) (D_need (k := 1) hS (by omega) (fun _ => ?_) (fun e => absurd e (by decide)))) | (refine hub_i (by dsimp only [kdD]; omega) (D_need (k := 4) hS (by omega) (fun e => absurd rfl e) (fun _ m2 w g1 => ?_))) | (refine ⟨fun _ => ?_, fun _ => ?_⟩ <;> try omega) | (refine ⟨by first | omega | rfl | assumption | (simp only [dst_1, dst_2, up3_ap, upd1_ap, Nat.reduceEqDiff, ↓reduceIte, eq_self] at * <;> omega) | fail, ?_⟩) | (exact hQ _ _ ((g1.wt hX (by decide) (by omega)).q)) | (simp only [dst_1, dst_2, up3_ap, upd1_ap, Nat.reduceEqDiff, ↓reduceIte, eq_self] at *) | omega | fail
          · rw [if_neg (fun e => e.elim h12 (fun e => he e.1)), if_neg he, if_pos hm] at hun
            -- the first mark
            have fst : ∀ m1, RC r m m1 → DS t n 10 (nx t n q) 0 0 r m1 → RD (d + 64) 208 (130, [some (mR r), some (mR dd), some (mI (cs.length : Int))], [], m1) Q := by
              intro m1 c1 s1
              have e1 := c1.1
              have D1 := hD.x (RC.x c1) hr0
              have X1 := hX.tr (RC.x (L := 0) c1)
              have kr1 := s1.1.1
              have k151 := D1.1.1.1
              rcases cB_some hun with ⟨⟨kf, p⟩, hc, hy2⟩ | ⟨c, q1, hc, hk2⟩
              · subst hy2
                have hx := flt kf p hy
                subst hx
                rcases num_some hc with ⟨h1, e⟩ | ⟨h1, h2, e⟩ | ⟨h1, h2, h3⟩
                · cases e
                  refine RDr [] [2080010] 40 ?_
                  repeat' first | (refine hub_i (by dsimp only [kdD]; omega) (E_num s1 (by rw [e1]; omega) (fun e => by omega) (fun e => by omega) (fun _ w m2 g1 => ?_))) | (refine ⟨fun _ => ?_, fun _ => ?_⟩ <;> try omega) | (refine ⟨by first | omega | rfl | assumption | (simp only [dst_1, dst_2, up3_ap, upd1_ap, Nat.reduceEqDiff, ↓reduceIte, eq_self] at * <;> omega) | fail, ?_⟩) | (exact hQ _ _ ((g1.wt X1 (by decide) (by rw [e1]; omega)).q)) | (simp only [dst_1, dst_2, up3_ap, upd1_ap, Nat.reduceEqDiff, ↓reduceIte, eq_self] at *) | omega | fail
                · cases e
                  refine RDr [] [2080010] 40 ?_
                  repeat' first | (refine hub_i (by dsimp only [kdD]; omega) (E_num s1 (by rw [e1]; omega) (fun _ a b => absurd (And.intro a b) h2) (fun _ _ w m2 g1 => ?_) (fun e => by omega))) | (refine ⟨fun _ => ?_, fun _ => ?_⟩ <;> try omega) | (refine ⟨by first | omega | rfl | assumption | (simp only [dst_1, dst_2, up3_ap, upd1_ap, Nat.reduceEqDiff, ↓reduceIte, eq_self] at * <;> omega) | fail, ?_⟩) | (exact hQ _ _ ((g1.wt X1 (by decide) (by rw [e1]; omega)).q)) | (simp only [dst_1, dst_2, up3_ap, upd1_ap, Nat.reduceEqDiff, ↓reduceIte, eq_self] at *) | omega | fail
                · have hl3 := srt2_lt (Or.inl h1)
                  have nxt : ∀ m2, RC r m1 m2 → DS t n 10 (nx t n (nx t n q)) 0 0 r m2 → m2.2.1 dd = 15 ∧ RD (d + 64) 208 (148, [some (mR r), some (mR dd), some (mI (cs.length : Int))], [], dst m2 1501 dd 0 (zor (m1.1 1501 dd 0) (zshl 1 (vlu t n (nx t n q))))) Q := by
                    intro m2 c2 s2
                    have e2 := c2.1
                    have D2 := (D1.x (RC.x c2) hr0).st (g := 1501) (v := zor (m1.1 1501 dd 0) (zshl 1 (vlu t n (nx t n q)))) (Or.inl rfl)
                    rw [if_pos rfl, if_neg (by decide), if_neg (by decide), D1.2.2.1.1] at D2
                    refine ⟨by rw [e2]; exact k151, ?_⟩
                    rw [D1.2.2.1.1]
                    refine D_mrk (cs := cs) (B := B) (M := mks cs 0) hr0 f _ _ _ (.inl (kf, p)) (by show semC t n _ = _; unfold semC; rw [h3]; rfl) (s2.st (by omega) (by omega)) ((X1.tr (RC.x c2)).st hdlo.1) D2 (by omega) (by show _ ≤ m2.2.2.2; rw [e2, e1]; have := nx_b (t := t) hnx.2.1; omega) hQ (by omega)
                  clear hQ
                  refine RDr [] [2080148] 40 ?_
                  repeat' first | ((refine hub_i (by dsimp only [kdD]; omega) (E_num s1 (by rw [e1]; omega) (fun _ _ _ m2 c2 s2 => ?_) (fun _ e => absurd h2 e) (fun e => by omega)); obtain ⟨g1, g2⟩ := nxt m2 c2 s2)) | (refine ⟨fun _ => ?_, fun _ => ?_⟩ <;> try omega) | (refine ⟨by first | omega | rfl | assumption | (simp only [dst_1, dst_2, up3_ap, upd1_ap, Nat.reduceEqDiff, ↓reduceIte, eq_self] at * <;> omega) | fail, ?_⟩) | (exact g2) | (simp only [dst_1, dst_2, up3_ap, upd1_ap, Nat.reduceEqDiff, ↓reduceIte, eq_self] at *) | omega | fail
              · obtain ⟨h1, h2, h3⟩ := num_v hc
                have hl3 := srt2_lt (Or.inl h1)
                have hmf := mrk_far _ _ _ (nx_b (t := t) hnx.2.1).2.1 _ _ h3
                have nxt : ∀ m2, RC r m1 m2 → DS t n 10 (nx t n (nx t n q)) 0 0 r m2 → m2.2.1 dd = 15 ∧ RD (d + 64) 208 (148, [some (mR r), some (mR dd), some (mI (cs.length : Int))], [], dst m2 1501 dd 0 (zor (m1.1 1501 dd 0) (zshl 1 (vlu t n (nx t n q))))) Q := by
                  intro m2 c2 s2
                  have e2 := c2.1
                  have D2 := (D1.x (RC.x c2) hr0).st (g := 1501) (v := zor (m1.1 1501 dd 0) (zshl 1 (vlu t n (nx t n q)))) (Or.inl rfl)
                  rw [if_pos rfl, if_neg (by decide), if_neg (by decide), D1.2.2.1.1] at D2
                  refine ⟨by rw [e2]; exact k151, ?_⟩
                  rw [D1.2.2.1.1]
                  refine D_mrk (cs := cs) (B := B) (M := mks cs 0) hr0 f _ _ _ y (by show semC t n _ = _; unfold semC; rw [h3]; exact hk2) (s2.st (by omega) (by omega)) ((X1.tr (RC.x c2)).st hdlo.1) D2 (by omega) (by show _ ≤ m2.2.2.2; rw [e2, e1]; have := nx_b (t := t) hnx.2.1; omega) ?_ (by omega)
                  rcases y with ⟨kf, p⟩ | ⟨c', q'⟩
                  · have hx := flt kf p hy
                    subst hx
                    exact hQ
                  · intro m3 X3 S3 D3 B3
                    have ec : c' = c := by
                      by_cases h59 : isWb t n q1 [59] = true
                      · rw [if_pos h59] at hk2; cases hk2; rfl
                      · rw [if_neg h59] at hk2; cases hk2
                    subst ec
                    rcases dB_some h with ⟨e, he', _⟩ | ⟨c2', q2', hc2', hk2'⟩
                    · rw [hy] at he'; cases he'
                    · rw [hy] at hc2'
                      cases hc2'
                      have em : mks (cs ++ [c']) 0 = zor (mks cs 0) c'.2.1 := by rw [mks_app]; show (if c'.1 = 7 then zor (mks cs 0) c'.2.1 else _) = _; rw [if_pos hmf.2.2.1]
                      have et : tmo (cs ++ [c']) 7 = tmo cs 7 := by rw [tmo_app]; show (if c'.1 = 9 then _ else tmo cs 7) = _; rw [if_neg (by have := hmf.2.2.1; omega)]
                      have ey : tye (cs ++ [c']) 1 = tye cs 1 := by rw [tye_app]; show (if c'.1 = 9 then _ else tye cs 1) = _; rw [if_neg (by have := hmf.2.2.1; omega)]
                      have go := D_deedL hr0 hB1 hQ g _ (cs ++ [c']) m3 hk2' S3 X3 (by rw [em, et, ey]; exact D3.app (by have := hmf.2.2.1; omega)) (dk_s ⟨hq.1, hq.2⟩ hk hy) B3
                      rw [show (((cs ++ [c']).length : Nat) : Int) = (cs.length : Int) + 1 by rw [List.length_append]; show ((cs.length + 1 : Nat) : Int) = _; omega] at go
                      exact go
                clear hQ
                refine RDr [] [2080148] 40 ?_
                repeat' first | ((refine hub_i (by dsimp only [kdD]; omega) (E_num s1 (by rw [e1]; omega) (fun _ _ _ m2 c2 s2 => ?_) (fun _ e => absurd h2 e) (fun e => by omega)); obtain ⟨g1, g2⟩ := nxt m2 c2 s2)) | (refine ⟨fun _ => ?_, fun _ => ?_⟩ <;> try omega) | (refine ⟨by first | omega | rfl | assumption | (simp only [dst_1, dst_2, up3_ap, upd1_ap, Nat.reduceEqDiff, ↓reduceIte, eq_self] at * <;> omega) | fail, ?_⟩) | (exact g2) | (simp only [dst_1, dst_2, up3_ap, upd1_ap, Nat.reduceEqDiff, ↓reduceIte, eq_self] at *) | omega | fail
            clear hQ sem
            refine RDr [] [2080130] 60 ?_
            repeat' first | (refine hub_i (by dsimp only [kdD]; omega) (D_isC (w := wMark) rfl hS (by decide) (fun e1 => ?_) (fun e1 => absurd hm (by rw [e1]; decide)))) | (refine hub_i (by dsimp only [kdD]; omega) (D_isC (w := wEnd) rfl hS (by decide) (fun e1 => absurd e1 he) (fun e1 => ?_))) | (refine hub_i (by dsimp only [kdD]; omega) (D_need (g := 1) hS (by omega) (fun _ => ?_) (fun e => absurd e (by decide)))) | (refine hub_i (by dsimp only [kdD]; omega) (E_cut hS (fun m1 c1 s1 => ?_))) | (refine ⟨fun _ => ?_, fun _ => ?_⟩ <;> try omega) | (refine ⟨by first | omega | rfl | assumption | (simp only [dst_1, dst_2, up3_ap, upd1_ap, Nat.reduceEqDiff, ↓reduceIte, eq_self] at * <;> omega) | fail, ?_⟩) | (exact fst m1 c1 s1) | (simp only [dst_1, dst_2, up3_ap, upd1_ap, Nat.reduceEqDiff, ↓reduceIte, eq_self] at *) | omega | fail
        · by_cases ht : isWb t n q wTrust = true
          · rw [if_neg (by rw [ht]; simp)] at hun
            have hlt2 := isWb_lt ht (by decide) hq.2
            have hnx2 := nx_b (t := t) hnx.2.1
            have hnx3 := nx_b (t := t) hnx2.2.1
            by_cases h12 : (cs.length : Int) = 12
            · rw [if_pos (Or.inl h12)] at hun
              have hx := flt 4 q (by rw [hy, ← hun])
              subst hx
              clear sem
              refine RDr [] [2080010] 60 ?_
              repeat' first | (refine hub_i (by dsimp only [kdD]; omega) (D_isC (w := wMark) rfl hS (by decide) (fun e1 => absurd e1 hm) (fun e1 => ?_))) | (refine hub_i (by dsimp only [kdD]; omega) (D_isC (w := wEnd) rfl hS (by decide) (fun e1 => absurd e1 he) (fun e1 => ?_))) | (refine hub_i (by dsimp only [kdD]; omega) (D_isC (w := wTrust) rfl hS (by decide) (fun e1 => ?_) (fun e1 => absurd ht (by rw [e1]; decide)))) | (refine hub_i (by dsimp only [kdD]; omega) (D_need (k := 1) hS (by omega) (fun _ => ?_) (fun e => absurd e (by decide)))) | (refine hub_i (by dsimp only [kdD]; omega) (D_need (k := 4) hS (by omega) (fun e => absurd rfl e) (fun _ m2 w g1 => ?_))) | (refine ⟨fun _ => ?_, fun _ => ?_⟩ <;> try omega) | (refine ⟨by first | omega | rfl | assumption | (simp only [dst_1, dst_2, up3_ap, upd1_ap, Nat.reduceEqDiff, ↓reduceIte, eq_self] at * <;> omega) | fail, ?_⟩) | (exact hQ _ _ ((g1.wt hX (by decide) (by omega)).q)) | (simp only [dst_1, dst_2, up3_ap, upd1_ap, Nat.reduceEqDiff, ↓reduceIte, eq_self] at *) | omega | fail
            · rw [if_neg (fun e => e.elim h12 (fun e => he e.1)), if_neg he, if_neg hm] at hun
              have sn : ∀ {r : cR} {y : (Int × Int) ⊕ (Cl × Int)}, semC t n r = some y → (∃ e, r = some (.inl e) ∧ y = .inl e) ∨ ∃ c q, r = cO c q ∧ (if isWb t n q [59] then cO c (nx t n q) else cF 1 q) = some y := fun h => cB_some h
              -- the numbers
              have fst : ∀ m1, RC r m m1 → DS t n 10 (nx t n q) 0 0 r m1 → RD (d + 64) 208 (180, [some (mR r), some (mR dd), some (mI (cs.length : Int))], [], m1) Q := by
                intro m1 c1 s1
                have e1 := c1.1
                have D1 := hD.x (RC.x c1) hr0
                have X1 := hX.tr (RC.x (L := 0) c1)
                have kr1 := s1.1.1
                have k151 := D1.1.1.1
                have fl : ∀ kf p, y = .inl (kf, p) → x = .inl (kf, p) := fun kf p e => flt kf p (by rw [hy, e])
                rcases sn hun with ⟨⟨kf, p⟩, hc, hy2⟩ | ⟨c, q1, hc, hk2⟩
                · have hx := fl kf p hy2
                  subst hx
                  rcases num_some hc with ⟨h1, e⟩ | ⟨h1, h2, e⟩ | ⟨h1, h2, h3⟩
                  · cases e
                    refine RDr [] [2080010] 40 ?_
                    repeat' first | (refine hub_i (by dsimp only [kdD]; omega) (E_num s1 (by rw [e1]; omega) (fun e => by omega) (fun e => by omega) (fun _ w m2 g1 => ?_))) | (refine ⟨fun _ => ?_, fun _ => ?_⟩ <;> try omega) | (refine ⟨by first | omega | rfl | assumption | (simp only [dst_1, dst_2, up3_ap, upd1_ap, Nat.reduceEqDiff, ↓reduceIte, eq_self] at * <;> omega) | fail, ?_⟩) | (exact hQ _ _ ((g1.wt X1 (by decide) (by rw [e1]; omega)).q)) | (simp only [dst_1, dst_2, up3_ap, upd1_ap, Nat.reduceEqDiff, ↓reduceIte, eq_self] at *) | omega | fail
                  · cases e
                    refine RDr [] [2080010] 40 ?_
                    repeat' first | (refine hub_i (by dsimp only [kdD]; omega) (E_num s1 (by rw [e1]; omega) (fun _ a b => absurd (And.intro a b) h2) (fun _ _ w m2 g1 => ?_) (fun e => by omega))) | (refine ⟨fun _ => ?_, fun _ => ?_⟩ <;> try omega) | (refine ⟨by first | omega | rfl | assumption | (simp only [dst_1, dst_2, up3_ap, upd1_ap, Nat.reduceEqDiff, ↓reduceIte, eq_self] at * <;> omega) | fail, ?_⟩) | (exact hQ _ _ ((g1.wt X1 (by decide) (by rw [e1]; omega)).q)) | (simp only [dst_1, dst_2, up3_ap, upd1_ap, Nat.reduceEqDiff, ↓reduceIte, eq_self] at *) | omega | fail
                  · have hl3 := srt2_lt (Or.inl h1)
                    have nxt : ∀ m2, RC r m1 m2 → DS t n 10 (nx t n (nx t n q)) 0 0 r m2 → m2.2.1 dd = 15 ∧ RD (d + 64) 208 (191, [some (mR r), some (mR dd), some (mI (cs.length : Int))], [], dst m2 1502 dd 0 (vlu t n (nx t n q))) Q := by
                      intro m2 c2 s2
                      have e2 := c2.1
                      refine ⟨by rw [e2]; exact k151, ?_⟩
                      have S3 : DS t n 10 (nx t n (nx t n q)) 0 0 r (dst m2 1502 dd 0 (vlu t n (nx t n q))) := s2.st (by omega) (by omega)
                      have X3 : RX r 0 m0 (dst m2 1502 dd 0 (vlu t n (nx t n q))) := (X1.tr (RC.x c2)).st hdlo.1
                      have b3 : (dst m2 1502 dd 0 (vlu t n (nx t n q))).2 = m.2 := by show m2.2 = _; rw [e2, e1]
                      have k3' : (dst m2 1502 dd 0 (vlu t n (nx t n q))).1 1502 dd 0 = vlu t n (nx t n q) := dsz_0
                      generalize dst m2 1502 dd 0 (vlu t n (nx t n q)) = m3 at *
                      have kr3 := S3.1.1
                      have k153 : m3.2.1 dd = 15 := by rw [b3]; exact k15
                      rw [← k3'] at h3
                      rcases num_some h3 with ⟨h4, e⟩ | ⟨h4, h5, e⟩ | ⟨h4, h5, h6⟩
                      · cases e
                        refine RDr [] [2080010] 40 ?_
                        repeat' first | (refine hub_i (by dsimp only [kdD]; omega) (E_num S3 (by rw [b3]; omega) (fun e => by omega) (fun e => by omega) (fun _ w m4 g1 => ?_))) | (refine ⟨fun _ => ?_, fun _ => ?_⟩ <;> try omega) | (refine ⟨by first | omega | rfl | assumption | (simp only [dst_1, dst_2, up3_ap, upd1_ap, Nat.reduceEqDiff, ↓reduceIte, eq_self] at * <;> omega) | fail, ?_⟩) | (exact hQ _ _ ((g1.wt X3 (by decide) (by rw [b3]; omega)).q)) | (simp only [dst_1, dst_2, up3_ap, upd1_ap, Nat.reduceEqDiff, ↓reduceIte, eq_self] at *) | omega | fail
                      · cases e
                        refine RDr [] [2080010] 40 ?_
                        repeat' first | (refine hub_i (by dsimp only [kdD]; omega) (E_num S3 (by rw [b3]; omega) (fun _ a b => absurd (And.intro a b) h5) (fun _ _ w m4 g1 => ?_) (fun e => by omega))) | (refine ⟨fun _ => ?_, fun _ => ?_⟩ <;> try omega) | (refine ⟨by first | omega | rfl | assumption | (simp only [dst_1, dst_2, up3_ap, upd1_ap, Nat.reduceEqDiff, ↓reduceIte, eq_self] at * <;> omega) | fail, ?_⟩) | (exact hQ _ _ ((g1.wt X3 (by decide) (by rw [b3]; omega)).q)) | (simp only [dst_1, dst_2, up3_ap, upd1_ap, Nat.reduceEqDiff, ↓reduceIte, eq_self] at *) | omega | fail
                      · cases h6
                    clear hQ
                    refine RDr [] [2080191] 40 ?_
                    repeat' first | ((refine hub_i (by dsimp only [kdD]; omega) (E_num s1 (by rw [e1]; omega) (fun _ _ _ m2 c2 s2 => ?_) (fun _ e => absurd h2 e) (fun e => by omega)); obtain ⟨g1, g2⟩ := nxt m2 c2 s2)) | (refine ⟨fun _ => ?_, fun _ => ?_⟩ <;> try omega) | (refine ⟨by first | omega | rfl | assumption | (simp only [dst_1, dst_2, up3_ap, upd1_ap, Nat.reduceEqDiff, ↓reduceIte, eq_self] at * <;> omega) | fail, ?_⟩) | (exact g2) | (simp only [dst_1, dst_2, up3_ap, upd1_ap, Nat.reduceEqDiff, ↓reduceIte, eq_self] at *) | omega | fail
                · obtain ⟨h1, h2, h3⟩ := num_v hc
                  have hl3 := srt2_lt (Or.inl h1)
                  have nxt : ∀ m2, RC r m1 m2 → DS t n 10 (nx t n (nx t n q)) 0 0 r m2 → m2.2.1 dd = 15 ∧ RD (d + 64) 208 (191, [some (mR r), some (mR dd), some (mI (cs.length : Int))], [], dst m2 1502 dd 0 (vlu t n (nx t n q))) Q := by
                    intro m2 c2 s2
                    have e2 := c2.1
                    refine ⟨by rw [e2]; exact k151, ?_⟩
                    have S3 : DS t n 10 (nx t n (nx t n q)) 0 0 r (dst m2 1502 dd 0 (vlu t n (nx t n q))) := s2.st (by omega) (by omega)
                    have X3 : RX r 0 m0 (dst m2 1502 dd 0 (vlu t n (nx t n q))) := (X1.tr (RC.x c2)).st hdlo.1
                    have D3 := (D1.x (RC.x c2) hr0).st (g := 1502) (v := vlu t n (nx t n q)) (Or.inr (Or.inl rfl))
                    rw [if_neg (by decide), if_pos rfl, if_neg (by decide)] at D3
                    have b3 : (dst m2 1502 dd 0 (vlu t n (nx t n q))).2 = m.2 := by show m2.2 = _; rw [e2, e1]
                    have k3' : (dst m2 1502 dd 0 (vlu t n (nx t n q))).1 1502 dd 0 = vlu t n (nx t n q) := dsz_0
                    generalize dst m2 1502 dd 0 (vlu t n (nx t n q)) = m3 at *
                    have kr3 := S3.1.1
                    have k153 : m3.2.1 dd = 15 := by rw [b3]; exact k15
                    generalize hv : vlu t n (nx t n q) = v at *
                    obtain ⟨h4, h5, h6⟩ := num_v h3
                    cases h6
                    rw [← k3'] at h5
                    have nxt2 : ∀ m4, RC r m3 m4 → DS t n 10 (nx t n (nx t n (nx t n q))) 0 0 r m4 → m4.2.1 dd = 15 ∧ RD (d + 64) 208 (204, [some (mR r), some (mR dd), some (mI (cs.length : Int))], [], dst m4 1503 dd 0 (vlu t n (nx t n (nx t n q)))) Q := by
                      intro m4 c4 s4
                      have e4 := c4.1
                      refine ⟨by rw [e4]; exact k153, ?_⟩
                      have D4 := (D3.x (RC.x c4) hr0).st (g := 1503) (v := vlu t n (nx t n (nx t n q))) (Or.inr (Or.inr rfl))
                      rw [if_neg (by decide), if_neg (by decide), if_pos rfl] at D4
                      refine sem (9, v, vlu t n (nx t n (nx t n q)), [], [], [], 0) (nx t n (nx t n (nx t n q))) _ (by rw [hy, ← hk2]) (s4.st (by omega) (by omega)) ((X3.tr (RC.x c4)).st hdlo.1) ?_ (by show _ ≤ m4.2.2.2; rw [e4, b3]; omega)
                      have em : mks (cs ++ [(9, v, vlu t n (nx t n (nx t n q)), [], [], [], 0)]) 0 = mks cs 0 := by rw [mks_app]; rfl
                      have et : tmo (cs ++ [(9, v, vlu t n (nx t n (nx t n q)), [], [], [], 0)]) 7 = v := by rw [tmo_app]; rfl
                      have ey : tye (cs ++ [(9, v, vlu t n (nx t n (nx t n q)), [], [], [], 0)]) 1 = vlu t n (nx t n (nx t n q)) := by rw [tye_app]; rfl
                      rw [em, et, ey]
                      exact D4.app (fun (e : (9 : Int) = 8) => by omega)
                    clear hQ sem
                    refine RDr [] [2080204] 40 ?_
                    repeat' first | ((refine hub_i (by dsimp only [kdD]; omega) (E_num S3 (by rw [b3]; omega) (fun _ _ _ m4 c4 s4 => ?_) (fun _ e => absurd h5 e) (fun e => by omega)); obtain ⟨g1, g2⟩ := nxt2 m4 c4 s4)) | (refine ⟨fun _ => ?_, fun _ => ?_⟩ <;> try omega) | (refine ⟨by first | omega | rfl | assumption | (simp only [dst_1, dst_2, up3_ap, upd1_ap, Nat.reduceEqDiff, ↓reduceIte, eq_self] at * <;> omega) | fail, ?_⟩) | (exact g2) | (simp only [dst_1, dst_2, up3_ap, upd1_ap, Nat.reduceEqDiff, ↓reduceIte, eq_self] at *) | omega | fail
                  clear hQ sem
                  refine RDr [] [2080191] 40 ?_
                  repeat' first | ((refine hub_i (by dsimp only [kdD]; omega) (E_num s1 (by rw [e1]; omega) (fun _ _ _ m2 c2 s2 => ?_) (fun _ e => absurd h2 e) (fun e => by omega)); obtain ⟨g1, g2⟩ := nxt m2 c2 s2)) | (refine ⟨fun _ => ?_, fun _ => ?_⟩ <;> try omega) | (refine ⟨by first | omega | rfl | assumption | (simp only [dst_1, dst_2, up3_ap, upd1_ap, Nat.reduceEqDiff, ↓reduceIte, eq_self] at * <;> omega) | fail, ?_⟩) | (exact g2) | (simp only [dst_1, dst_2, up3_ap, upd1_ap, Nat.reduceEqDiff, ↓reduceIte, eq_self] at *) | omega | fail
              clear hQ sem
              refine RDr [] [2080180] 60 ?_
              repeat' first | (refine hub_i (by dsimp only [kdD]; omega) (D_isC (w := wMark) rfl hS (by decide) (fun e1 => absurd e1 hm) (fun e1 => ?_))) | (refine hub_i (by dsimp only [kdD]; omega) (D_isC (w := wEnd) rfl hS (by decide) (fun e1 => absurd e1 he) (fun e1 => ?_))) | (refine hub_i (by dsimp only [kdD]; omega) (D_isC (w := wTrust) rfl hS (by decide) (fun e1 => ?_) (fun e1 => absurd ht (by rw [e1]; decide)))) | (refine hub_i (by dsimp only [kdD]; omega) (D_need (g := 1) hS (by omega) (fun _ => ?_) (fun e => absurd e (by decide)))) | (refine hub_i (by dsimp only [kdD]; omega) (E_cut hS (fun m1 c1 s1 => ?_))) | (refine ⟨fun _ => ?_, fun _ => ?_⟩ <;> try omega) | (refine ⟨by first | omega | rfl | assumption | (simp only [dst_1, dst_2, up3_ap, upd1_ap, Nat.reduceEqDiff, ↓reduceIte, eq_self] at * <;> omega) | fail, ?_⟩) | (exact fst m1 c1 s1) | (simp only [dst_1, dst_2, up3_ap, upd1_ap, Nat.reduceEqDiff, ↓reduceIte, eq_self] at *) | omega | fail
          · rw [if_pos (by simp [he, hm, ht])] at hun
            have hx := flt 1 q (by rw [hy, ← hun])
            subst hx
            clear sem
            refine RDr [] [2080010] 60 ?_
            repeat' first | (refine hub_i (by dsimp only [kdD]; omega) (D_isC (w := wMark) rfl hS (by decide) (fun e1 => absurd e1 hm) (fun e1 => ?_))) | (refine hub_i (by dsimp only [kdD]; omega) (D_isC (w := wEnd) rfl hS (by decide) (fun e1 => absurd e1 he) (fun e1 => ?_))) | (refine hub_i (by dsimp only [kdD]; omega) (D_isC (w := wTrust) rfl hS (by decide) (fun e1 => absurd e1 ht) (fun e1 => ?_))) | (refine hub_i (by dsimp only [kdD]; omega) (D_need (k := 1) hS (by omega) (fun e => absurd rfl e) (fun _ m2 w g1 => ?_))) | (refine ⟨fun _ => ?_, fun _ => ?_⟩ <;> try omega) | (refine ⟨by first | omega | rfl | assumption | (simp only [dst_1, dst_2, up3_ap, upd1_ap, Nat.reduceEqDiff, ↓reduceIte, eq_self] at * <;> omega) | fail, ?_⟩) | (exact hQ _ _ ((g1.wt hX (by decide) (by omega)).q)) | (simp only [dst_1, dst_2, up3_ap, upd1_ap, Nat.reduceEqDiff, ↓reduceIte, eq_self] at *) | omega | fail
end
