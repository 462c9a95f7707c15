/-! THE DESK READS acts -/
set_option maxHeartbeats 3200000
set_option maxRecDepth 100000
abbrev dPostF (r a : Int) (m0 : mD) (B : Int) (x : (Int × Int) ⊕ List Cl) (Q : mQ mD) : Prop := match x with
  | .inl (k, p) => ∀ w m', WQ r m0 k p (B - 700) w m' → Q (Sum.inr w) m'
  | .inr cs => ∀ m', RX r 0 m0 m' → ACp m0.2.2.1 m'.2.2.1 m' a cs → B ≤ m'.2.2.2 → Q (rR a) m'
section
variable {t : Int → Int} {n : Int} {nm : Nat} {ai r L lo : Int} {d : Nat} {m m0 m1 : mD} {Q : mQ mD}
/-- a rule that holds -/
theorem ACp.hold {hi a w v : Int} {cs : List Cl} {c : Cl} (h : ACp lo hi m a cs) (hw : 0 ≤ w ∧ w < 6) (hc : c.1 = w ∧ c.2.1 = v) : ACp lo hi (dst (dst m 10301 (m.1 301 a 0) w v) 303 a 0 (m.1 303 a 0 + 1)) a (cs ++ [c]) := by
  obtain ⟨⟨⟨a1, a2, a3, a4⟩, a5, a6, a7⟩, b1, b2, b3, b4⟩ := h
  generalize hl : m.1 300 a 0 = l at *
  generalize hh : m.1 301 a 0 = h at *
  have o2 : ∀ g, g ≠ 10301 → g ≠ 303 → (dst (dst m 10301 h w v) 303 a 0 (m.1 303 a 0 + 1)).1 g = m.1 g := fun g h1 h2 => by rw [ds_n h2, ds_n h1]
  have oz : ∀ g b, b ≠ a → b ≠ h → (dst (dst m 10301 h w v) 303 a 0 (m.1 303 a 0 + 1)).1 g b = m.1 g b := fun g b h1 h2 => by rw [ds_o h1, ds_o h2]
  have eb : brl (cs ++ [c]) = brl cs := by
    rw [brl_app]
    show _ ++ (if c.1 = 6 then [c] else []) = _
    rw [if_neg (by omega), List.append_nil]
  unfold ACp
  rw [o2 300 (by decide) (by decide), o2 301 (by decide) (by decide), hl, hh, o2 20300 (by decide) (by decide), o2 10300 (by decide) (by decide), o2 700 (by decide) (by decide), o2 701 (by decide) (by decide), eb]
  refine ⟨⟨⟨a1, a2, a3, a4⟩, a5, a6, a7⟩, ?_, fun w' w0 w1 => ?_, b3, fun i hi => ?_⟩
  · rw [dsz_0, b1, List.length_append]
    show _ = ((cs.length + 1 : Nat) : Int)
    omega
  · rw [ds_n (by decide), dst_1, up3_s, upd1_ap, hvl_app]
    show _ = (if c.1 = w' then c.2.1 else hvl w' cs (tdef w'))
    by_cases e : w' = w
    · rw [if_pos e, if_pos (by omega), hc.2]
    · rw [if_neg e, if_neg (by omega)]; exact b2 w' w0 w1
  · obtain ⟨c1, c2, c3⟩ := b4 i hi
    exact ⟨c1, c2, c3.cg (Nat.le_refl _) (Int.le_refl _) (Int.le_refl _) (fun g b b0 _ => oz g b (by omega) (by omega)) (fun _ _ _ => rfl)⟩
/-- a bar -/
theorem ACp.bar {hi a b k : Int} {cs : List Cl} {c : Cl} (h : ACp lo hi m a cs) (h6 : c.1 = 6) (hb : m.1 301 a 0 < b ∧ b < hi ∧ m.2.1 b = 7) (hv : m.1 700 b 0 = c.2.1) (hT : TCb (m.1 301 a 0 + 1) hi m (c.2.2.2.2.1.length + 10) (m.1 701 b 0) c.2.2.2.2.1) : ACp lo hi (dst (dpy (dst (dst m 10300 (m.1 300 a 0) (m.1 20300 (m.1 300 a 0) 0) b) 20300 (m.1 300 a 0) 0 (m.1 20300 (m.1 300 a 0) 0 + 1)) k) 303 a 0 (m.1 303 a 0 + 1)) a (cs ++ [c]) := by
  obtain ⟨⟨⟨a1, a2, a3, a4⟩, a5, a6, a7⟩, b1, b2, b3, b4⟩ := h
  generalize hl : m.1 300 a 0 = l at *
  generalize hh : m.1 301 a 0 = h at *
  rw [b3]
  have o2 : ∀ g, g ≠ 10300 → g ≠ 20300 → g ≠ 303 → (dst (dpy (dst (dst m 10300 l ((brl cs).length : Int) b) 20300 l 0 (((brl cs).length : Int) + 1)) k) 303 a 0 (m.1 303 a 0 + 1)).1 g = m.1 g := fun g h1 h2 h3 => by
    rw [ds_n h3]
    show (dst (dst m 10300 l ((brl cs).length : Int) b) 20300 l 0 (((brl cs).length : Int) + 1)).1 g = _
    rw [ds_n h2, ds_n h1]
  have oz : ∀ g x, x ≠ a → x ≠ l → (dst (dpy (dst (dst m 10300 l ((brl cs).length : Int) b) 20300 l 0 (((brl cs).length : Int) + 1)) k) 303 a 0 (m.1 303 a 0 + 1)).1 g x = m.1 g x := fun g x h1 h2 => by
    rw [ds_o h1]
    show (dst (dst m 10300 l ((brl cs).length : Int) b) 20300 l 0 (((brl cs).length : Int) + 1)).1 g x = _
    rw [ds_o h2, ds_o h2]
  have eb : brl (cs ++ [c]) = brl cs ++ [c] := by
    rw [brl_app]
    show _ ++ (if c.1 = 6 then [c] else []) = _
    rw [if_pos h6]
  have e2 : ∀ i, (dst (dpy (dst (dst m 10300 l ((brl cs).length : Int) b) 20300 l 0 (((brl cs).length : Int) + 1)) k) 303 a 0 (m.1 303 a 0 + 1)).1 10300 l i = if i = ((brl cs).length : Int) then b else m.1 10300 l i := fun i => by
    rw [ds_n (by decide)]
    show (dst (dst m 10300 l ((brl cs).length : Int) b) 20300 l 0 (((brl cs).length : Int) + 1)).1 10300 l i = _
    rw [ds_n (by decide), dst_1, up3_s, upd1_ap]
  have len : (brl cs ++ [c]).length = (brl cs).length + 1 := by rw [List.length_append]; rfl
  unfold ACp
  rw [o2 300 (by decide) (by decide) (by decide), o2 301 (by decide) (by decide) (by decide), hl, hh, o2 10301 (by decide) (by decide) (by decide), o2 700 (by decide) (by decide) (by decide), o2 701 (by decide) (by decide) (by decide), eb]
  refine ⟨⟨⟨a1, a2, a3, a4⟩, a5, a6, a7⟩, ?_, fun w' w0 w1 => ?_, ?_, fun i hi => ?_⟩
  · rw [dsz_0, b1, List.length_append]
    show _ = ((cs.length + 1 : Nat) : Int)
    omega
  · rw [hvl_app]
    show _ = (if c.1 = w' then c.2.1 else hvl w' cs (tdef w'))
    rw [if_neg (by omega)]
    exact b2 w' w0 w1
  · rw [ds_n (by decide), len]
    show (dst (dst m 10300 l ((brl cs).length : Int) b) 20300 l 0 (((brl cs).length : Int) + 1)).1 20300 l 0 = _
    rw [dsz_0]
    omega
  · rw [len] at hi
    rw [e2]
    have tg : ∀ {n : Nat} {y : Int} {cc : List Int} {hi : Int}, TCb (h + 1) hi m n y cc → TCb (h + 1) hi (dst (dpy (dst (dst m 10300 l ((brl cs).length : Int) b) 20300 l 0 (((brl cs).length : Int) + 1)) k) 303 a 0 (m.1 303 a 0 + 1)) n y cc := fun hh => hh.cg (Nat.le_refl _) (Int.le_refl _) (Int.le_refl _) (fun g x x0 _ => oz g x (by omega) (by omega)) (fun _ _ _ => rfl)
    by_cases e : i = (brl cs).length
    · rw [if_pos (by omega), e, List.getD_eq_getElem?_getD, List.getElem?_append_right (Nat.le_refl _), Nat.sub_self]
      exact ⟨hb, hv, tg hT⟩
    · rw [if_neg (by omega), List.getD_eq_getElem?_getD, List.getElem?_append_left (by omega), ← List.getD_eq_getElem?_getD]
      obtain ⟨c1, c2, c3⟩ := b4 i (by omega)
      exact ⟨c1, c2, tg c3⟩
theorem D_actL {f : Nat} {a B : Int} {x : (Int × Int) ⊕ List Cl} {x2 x3 : Option mV} (hr0 : r < m0.2.2.1) (hB1 : 2000 ≤ B) (hQ : dPostF r a m0 B x Q) : ∀ (g : Nat) (q : Int) (cs : List Cl) (m : mD) (x2 x3 : Option mV), actC t n f g q cs = some x → DS t n 13 q 0 0 r m → RX r 0 m0 m → ACp m0.2.2.1 m.2.2.1 m a cs → akOk q cs → B + 900 * (n - q) ≤ m.2.2.2 → RD (d + 64) 191 (8, [some (mR r), some (mR a), x2, x3], [], m) Q
  | 0, q, cs, m, x2, x3, h, _, _, _, _, _ => by cases h
  | g + 1, q, cs, m, x2, x3, h, hS, hX, hA, hk, hB => by
    have kr := hS.1.1
    have hq := hS.2.2.2.1
    have hrb := hS.rb
    have k3 := hS.2.1.2.1
    have hnx := nx_b (t := t) hq.2
    have htk := tke_b (t := t) hq.2
    have hl20 := hk.2.1
    have hX1 := hX.1
    unfold actC at h
    by_cases hn : n ≤ q
    · rw [if_pos hn] at h
      cases h
      have fin := hQ m hX hA (by omega)
      have hqe : tke t n q = q := by omega
      refine RDr [] [1910008] 20 ?_
      repeat' first | (refine ⟨fun _ => ?_, fun _ => ?_⟩ <;> try omega) | (refine ⟨by first | omega | rfl | assumption | (simp only [dst_1, dst_2, up3_ap, upd1_ap, Nat.reduceEqDiff, ↓reduceIte, eq_self] at * <;> omega) | fail, ?_⟩) | (exact fin) | (simp only [dst_1, dst_2, up3_ap, upd1_ap, Nat.reduceEqDiff, ↓reduceIte, eq_self] at *) | omega | fail
    · rw [if_neg hn] at h
      have hlt := htk.2.2 (by omega)
      have k3a := hA.1.2.1
      have hab := hA.1.1
      have e303 := hA.2.1
      have hnx2 := nx_b (t := t) hnx.2.1
      have hnx3 := nx_b (t := t) hnx2.2.1
      have hwb := wix_b (t := t) (n := n) (q := q) wRul
      have hwl : (wRul.length : Int) = 6 := rfl
      have hnxlt := hnx.2.2 (by omega)
      have sn : ∀ {r : cR} {y : (Int × Int) ⊕ (Cl × Int)}, semC t n r = some y → (∃ e, r = some (.inl e) ∧ y = .inl e) ∨ ∃ c q, r = cO c q ∧ (if isWb t n q [59] then cO c (nx t n q) else cF 1 q) = some y := fun h => cB_some h
      -- the rule is over: the semicolon; the count comes afterwards
      have sem : ∀ (c : Cl) (q1 : Int) (m1 : mD) (x2 x3 : Option mV), rulC t n f q cs.length = (if isWb t n q1 [59] then cO c (nx t n q1) else cF 1 q1) → DS t n 13 q1 0 0 r m1 → RX r 0 m0 m1 → m1.2.1 a = 3 → m0.2.2.1 ≤ a → a < m1.2.2.1 → m1.1 303 a 0 = (cs.length : Int) → ACp m0.2.2.1 m1.2.2.1 (dst m1 303 a 0 (m1.1 303 a 0 + 1)) a (cs ++ [c]) → B + 900 * (n - q1) ≤ m1.2.2.2 → RD (d + 64) 191 (150, [some (mR r), some (mR a), x2, x3], [], m1) Q := by
        intro c q1 m1 x2 x3 hc S1 X1 ka la ha1 e3 A1 B1
        have kr1 := S1.1.1
        have hq1 := S1.2.2.2.1
        have hr1 := S1.rb
        by_cases h59 : isWb t n q1 [59] = true
        · rw [if_pos h59] at hc
          have hlt1 := isWb_lt h59 (by decide) hq1.2
          rcases dB_some h with ⟨e, he, _⟩ | ⟨c', q', hc', hk'⟩
          · rw [hc] at he; cases he
          · rw [hc] at hc'
            cases hc'
            have nxt : ∀ m2, RC r m1 m2 → DS t n 13 (nx t n q1) 0 0 r m2 → RD (d + 64) 191 (156, [some (mR r), some (mR a), x2, x3], [], m2) Q := by
              intro m2 c2 s2
              have e2 := c2.1
              have cg : ∀ g b, b ≠ r → m2.1 g b = m1.1 g b := fun g b hb => by
                rcases c2.2 g b with z | z
                · exact z
                · exact absurd z.1 hb
              have ka2 : m2.2.1 a = 3 := by rw [e2]; exact ka
              have e32 : m2.1 303 a 0 = (cs.length : Int) := by rw [cg 303 a (by omega)]; exact e3
              have A2 : ACp m0.2.2.1 (dst m2 303 a 0 (m2.1 303 a 0 + 1)).2.2.1 (dst m2 303 a 0 (m2.1 303 a 0 + 1)) a (cs ++ [c]) := by
                rw [cg 303 a (by omega)]
                refine A1.cg (Int.le_refl _) (by show m1.2.2.1 ≤ m2.2.2.1; rw [e2]; exact Int.le_refl _) (fun g b b0 _ => ?_) (fun b _ _ => by show m2.2.1 b = m1.2.1 b; rw [e2])
                by_cases hb : b = a
                · subst hb
                  by_cases hg : g = 303
                  · subst hg
                    rw [dst_1, up3_s, dst_1, up3_s, cg 303 b (by omega)]
                  · rw [ds_n hg, ds_n hg, cg g b (by omega)]
                · rw [ds_o hb, ds_o hb, cg g b (by omega)]
              have go := D_actL (x2 := x2) (x3 := x3) hr0 hB1 hQ g _ (cs ++ [c]) (dst m2 303 a 0 (m2.1 303 a 0 + 1)) x2 x3 hk' (s2.st (by omega) (by omega)) ((X1.tr (RC.x c2)).st la) A2 (ak_s ⟨hq.1, hq.2⟩ (by omega) hk hc) (by show _ ≤ m2.2.2.2; rw [e2]; omega)
              clear hQ
              refine RDr [] [1910008] 20 ?_
              repeat' first | (refine ⟨fun _ => ?_, fun _ => ?_⟩ <;> try omega) | (refine ⟨by first | omega | rfl | assumption | (simp only [dst_1, dst_2, up3_ap, upd1_ap, Nat.reduceEqDiff, ↓reduceIte, eq_self] at * <;> omega) | fail, ?_⟩) | (exact go) | (simp only [dst_1, dst_2, up3_ap, upd1_ap, Nat.reduceEqDiff, ↓reduceIte, eq_self] at *) | omega | fail
            clear hQ
            refine RDr [] [1910156] 20 ?_
            repeat' first | (refine hub_i (by dsimp only [kdD]; omega) (E_takes (w := [59]) rfl S1 (by decide) (by omega) (fun _ m2 c2 s2 => ?_) (fun e1 => absurd h59 (by rw [e1]; decide)))) | (refine ⟨fun _ => ?_, fun _ => ?_⟩ <;> try omega) | (refine ⟨by first | omega | rfl | assumption | (simp only [dst_1, dst_2, up3_ap, upd1_ap, Nat.reduceEqDiff, ↓reduceIte, eq_self] at * <;> omega) | fail, ?_⟩) | (exact nxt m2 c2 s2) | (simp only [dst_1, dst_2, up3_ap, upd1_ap, Nat.reduceEqDiff, ↓reduceIte, eq_self] at *) | omega | fail
        · rw [if_neg h59] at hc
          rcases dB_some h with ⟨e, he, hx⟩ | ⟨c', q', hc', hk'⟩
          · rw [hc] at he
            cases he
            subst hx
            refine RDr [] [1910156] 20 ?_
            repeat' first | (refine hub_i (by dsimp only [kdD]; omega) (E_takes (w := [59]) rfl S1 (by decide) (by omega) (fun e1 => absurd e1 h59) (fun _ w m2 g1 => ?_))) | (refine ⟨fun _ => ?_, fun _ => ?_⟩ <;> try omega) | (refine ⟨by first | omega | rfl | assumption | (simp only [dst_1, dst_2, up3_ap, upd1_ap, Nat.reduceEqDiff, ↓reduceIte, eq_self] at * <;> omega) | fail, ?_⟩) | (exact hQ _ _ ((g1.wt X1 (by decide) (by omega)).q)) | (simp only [dst_1, dst_2, up3_ap, upd1_ap, Nat.reduceEqDiff, ↓reduceIte, eq_self] at *) | omega | fail
          · rw [hc] at hc'; cases hc'
      have flt : ∀ kf p, rulC t n f q cs.length = cF kf p → x = .inl (kf, p) := by
        intro kf p hc
        rcases dB_some h with ⟨e, he, hx⟩ | ⟨c', q', hc', hk'⟩
        · rw [hc] at he; cases he; exact hx
        · rw [hc] at hc'; cases hc'
      obtain ⟨y, hy⟩ : ∃ y, rulC t n f q cs.length = some y := by
        rcases dB_some h with ⟨e, he, hx⟩ | ⟨c', q', hc', hk'⟩
        · exact ⟨_, he⟩
        · exact ⟨_, hc'⟩
      have hun := hy
      unfold rulC at hun
      have wfl : ∀ (m1 : mD), RX r 0 m m1 → ACp m0.2.2.1 m1.2.2.1 m1 a cs := fun m1 x1 => hA.x x1 hr0 (by omega)
      by_cases h0 : wix t n q wRul = -1 ∧ ¬ isWb t n q wBar = true
      · rw [if_pos h0] at hun
        have hx := flt 1 q (by rw [hy, ← hun])
        subst hx
        clear sem
        refine RDr [] [1910008] 40 ?_
        repeat' first | ((refine hub_i (by dsimp only [kdD]; omega) (E_wordOf (many := 6) (ws := wRul) (by decide) (by decide) WS_rul (by decide) (by decide) (by decide) hS (by omega) (fun m1 x1 s1 b1 => ?_)); rw [show wRul.take 6 = wRul from rfl, h0.1]; have kr1 := s1.1.1)) | (refine hub_i (by dsimp only [kdD]; omega) (D_isC (w := wBar) rfl s1 (by decide) (fun e1 => absurd e1 h0.2) (fun e1 => ?_))) | (refine hub_i (by dsimp only [kdD]; omega) (D_need s1 (by omega) (fun e => absurd rfl e) (fun _ m2 w g1 => ?_))) | (refine ⟨fun _ => ?_, fun _ => ?_⟩ <;> try omega) | (refine ⟨by first | omega | rfl | assumption | (simp only [dst_1, dst_2, up3_ap, upd1_ap, Nat.reduceEqDiff, ↓reduceIte, eq_self] at * <;> omega) | fail, ?_⟩) | (exact hQ _ _ ((g1.wt (hX.tr x1) (by decide) (by omega)).q)) | (simp only [dst_1, dst_2, up3_ap, upd1_ap, Nat.reduceEqDiff, ↓reduceIte, eq_self] at *) | omega | fail
      · rw [if_neg h0] at hun
        generalize hw : wix t n q wRul = w at *
        -- both checks are past
        have bar : w = -1 → isWb t n q wBar = true := fun e => by
          by_cases z : isWb t n q wBar = true
          · exact z
          · exact absurd ⟨e, z⟩ h0
        have past : ∀ m1, RX r 0 m m1 → DS t n 13 q 0 0 r m1 → m.2.2.2 - 240 ≤ m1.2.2.2 → RD (d + 64) 191 (48, [some (mR r), some (mR a), some (mI w), x3], [], m1) Q := by
          intro m1 x1 s1 b1
          have kr1 := s1.1.1
          have A1 := wfl m1 x1
          have ka1 := A1.1.2.1
          have e31 := A1.2.1
          have X1 := hX.tr x1
          have x11 := x1.1
          by_cases h20 : (cs.length : Int) = 20
          · rw [if_pos h20] at hun
            have hx := flt 4 q (by rw [hy, ← hun])
            subst hx
            clear sem
            refine RDr [] [1910008] 40 ?_
            repeat' first | (refine hub_i (by dsimp only [kdD]; omega) (D_need s1 (by omega) (fun e => absurd rfl e) (fun _ m2 w g1 => ?_))) | (refine ⟨fun _ => ?_, fun _ => ?_⟩ <;> try omega) | (refine ⟨by first | omega | rfl | assumption | (simp only [dst_1, dst_2, up3_ap, upd1_ap, Nat.reduceEqDiff, ↓reduceIte, eq_self] at * <;> omega) | fail, ?_⟩) | (exact hQ _ _ ((g1.wt X1 (by decide) (by omega)).q)) | (simp only [dst_1, dst_2, up3_ap, upd1_ap, Nat.reduceEqDiff, ↓reduceIte, eq_self] at *) | omega | fail
          · rw [if_neg h20] at hun
            have cut : ∀ m2, RC r m1 m2 → DS t n 13 (nx t n q) 0 0 r m2 → RD (d + 64) 191 (71, [some (mR r), some (mR a), some (mI w), x3], [], m2) Q := by
              intro m2 c2 s2
              have e2 := c2.1
              have kr2 := s2.1.1
              have A2 := A1.x (RC.x c2) hr0 (by omega)
              have ka2 := A2.1.2.1
              have hab2 := A2.1.1
              have X2 := X1.tr (RC.x (L := 0) c2)
              have e32 := A2.2.1
              have hr2 := s2.rb
              by_cases hw1 : w = -1
              · rw [if_pos hw1] at hun
                have hwk := wix_b (t := t) (n := n) (q := nx t n q) wKin
                have hwl4 : (wKin.length : Int) = 4 := rfl
                generalize hv : wix t n (nx t n q) wKin = v at hun hwk
                -- the kind is known
                have knd : ∀ m3, RX r 0 m2 m3 → DS t n 13 (nx t n q) 0 0 r m3 → m2.2.2.2 - 240 ≤ m3.2.2.2 → RD (d + 64) 191 (84, [some (mR r), some (mR a), some (mI w), some (mI v)], [], m3) Q := by
                  intro m3 x3 s3 b3
                  have kr3 := s3.1.1
                  have X3 := X2.tr x3
                  have A3 := A2.x x3 hr0 (by omega)
                  have x31 := x3.1
                  rw [e2] at b3
                  by_cases hv1 : v = -1
                  · rw [if_pos hv1] at hun
                    have hx := flt 1 (nx t n q) (by rw [hy, ← hun]; rfl)
                    subst hx
                    clear sem
                    refine RDr [] [1910008] 40 ?_
                    repeat' first | (refine hub_i (by dsimp only [kdD]; omega) (D_need s3 (by omega) (fun e => absurd rfl e) (fun _ m4 w g1 => ?_))) | (refine ⟨fun _ => ?_, fun _ => ?_⟩ <;> try omega) | (refine ⟨by first | omega | rfl | assumption | (simp only [dst_1, dst_2, up3_ap, upd1_ap, Nat.reduceEqDiff, ↓reduceIte, eq_self] at * <;> omega) | fail, ?_⟩) | (exact hQ _ _ ((g1.wt X3 (by decide) (by omega)).q)) | (simp only [dst_1, dst_2, up3_ap, upd1_ap, Nat.reduceEqDiff, ↓reduceIte, eq_self] at *) | omega | fail
                  · rw [if_neg hv1] at hun
                    by_cases hi : isWb t n (nx t n (nx t n q)) wIf = true
                    · rw [if_pos hi] at hun
                      have hil := isWb_lt hi (by decide) hnx2.2.1
                      -- the condition is to come
                      have con : ∀ m4, RX r 0 m3 m4 → m4.2 = m3.2 → DS t n 13 (nx t n (nx t n (nx t n q))) 0 0 r m4 → RD (d + 64) 191 (109, [some (mR r), some (mR a), some (mI w), some (mI v)], [], m4) Q := by
                        intro m4 x4 e4 s4
                        have X4 := X3.tr x4
                        have A4 := A3.x x4 hr0 (by omega)
                        have hab4 := A4.1.1
                        have ka4 := A4.1.2.1
                        have hr4 := s4.rb
                        have tl : TLo m4.2.2.1 r 0 0 m4 [] := Or.inl ⟨rfl, rfl⟩
                        have x41 := X4.1
                        have bsz : ((brl cs).length : Int) ≤ 20 := by have := brl_len cs; omega
                        have go : ∀ b, m4.2.2.1 ≤ b → (dal m4 b 7 (((2 : Nat) : Int) + 4)).2.2.2 = m4.2.2.2 - 6 ∧ DS t n 13 (nx t n (nx t n (nx t n q))) 0 0 r (dal m4 b 7 (((2 : Nat) : Int) + 4)) ∧ (dal m4 b 7 (((2 : Nat) : Int) + 4)).2.2.1 = b + 1 ∧ ∀ y m5 c2 l2 q4, hun = hun → prs t n 13 f 6 0 (nx t n (nx t n (nx t n q))) [] [] = pO c2 l2 q4 → RX r 0 (dal m4 b 7 (((2 : Nat) : Int) + 4)) m5 → DS t n 13 q4 0 0 r m5 → TCb (b + 1) m5.2.2.1 m5 (c2.length + (lvl 0 + 2)) y c2 → B + 900 * (n - q4) + 800 ≤ m5.2.2.2 → m5.2.1 b = 7 ∧ m5.2.1 (m4.1 300 a 0) = 10300 ∧ (dst (dst m5 700 b 0 v) 701 b 0 y).1 20300 (m4.1 300 a 0) 0 = ((brl cs).length : Int) ∧ RD (d + 64) 191 (150, [some (mR r), some (mR a), some (mI w), some (mI v)], [], dpy (dst (dst (dst (dst m5 700 b 0 v) 701 b 0 y) 10300 (m4.1 300 a 0) ((dst (dst m5 700 b 0 v) 701 b 0 y).1 20300 (m4.1 300 a 0) 0) b) 20300 (m4.1 300 a 0) 0 ((dst (dst m5 700 b 0 v) 701 b 0 y).1 20300 (m4.1 300 a 0) 0 + 1)) (2 * (dst (dst m5 700 b 0 v) 701 b 0 y).1 20300 (m4.1 300 a 0) 0 + 20)) Q := by
                          intro b hb
                          have dx := dal_x (r := r) (L := 0) (k := 7) (c := ((2 : Nat) : Int) + 4) hb
                          refine ⟨dx.2.2.2.2, s4.al hb, dx.2.2.2.1, fun y m5 c2 l2 q4 _ hp x5 s5 t5 b5 => ?_⟩
                          have x45 := dx.1.tr x5
                          have A5 := A4.x x45 hr0 (by omega)
                          have x51 := x5.1
                          rw [dx.2.2.2.1] at x51
                          have kb : m5.2.1 b = 7 := by rw [x5.2.1 b (by rw [dx.2.2.2.1]; omega)]; exact dx.2.2.1
                          have hab5 := A5.1.1
                          have oa : ∀ g, m5.1 g a = m4.1 g a := fun g => x45.o (by omega) (by omega) (by omega) g
                          have el : m5.1 300 a 0 = m4.1 300 a 0 := by rw [oa]
                          have eh : m5.1 301 a 0 = m4.1 301 a 0 := by rw [oa]
                          have q15 := s5.2.2.2.1
                          have A6 : ACp m0.2.2.1 m5.2.2.1 (dst (dst m5 700 b 0 v) 701 b 0 y) a cs := A5.1.1 |> fun _ => by
                            have H := A5
                            obtain ⟨⟨h1, h2, h3, h4⟩, g1, g2, g3, g4⟩ := H
                            have o7 : ∀ g, g ≠ 700 → g ≠ 701 → (dst (dst m5 700 b 0 v) 701 b 0 y).1 g = m5.1 g := fun g z1 z2 => by rw [ds_n z2, ds_n z1]
                            have o8 : ∀ g x, x ≠ b → (dst (dst m5 700 b 0 v) 701 b 0 y).1 g x = m5.1 g x := fun g x z => by rw [ds_o z, ds_o z]
                            have hA4 : ∀ i : Nat, i < (brl cs).length → m5.1 10300 (m5.1 300 a 0) i < b := by
                              intro i hi
                              have z := (A4.2.2.2.2 i hi).1
                              rw [el, x45.o (b := m4.1 300 a 0) (by omega) (by omega) (by omega)]
                              omega
                            unfold ACp
                            rw [o7 300 (by decide) (by decide), o7 301 (by decide) (by decide), o7 303 (by decide) (by decide), o7 10301 (by decide) (by decide), o7 20300 (by decide) (by decide), o7 10300 (by decide) (by decide)]
                            refine ⟨⟨h1, h2, h3, h4⟩, g1, g2, g3, fun i hi => ?_⟩
                            obtain ⟨z1, z2, z3⟩ := A4.2.2.2.2 i hi
                            obtain ⟨y1, y2, y3⟩ := g4 i hi
                            have hlt := hA4 i hi
                            rw [o8 700 _ (by omega), o8 701 _ (by omega)]
                            refine ⟨y1, y2, ?_⟩
                            have e1 : m5.1 10300 (m5.1 300 a 0) i = m4.1 10300 (m4.1 300 a 0) i := by rw [el, x45.o (b := m4.1 300 a 0) (by omega) (by omega) (by omega)]
                            rw [e1, eh, x45.o (b := m4.1 10300 (m4.1 300 a 0) i) (by omega) (by omega) (by omega)]
                            exact z3.cg (Nat.le_refl _) (Int.le_refl _) (by omega) (fun g x x0 x1 => by rw [o8 g x (by omega)]; exact x45.o (by omega) (by omega) (by omega) g) (fun x _ x1 => x45.2.1 x x1)
                          have S6 : DS t n 13 q4 0 0 r (dst (dst m5 700 b 0 v) 701 b 0 y) := (s5.st (by omega) (by omega)).st (by omega) (by omega)
                          have X6 : RX r 0 m0 (dst (dst m5 700 b 0 v) 701 b 0 y) := ((X4.tr x45).st (by omega)).st (by omega)
                          have v7 : (dst (dst m5 700 b 0 v) 701 b 0 y).1 700 b 0 = v := by rw [ds_n (by decide), dsz_0]
                          have y7 : (dst (dst m5 700 b 0 v) 701 b 0 y).1 701 b 0 = y := dsz_0
                          have T6 : TCb (m4.1 301 a 0 + 1) m5.2.2.1 (dst (dst m5 700 b 0 v) 701 b 0 y) (c2.length + 10) y c2 := t5.cg (by show c2.length + (lvl 0 + 2) ≤ c2.length + 10; exact Nat.le_refl _) (by omega) (Int.le_refl _) (fun g x x0 _ => by rw [ds_o (by omega), ds_o (by omega)]) (fun _ _ _ => rfl)
                          have bb : (dst (dst m5 700 b 0 v) 701 b 0 y).2 = m5.2 := rfl
                          have el6 : (dst (dst m5 700 b 0 v) 701 b 0 y).1 300 a 0 = m4.1 300 a 0 := by rw [ds_n (by decide), ds_n (by decide)]; exact el
                          have eh6 : (dst (dst m5 700 b 0 v) 701 b 0 y).1 301 a 0 = m4.1 301 a 0 := by rw [ds_n (by decide), ds_n (by decide)]; exact eh
                          generalize dst (dst m5 700 b 0 v) 701 b 0 y = m6 at *
                          have kl := A6.1.2.2.1
                          have sz := A6.2.2.2.1
                          have A7 := A6.bar (k := 2 * m6.1 20300 (m4.1 300 a 0) 0 + 20) (b := b) (c := (6, v, 0, [], c2, l2, 0)) rfl ⟨by rw [eh6]; omega, by omega, by rw [bb]; exact kb⟩ v7 (by rw [eh6, y7]; exact T6)
                          rw [el6] at kl sz A7
                          rw [bb] at kl
                          rw [show m5.2.2.1 = m6.2.2.1 by rw [bb]] at A7
                          refine ⟨kb, kl, sz, ?_⟩
                          have oo : ∀ g x, x ≠ m4.1 300 a 0 → (dpy (dst (dst m6 10300 (m4.1 300 a 0) (m6.1 20300 (m4.1 300 a 0) 0) b) 20300 (m4.1 300 a 0) 0 (m6.1 20300 (m4.1 300 a 0) 0 + 1)) (2 * m6.1 20300 (m4.1 300 a 0) 0 + 20)).1 g x = m6.1 g x := fun g x hx => by
                            show (dst (dst m6 10300 (m4.1 300 a 0) (m6.1 20300 (m4.1 300 a 0) 0) b) 20300 (m4.1 300 a 0) 0 (m6.1 20300 (m4.1 300 a 0) 0 + 1)).1 g x = _
                            rw [ds_o hx, ds_o hx]
                          have hr6 := S6.rb
                          have e303' : (dpy (dst (dst m6 10300 (m4.1 300 a 0) (m6.1 20300 (m4.1 300 a 0) 0) b) 20300 (m4.1 300 a 0) 0 (m6.1 20300 (m4.1 300 a 0) 0 + 1)) (2 * m6.1 20300 (m4.1 300 a 0) 0 + 20)).1 303 a 0 = m6.1 303 a 0 := by rw [oo 303 a (by omega)]
                          have hcf : rulC t n f q cs.length = (if isWb t n q4 [59] then cO (6, v, 0, [], c2, l2, 0) (nx t n q4) else cF 1 q4) := by
                            rw [hy, ← hun]
                            unfold semC
                            rw [hp]
                            rfl
                          refine sem (6, v, 0, [], c2, l2, 0) q4 _ _ _ hcf (S6.ag (fun g => oo g r (by omega)) (oo _ _ (by omega)) rfl (Int.le_refl _)) ⟨X6.1, X6.2.1, fun g x hx => by rw [oo g x (by omega)]; exact X6.2.2 g x hx⟩ A6.1.2.1 (by omega) (by show a < m6.2.2.1; rw [bb]; omega) (by rw [e303']; exact A6.2.1) (by rw [e303']; exact A7) (by show _ ≤ m6.2.2.2 - (2 * m6.1 20300 (m4.1 300 a 0) 0 + 20); rw [bb, sz]; omega)
                        rcases sn hun with ⟨⟨kf, p⟩, hc, hy2⟩ | ⟨c, q1, hc, hk2⟩
                        · subst hy2
                          have hx := flt kf p hy
                          subst hx
                          clear sem
                          rcases pC_some hc with ⟨⟨kf', p'⟩, hp, e⟩ | ⟨c2, l2, q4, hp, hk⟩
                          · cases e
                            refine RDr [] [1910008] 40 ?_
                            repeat' first | ((refine ⟨by rw [e4]; show ((2 : Nat) : Int) + 4 ≤ _; omega, fun b hb => ?_⟩; obtain ⟨z1, z2, z3, z4⟩ := go b hb; have dx := dal_x (r := r) (L := 0) (k := 7) (c := ((2 : Nat) : Int) + 4) hb; have krz := z2.1.1)) | ((refine hub_i (by dsimp only [kdD]; omega) ((dgC_all (lo0 := m4.2.2.1) (ai := 0) (L := 0) (by decide) (by omega) f).2.2.2.2.1 _ _ B [] _ _ _ _ _ hp z2 (by omega) (tl.x dx.1 (by omega)) (by show ((0 : Nat) : Int) ≤ _; omega) (by omega) (by rw [z1, e4]; omega) (by omega) (fun w m5 g1 => ?_)))) | (refine ⟨fun _ => ?_, fun _ => ?_⟩ <;> try omega) | (refine ⟨by first | omega | rfl | assumption | (simp only [dst_1, dst_2, up3_ap, upd1_ap, Nat.reduceEqDiff, ↓reduceIte, eq_self] at * <;> omega) | fail, ?_⟩) | (exact hQ _ _ (((g1.tr (X4.tr dx.1)).q).le (by omega))) | (simp only [dst_1, dst_2, up3_ap, upd1_ap, Nat.reduceEqDiff, ↓reduceIte, eq_self] at *) | omega | fail
                          · cases hk
                        · rcases pC_some hc with ⟨⟨kf', p'⟩, hp, e⟩ | ⟨c2, l2, q4, hp, hk⟩
                          · cases e
                          · clear hQ sem
                            refine RDr [] [1910150] 40 ?_
                            repeat' first | ((refine ⟨by rw [e4]; show ((2 : Nat) : Int) + 4 ≤ _; omega, fun b hb => ?_⟩; obtain ⟨z1, z2, z3, z4⟩ := go b hb; have dx := dal_x (r := r) (L := 0) (k := 7) (c := ((2 : Nat) : Int) + 4) hb; have krz := z2.1.1)) | ((refine hub_i (by dsimp only [kdD]; omega) ((dgC_all (lo0 := m4.2.2.1) (ai := 0) (L := 0) (by decide) (by omega) f).2.2.2.2.1 _ _ B [] _ _ _ _ _ hp z2 (by omega) (tl.x dx.1 (by omega)) (by show ((0 : Nat) : Int) ≤ _; omega) (by omega) (by rw [z1, e4]; omega) (by omega) (fun y m5 x5 s5 t5 u5 b5 => ?_)); obtain ⟨y1, y2, y3, y4⟩ := z4 y m5 c2 l2 q4 rfl hp x5 s5 (by rw [z3] at t5; exact t5) b5; have q45 := s5.2.2.2.1)) | (refine hub_i (by dsimp only [kdD]; omega) (D_Bar y1 ?_)) | ((refine ⟨y2, ⟨by omega, by show _ ≤ m5.2.2.2; omega, Or.inr (by show 1 ≤ m5.2.1 b ∧ m5.2.1 b ≤ 27; omega)⟩, ?_⟩)) | (refine ⟨fun _ => ?_, fun _ => ?_⟩ <;> try omega) | (refine ⟨by first | omega | rfl | assumption | (simp only [dst_1, dst_2, up3_ap, upd1_ap, Nat.reduceEqDiff, ↓reduceIte, eq_self] at * <;> omega) | fail, ?_⟩) | (exact y4) | (simp only [dst_1, dst_2, up3_ap, upd1_ap, Nat.reduceEqDiff, ↓reduceIte, eq_self] at *) | omega | fail
                      clear hQ sem
                      refine RDr [] [1910109] 40 ?_
                      repeat' first | (refine hub_i (by dsimp only [kdD]; omega) (D_need s3 (by omega) (fun _ => ?_) (fun e => absurd e (by decide)))) | ((refine hub_i (by dsimp only [kdD]; omega) (E_cut s3 (fun m4 c4 s4 => ?_)); have kr4 := s4.1.1)) | (refine hub_i (by dsimp only [kdD]; omega) (E_takes (w := wIf) rfl s4 (by decide) (by rw [c4.1]; omega) (fun _ m5 c5 s5 => ?_) (fun e1 => absurd hi (by rw [e1]; decide)))) | (refine ⟨fun _ => ?_, fun _ => ?_⟩ <;> try omega) | (refine ⟨by first | omega | rfl | assumption | (simp only [dst_1, dst_2, up3_ap, upd1_ap, Nat.reduceEqDiff, ↓reduceIte, eq_self] at * <;> omega) | fail, ?_⟩) | (exact con m5 ((RC.x c4).tr (RC.x c5)) (by rw [c5.1, c4.1]) s5) | (simp only [dst_1, dst_2, up3_ap, upd1_ap, Nat.reduceEqDiff, ↓reduceIte, eq_self] at *) | omega | fail
                    · rw [if_neg hi] at hun
                      have hx := flt 1 (nx t n (nx t n q)) (by rw [hy, ← hun]; rfl)
                      subst hx
                      clear sem
                      refine RDr [] [1910008] 40 ?_
                      repeat' first | (refine hub_i (by dsimp only [kdD]; omega) (D_need (k := 1) (g := 1) s3 (by omega) (fun _ => ?_) (fun e => absurd e (by decide)))) | ((refine hub_i (by dsimp only [kdD]; omega) (E_cut s3 (fun m4 c4 s4 => ?_)); have kr4 := s4.1.1)) | (refine hub_i (by dsimp only [kdD]; omega) (E_takes (w := wIf) rfl s4 (by decide) (by rw [c4.1]; omega) (fun e1 => absurd e1 hi) (fun _ w m5 g1 => ?_))) | (refine ⟨fun _ => ?_, fun _ => ?_⟩ <;> try omega) | (refine ⟨by first | omega | rfl | assumption | (simp only [dst_1, dst_2, up3_ap, upd1_ap, Nat.reduceEqDiff, ↓reduceIte, eq_self] at * <;> omega) | fail, ?_⟩) | (exact hQ _ _ ((g1.wt (X3.tr (RC.x c4)) (by decide) (by rw [c4.1]; omega)).q)) | (simp only [dst_1, dst_2, up3_ap, upd1_ap, Nat.reduceEqDiff, ↓reduceIte, eq_self] at *) | omega | fail
                clear hQ sem
                refine RDr [] [1910084] 40 ?_
                repeat' first | ((refine hub_i (by dsimp only [kdD]; omega) (E_wordOf (many := 4) (ws := wKin) (by decide) (by decide) WS_kin (by decide) (by decide) (by decide) s2 (by rw [e2]; omega) (fun m3 x3 s3 b3 => ?_)); rw [show wKin.take 4 = wKin from rfl, hv])) | (refine ⟨fun _ => ?_, fun _ => ?_⟩ <;> try omega) | (refine ⟨by first | omega | rfl | assumption | (simp only [dst_1, dst_2, up3_ap, upd1_ap, Nat.reduceEqDiff, ↓reduceIte, eq_self] at * <;> omega) | fail, ?_⟩) | (exact knd m3 x3 s3 b3) | (simp only [dst_1, dst_2, up3_ap, upd1_ap, Nat.reduceEqDiff, ↓reduceIte, eq_self] at *) | omega | fail
              · rw [if_neg hw1] at hun
                have hwr : 0 ≤ w ∧ w < 6 := by omega
                rcases sn hun with ⟨⟨kf, p⟩, hc, hy2⟩ | ⟨c, q1, hc, hk2⟩
                · subst hy2
                  have hx := flt kf p hy
                  subst hx
                  clear sem
                  rcases num_some hc with ⟨h1, e⟩ | ⟨h1, h2, e⟩ | ⟨h1, h2, h3⟩
                  · cases e
                    refine RDr [] [1910008] 40 ?_
                    repeat' first | (refine D_low ?_) | (refine D_high hwr ?_) | (refine hub_i (by dsimp only [kdD]; omega) (E_num s2 (by rw [e2]; omega) (fun e => by omega) (fun e => by omega) (fun _ w m3 g1 => ?_))) | (refine ⟨fun _ => ?_, fun _ => ?_⟩ <;> try omega) | (refine ⟨by first | omega | rfl | assumption | (simp only [dst_1, dst_2, up3_ap, upd1_ap, Nat.reduceEqDiff, ↓reduceIte, eq_self] at * <;> omega) | fail, ?_⟩) | (exact hQ _ _ ((g1.wt X2 (by decide) (by rw [e2]; omega)).q)) | (simp only [dst_1, dst_2, up3_ap, upd1_ap, Nat.reduceEqDiff, ↓reduceIte, eq_self] at *) | omega | fail
                  · cases e
                    refine RDr [] [1910008] 40 ?_
                    repeat' first | (refine D_low ?_) | (refine D_high hwr ?_) | (refine hub_i (by dsimp only [kdD]; omega) (E_num s2 (by rw [e2]; omega) (fun _ a b => absurd (And.intro a b) h2) (fun _ _ w m3 g1 => ?_) (fun e => by omega))) | (refine ⟨fun _ => ?_, fun _ => ?_⟩ <;> try omega) | (refine ⟨by first | omega | rfl | assumption | (simp only [dst_1, dst_2, up3_ap, upd1_ap, Nat.reduceEqDiff, ↓reduceIte, eq_self] at * <;> omega) | fail, ?_⟩) | (exact hQ _ _ ((g1.wt X2 (by decide) (by rw [e2]; omega)).q)) | (simp only [dst_1, dst_2, up3_ap, upd1_ap, Nat.reduceEqDiff, ↓reduceIte, eq_self] at *) | omega | fail
                  · cases h3
                · obtain ⟨h1, h2, h3⟩ := num_v hc
                  cases h3
                  have nxt : ∀ m3, RC r m2 m3 → DS t n 13 (nx t n (nx t n q)) 0 0 r m3 → m3.2.1 (m2.1 301 a 0) = 10301 ∧ RD (d + 64) 191 (150, [some (mR r), some (mR a), some (mI w), x3], [], dst m3 10301 (m2.1 301 a 0) w (vlu t n (nx t n q))) Q := by
                    intro m3 c3 s3
                    have e3 := c3.1
                    have A3 := A2.x (RC.x c3) hr0 (by omega)
                    have hab3 := A3.1.1
                    have cg : ∀ g b, b ≠ r → m3.1 g b = m2.1 g b := fun g b hb => by
                      rcases c3.2 g b with z | z
                      · exact z
                      · exact absurd z.1 hb
                    have eh : m3.1 301 a 0 = m2.1 301 a 0 := by rw [cg 301 a (by omega)]
                    have k1 := A3.1.2.2.2
                    have A4 := A3.hold (c := (w, vlu t n (nx t n q), 0, [], [], [], 0)) hwr ⟨rfl, rfl⟩
                    rw [eh] at k1 A4 hab3
                    refine ⟨k1, ?_⟩
                    have hr3 := s3.rb
                    refine sem (w, vlu t n (nx t n q), 0, [], [], [], 0) (nx t n (nx t n q)) _ _ _ (by rw [hy, ← hk2]) (s3.st (by omega) (by omega)) ((X2.tr (RC.x c3)).st (by omega)) A3.1.2.1 hab3.1 (by show a < m3.2.2.1; omega) (by rw [ds_n (by decide)]; exact A3.2.1) (by rw [ds_n (by decide)]; exact A4) (by show _ ≤ m3.2.2.2; rw [e3, e2]; omega)
                  clear hQ sem
                  refine RDr [] [1910150] 40 ?_
                  repeat' first | (refine D_low ?_) | (refine D_high hwr ?_) | ((refine hub_i (by dsimp only [kdD]; omega) (E_num s2 (by rw [e2]; omega) (fun _ _ _ m3 c3 s3 => ?_) (fun _ e => absurd h2 e) (fun e => by omega)); obtain ⟨g1, g2⟩ := nxt m3 c3 s3)) | ((refine ⟨g1, by omega, ?_⟩)) | (refine ⟨fun _ => ?_, fun _ => ?_⟩ <;> try omega) | (refine ⟨by first | omega | rfl | assumption | (simp only [dst_1, dst_2, up3_ap, upd1_ap, Nat.reduceEqDiff, ↓reduceIte, eq_self] at * <;> omega) | fail, ?_⟩) | (exact g2) | (simp only [dst_1, dst_2, up3_ap, upd1_ap, Nat.reduceEqDiff, ↓reduceIte, eq_self] at *) | omega | fail
            clear hQ sem
            refine RDr [] [1910071] 40 ?_
            repeat' first | (refine hub_i (by dsimp only [kdD]; omega) (D_need s1 (by omega) (fun _ => ?_) (fun e => absurd e (by decide)))) | (refine hub_i (by dsimp only [kdD]; omega) (E_cut s1 (fun m2 c2 s2 => ?_))) | (refine ⟨fun _ => ?_, fun _ => ?_⟩ <;> try omega) | (refine ⟨by first | omega | rfl | assumption | (simp only [dst_1, dst_2, up3_ap, upd1_ap, Nat.reduceEqDiff, ↓reduceIte, eq_self] at * <;> omega) | fail, ?_⟩) | (exact cut m2 c2 s2) | (simp only [dst_1, dst_2, up3_ap, upd1_ap, Nat.reduceEqDiff, ↓reduceIte, eq_self] at *) | omega | fail
        clear hQ sem
        by_cases hw1 : w = -1
        · have hb := bar hw1
          refine RDr [] [1910048] 40 ?_
          repeat' first | ((refine hub_i (by dsimp only [kdD]; omega) (E_wordOf (many := 6) (ws := wRul) (by decide) (by decide) WS_rul (by decide) (by decide) (by decide) hS (by omega) (fun m1 x1 s1 b1 => ?_)); rw [show wRul.take 6 = wRul from rfl, hw]; have kr1 := s1.1.1)) | (refine hub_i (by dsimp only [kdD]; omega) (D_isC (w := wBar) rfl s1 (by decide) (fun e1 => ?_) (fun e1 => absurd hb (by rw [e1]; decide)))) | (refine hub_i (by dsimp only [kdD]; omega) (D_need s1 (by omega) (fun _ => ?_) (fun e => absurd e (by decide)))) | (refine ⟨fun _ => ?_, fun _ => ?_⟩ <;> try omega) | (refine ⟨by first | omega | rfl | assumption | (simp only [dst_1, dst_2, up3_ap, upd1_ap, Nat.reduceEqDiff, ↓reduceIte, eq_self] at * <;> omega) | fail, ?_⟩) | (exact past m1 x1 s1 b1) | (simp only [dst_1, dst_2, up3_ap, upd1_ap, Nat.reduceEqDiff, ↓reduceIte, eq_self] at *) | omega | fail
        · refine RDr [] [1910048] 40 ?_
          repeat' first | ((refine hub_i (by dsimp only [kdD]; omega) (E_wordOf (many := 6) (ws := wRul) (by decide) (by decide) WS_rul (by decide) (by decide) (by decide) hS (by omega) (fun m1 x1 s1 b1 => ?_)); rw [show wRul.take 6 = wRul from rfl, hw]; have kr1 := s1.1.1)) | (refine hub_i (by dsimp only [kdD]; omega) (D_need s1 (by omega) (fun _ => ?_) (fun e => absurd e (by decide)))) | (refine ⟨fun _ => ?_, fun _ => ?_⟩ <;> try omega) | (refine ⟨by first | omega | rfl | assumption | (simp only [dst_1, dst_2, up3_ap, upd1_ap, Nat.reduceEqDiff, ↓reduceIte, eq_self] at * <;> omega) | fail, ?_⟩) | (exact past m1 x1 s1 b1) | (simp only [dst_1, dst_2, up3_ap, upd1_ap, Nat.reduceEqDiff, ↓reduceIte, eq_self] at *) | omega | fail
end
