/-! THE DESK READS conditions -/
set_option maxHeartbeats 3200000
set_option maxRecDepth 100000
abbrev dPostC (t : Int → Int) (n : Int) (nm : Nat) (o ai r L lo0 : Int) (ts : List (List Int)) (m : mD) (lo B F S : Int) (k : Nat) (x : (Int × Int) ⊕ (List Int × List (List Int) × Int)) (Q : mQ mD) : Prop := match x with
  | .inl (kf, p) => ∀ w m', WT r L m kf p (B - F) w m' → Q (Sum.inr w) m'
  | .inr (c, l, q') => ∀ y m', RX r L m m' → DS t n nm q' o ai r m' → TCb lo m'.2.2.1 m' (c.length + k) y c → TLo lo0 r ai L m' (ts ++ l) → B + 900 * (n - q') + S ≤ m'.2.2.2 → Q (rR y) m'
def lvl (o : Int) : Nat := (2 * (4 - o)).toNat
def dg3 (t : Int → Int) (n : Int) (nm : Nat) (ai r L lo0 : Int) (f : Nat) : Prop := ∀ (o q B : Int) (ts : List (List Int)) (m : mD) (d : Nat) (Q : mQ mD) (x : (Int × Int) ⊕ (List Int × List (List Int) × Int)) (x1 x2 x3 : Option mV), prs t n nm f 3 o q [] [] = some x → DS t n nm q o ai r m → (r < lo0 ∧ lo0 ≤ m.2.2.1) → TLo lo0 r ai L m ts → (ts.length : Int) ≤ q → 1000 ≤ B → B + 900 * (n - q) ≤ m.2.2.2 → 12 * (4 - o) + 9 ≤ (d : Int) → dPostC t n nm o ai r L lo0 ts m m.2.2.1 B 200 900 0 x Q → RD d 201 (0, [some (mR r), x1, x2, x3], [], m) Q
def dg4 (t : Int → Int) (n : Int) (nm : Nat) (ai r L lo0 : Int) (f : Nat) : Prop := ∀ (o q B : Int) (c : List Int) (ts : List (List Int)) (m : mD) (d : Nat) (Q : mQ mD) (x : (Int × Int) ⊕ (List Int × List (List Int) × Int)) (x2 : Option mV), prs t n nm f 4 o q c [] = some x → DS t n nm q o ai r m → (r < lo0 ∧ lo0 ≤ m.2.2.1) → TLo lo0 r ai L m ts → (ts.length : Int) ≤ q → 1000 ≤ B → B + 900 * (n - q) + (if c = [] then 0 else 10) ≤ m.2.2.2 → 12 * (4 - o) + 10 ≤ (d : Int) → dPostC t n nm o ai r L lo0 ts m m.2.2.1 B 200 900 (lvl o) x Q → RD d 198 (2, [some (mR r), some (mI (if c = [] then 0 else 1)), x2], [], m) Q
def dg5 (t : Int → Int) (n : Int) (nm : Nat) (ai r L lo0 : Int) (f : Nat) : Prop := ∀ (o q B : Int) (ts : List (List Int)) (m : mD) (d : Nat) (Q : mQ mD) (x : (Int × Int) ⊕ (List Int × List (List Int) × Int)) (x1 : Option mV), prs t n nm f 5 o q [] [] = some x → DS t n nm q o ai r m → (r < lo0 ∧ lo0 ≤ m.2.2.1) → TLo lo0 r ai L m ts → (ts.length : Int) ≤ q → 1100 ≤ B → B + 900 * (n - q) ≤ m.2.2.2 → 12 * (4 - o) + 11 ≤ (d : Int) → dPostC t n nm o ai r L lo0 ts m m.2.2.1 B 300 850 (lvl o + 1) x Q → RD d 197 (0, [some (mR r), x1], [], m) Q
def dg9 (t : Int → Int) (n : Int) (nm : Nat) (ai r L lo0 : Int) (f : Nat) : Prop := ∀ (o q B : Int) (mb : mD) (c0 : List Int) (cs : List (List Int)) (a : Int) (l : List (List Int)) (ts : List (List Int)) (m : mD) (d : Nat) (Q : mQ mD) (x : (Int × Int) ⊕ (List Int × List (List Int) × Int)), prs t n nm f 9 o q (jcode (-7) c0 cs) l = some x → DS t n nm q o ai r m → (r < lo0 ∧ lo0 ≤ m.2.2.1) → TLo lo0 r ai L m (ts ++ l) → ((ts ++ l).length : Int) ≤ q → RX r L mb m → (lo0 ≤ mb.2.2.1 ∧ r < mb.2.2.1 ∧ ((c0 :: cs).length : Int) ≤ q) → SoM mb.2.2.1 m a 1 ((jcode (-7) c0 cs).length + lvl o) (c0 :: cs) → 1100 ≤ B → B + 900 * (n - q) + 850 ≤ m.2.2.2 → 12 * (4 - o) + 11 ≤ (d : Int) → dPostC t n nm o ai r L lo0 ts mb mb.2.2.1 B 300 850 (lvl o + 1) x Q → RD d 197 (21, [some (mR r), some (mR a)], [], m) Q
def dg6 (t : Int → Int) (n : Int) (nm : Nat) (ai r L lo0 : Int) (f : Nat) : Prop := ∀ (o q B : Int) (ts : List (List Int)) (m : mD) (d : Nat) (Q : mQ mD) (x : (Int × Int) ⊕ (List Int × List (List Int) × Int)) (x1 : Option mV), prs t n nm f 6 o q [] [] = some x → DS t n nm q o ai r m → (r < lo0 ∧ lo0 ≤ m.2.2.1) → TLo lo0 r ai L m ts → (ts.length : Int) ≤ q → 1200 ≤ B → B + 900 * (n - q) ≤ m.2.2.2 → 12 * (4 - o) + 12 ≤ (d : Int) → dPostC t n nm o ai r L lo0 ts m m.2.2.1 B 400 800 (lvl o + 2) x Q → RD d 196 (0, [some (mR r), x1], [], m) Q
def dg10 (t : Int → Int) (n : Int) (nm : Nat) (ai r L lo0 : Int) (f : Nat) : Prop := ∀ (o q B : Int) (mb : mD) (c0 : List Int) (cs : List (List Int)) (a : Int) (l : List (List Int)) (ts : List (List Int)) (m : mD) (d : Nat) (Q : mQ mD) (x : (Int × Int) ⊕ (List Int × List (List Int) × Int)), prs t n nm f 10 o q (jcode (-8) c0 cs) l = some x → DS t n nm q o ai r m → (r < lo0 ∧ lo0 ≤ m.2.2.1) → TLo lo0 r ai L m (ts ++ l) → ((ts ++ l).length : Int) ≤ q → RX r L mb m → (lo0 ≤ mb.2.2.1 ∧ r < mb.2.2.1 ∧ ((c0 :: cs).length : Int) ≤ q) → SoM mb.2.2.1 m a 0 ((jcode (-8) c0 cs).length + (lvl o + 1)) (c0 :: cs) → 1200 ≤ B → B + 900 * (n - q) + 800 ≤ m.2.2.2 → 12 * (4 - o) + 12 ≤ (d : Int) → dPostC t n nm o ai r L lo0 ts mb mb.2.2.1 B 400 800 (lvl o + 2) x Q → RD d 196 (21, [some (mR r), some (mR a)], [], m) Q
section
variable {t : Int → Int} {n : Int} {nm : Nat} {ai r L lo0 : Int} {d : Nat} {m m0 m1 : mD} {Q : mQ mD}
/-- a comparison is made, told to the aim -/
theorem TLo.add {lo y : Int} {ts : List (List Int)} {c : List Int} {k : Int} (h : TLo lo r ai L m ts) (h0 : ai ≠ 0) (hy : CMb lo m.2.2.1 m c.length y c) : TLo lo r ai L (dpy (dst (dst m 11604 L ts.length y) 21604 L 0 (ts.length + 1)) k) (ts ++ [c]) := by
  rcases h with h | ⟨a0, a1, ⟨b1, b2, b3, b4, b5, b6, b7, b8⟩, a2, a3, a4⟩
  · exact absurd h.1 h0
  · have o : ∀ g x, x ≠ L → (dpy (dst (dst m 11604 L ts.length y) 21604 L 0 (ts.length + 1)) k).1 g x = m.1 g x := fun g x hx => by
      show (dst (dst m 11604 L ts.length y) 21604 L 0 (ts.length + 1)).1 g x = _
      rw [ds_o hx, ds_o hx]
    have o2 : ∀ g, g ≠ 11604 → g ≠ 21604 → ∀ x, (dpy (dst (dst m 11604 L ts.length y) 21604 L 0 (ts.length + 1)) k).1 g x = m.1 g x := fun g h1 h2 x => by
      show (dst (dst m 11604 L ts.length y) 21604 L 0 (ts.length + 1)).1 g x = _
      rw [ds_n h2, ds_n h1]
    have len : (ts ++ [c]).length = ts.length + 1 := by rw [List.length_append]; rfl
    refine Or.inr ⟨a0, a1, ⟨b1, by rw [o2 _ (by decide) (by decide)]; exact b2, b3, b4, b5, b6, b7, b8⟩, a2, ?_, fun i hi => ?_⟩
    · rw [len]
      show (dst (dst m 11604 L ts.length y) 21604 L 0 (ts.length + 1)).1 21604 L 0 = _
      rw [dsz_0]
      omega
    · rw [len] at hi
      have e2 : ∀ i, (dpy (dst (dst m 11604 L ts.length y) 21604 L 0 (ts.length + 1)) k).1 11604 L i = if i = (ts.length : Int) then y else m.1 11604 L i := fun i => by
        show (dst (dst m 11604 L ts.length y) 21604 L 0 (ts.length + 1)).1 11604 L i = _
        rw [ds_n (by decide), dst_1, up3_s, upd1_ap]
      rw [e2]
      by_cases e : i = ts.length
      · rw [e, if_pos rfl, List.getD_eq_getElem?_getD, List.getElem?_append_right (Nat.le_refl _), Nat.sub_self]
        exact hy.ck (Nat.le_refl _) (Int.le_refl _) (Int.le_refl _) (fun g b b0 _ _ _ => o g b (by omega)) (fun _ _ _ => rfl)
      · rw [if_neg (by omega), List.getD_eq_getElem?_getD, List.getElem?_append_left (by omega), ← List.getD_eq_getElem?_getD]
        exact (a4 i (by omega)).ck (Nat.le_refl _) (Int.le_refl _) (Int.le_refl _) (fun g b b0 _ _ _ => o g b (by omega)) (fun _ _ _ => rfl)
/-- a comparison's cell -/
theorem CM_mk {lo w x y sg cs : Int} {c c2 : List Int} (h1 : TSb lo w m c.length x c) (h2 : TSb (w + 1) m.2.2.1 m c2.length y c2) (hlo : lo ≤ w ∧ w < m.2.2.1) (hk : m.2.1 w = 11) (hs : sg = 60 ∧ cs = -4 ∨ sg = 62 ∧ cs = -5 ∨ sg = 61 ∧ cs = -6) : CMb lo m.2.2.1 (dst (dst (dst m 1100 w 0 sg) 1101 w 0 x) 1102 w 0 y) (c.length + c2.length) w (c ++ (c2 ++ [cs])) := by
  have same : ∀ g b, b ≠ w → (dst (dst (dst m 1100 w 0 sg) 1101 w 0 x) 1102 w 0 y).1 g b = m.1 g b := fun g b hb => by rw [ds_o hb, ds_o hb, ds_o hb]
  refine ⟨by omega, hk, c, c2, cs, ?_, ?_, ?_, rfl⟩
  · rw [ds_n (by decide), dsz_0]
    exact h1.cg (by omega) (Int.le_refl _) (by omega) (fun g b b0 b1 => same g b (by omega)) (fun b _ _ => rfl)
  · rw [dsz_0]
    exact h2.cg (by omega) (by omega) (Int.le_refl _) (fun g b b0 b1 => same g b (by omega)) (fun b _ _ => rfl)
  · rw [ds_n (by decide), ds_n (by decide), dsz_0]
    exact hs
theorem dg3_s {f : Nat} (hL0 : 0 < lo0) (S : dg2 t n nm ai r f) : dg3 t n nm ai r L lo0 (f + 1) := by
  intro o q B ts m d Q x x1 x2 x3 h hS hlo hTL hts hB1 hB hd hQ
  have hop := hS.2.2.2.2.1
  have hq := hS.2.2.2.1
  have hn4 := hS.1.2.2.2.2
  have hr := hS.rb
  have kr := hS.1.1
  obtain ⟨d', rfl⟩ : ∃ d', d = d' + 6 := ⟨d - 6, by omega⟩
  rw [prs_3] at h
  rcases pB_some h with ⟨⟨k, p⟩, hr2, rfl⟩ | ⟨c1, l1, q1, hr2, hk⟩
  · refine RDr [] [] 20 ?_
    repeat' first | ((refine hub_i (by dsimp only [kdD]; omega) (S _ _ B _ _ _ _ _ _ hr2 hS hB1 hB (by omega) (fun w m2 g1 => ?_)))) | (refine ⟨fun _ => ?_, fun _ => ?_⟩ <;> try omega) | (refine ⟨by first | omega | rfl | assumption | (simp only [dst_1, dst_2, up3_ap, upd1_ap, Nat.reduceEqDiff, ↓reduceIte, eq_self] at * <;> omega) | fail, ?_⟩) | (exact hQ _ _ g1.l) | (simp only [dst_1, dst_2, up3_ap, upd1_ap, Nat.reduceEqDiff, ↓reduceIte, eq_self] at *) | omega | fail
  · have far := prs_far _ _ _ _ _ _ hq.2 _ _ _ hr2
    have hnx1 := nx_b (t := t) far.2.1
    -- the sign is there
    have sgn : ∀ (sg cs : Int), (sg = 60 ∧ cs = -4 ∨ sg = 62 ∧ cs = -5 ∨ sg = 61 ∧ cs = -6) → q1 < nx t n q1 → zi2c (byd t n q1) = sg → pB (prs t n nm f 2 o (nx t n q1) [] []) (fun c2 _ q2 => pO (c1 ++ (c2 ++ [cs])) [c1 ++ (c2 ++ [cs])] q2) = some x → ∀ y1 m2, RX r 0 m m2 → DS t n nm q1 o ai r m2 → TSb m.2.2.1 m2.2.2.1 m2 c1.length y1 c1 → B + 900 * (n - q1) + 600 ≤ m2.2.2.2 → RD (d' + 6) 201 (42, [some (mR r), some (mR y1), x2, x3], [], m2) Q := by
      intro sg cs hsc hlt hby hk y1 m2 a1 a2 a3 a4
      have kr2 := a2.1.1
      have e2 := a2.2.1.1
      rw [← e2] at hby
      have hsg : 0 ≤ sg ∧ sg ≤ 65535 := by omega
      -- the second sum is read
      have aft : ∀ c2 q2, x = .inr (c1 ++ (c2 ++ [cs]), [c1 ++ (c2 ++ [cs])], q2) → ∀ m3 w m4 y2, RC r m2 m3 → m3.2.2.1 ≤ w → RX r 0 (dal m3 w 11 (((3 : Nat) : Int) + 4)) m4 → DS t n nm q2 o ai r m4 → TSb (w + 1) m4.2.2.1 m4 c2.length y2 c2 → B + 1400 + 900 * (n - q2) + 600 ≤ m4.2.2.2 → nx t n q1 ≤ q2 → m4.2.1 w = 11 ∧ RD (d' + 6) 201 (69, [some (mR r), some (mR y1), some (mI sg), x3], [mR w], dst (dst (dst m4 1100 w 0 sg) 1101 w 0 y1) 1102 w 0 y2) Q := by
        intro c2 q2 hx m3 w m4 y2 c3 hw x4 s4 t4 b4 hq2
        subst hx
        have e3 := c3.1
        have dx := dal_x (r := r) (L := 0) (k := 11) (c := ((3 : Nat) : Int) + 4) hw
        have hmw : m2.2.2.1 ≤ w := by rw [← e3]; exact hw
        have xx := (RC.x (L := 0) c3).tr (dx.1.tr x4)
        have hlw : w < m4.2.2.1 := by have := x4.1; rw [dx.2.2.2.1] at this; omega
        have ka : m4.2.1 w = 11 := by rw [x4.2.1 w (by rw [dx.2.2.2.1]; omega)]; exact dx.2.2.1
        have a11 := a1.1
        have tx := a3.x xx (Int.le_refl _) (Nat.le_refl _) (by omega) (by omega) (hi' := w) hmw
        have hr4 := s4.rb
        have cm := CM_mk (sg := sg) (cs := cs) tx t4 (by omega) ka hsc
        have xa : RX r 0 m (dst (dst (dst m4 1100 w 0 sg) 1101 w 0 y1) 1102 w 0 y2) := (a1.tr xx).st3 (by omega)
        have sa : DS t n nm q2 o ai r (dst (dst (dst m4 1100 w 0 sg) 1101 w 0 y1) 1102 w 0 y2) := ((s4.st (by omega) (by omega)).st (by omega) (by omega)).st (by omega) (by omega)
        have ta := hTL.x xa hlo.1
        have ba : (dst (dst (dst m4 1100 w 0 sg) 1101 w 0 y1) 1102 w 0 y2).2 = m4.2 := rfl
        refine ⟨ka, ?_⟩
        generalize dst (dst (dst m4 1100 w 0 sg) 1101 w 0 y1) 1102 w 0 y2 = m5 at cm xa sa ta ba
        rw [← ba] at cm b4 ka hlw
        have len : (c1 ++ (c2 ++ [cs])).length = c1.length + c2.length + 1 := by rw [List.length_append, List.length_append]; show c1.length + (c2.length + 1) = _; omega
        have kr5 := sa.1.1
        have hq22 := sa.2.2.2.1
        have k9 := sa.2.2.1.2.2
        by_cases hai : ai = 0
        · have hL : L = 0 := by
            rcases hTL with e | e
            · exact e.2
            · exact absurd hai e.1
          have fin := hQ w m5 xa.l sa (by
            have := cm.tc
            rw [len]
            exact this) (by rcases ta with e | e; exact Or.inl e; exact absurd hai e.1) (by omega)
          rw [hai] at k9
          refine RDr [] [] 40 ?_
          repeat' first | (refine ⟨fun _ => ?_, fun _ => ?_⟩ <;> try omega) | (refine ⟨by first | omega | rfl | assumption | (simp only [dst_1, dst_2, up3_ap, upd1_ap, Nat.reduceEqDiff, ↓reduceIte, eq_self] at * <;> omega) | fail, ?_⟩) | (exact fin) | (simp only [dst_1, dst_2, up3_ap, upd1_ap, Nat.reduceEqDiff, ↓reduceIte, eq_self] at *) | omega | fail
        · obtain ⟨z0, z1, ⟨z2, z3, z4, z5, z6, z7, z8, z9⟩, z10, z11, z12⟩ : ai ≠ 0 ∧ L ≠ 0 ∧ (m5.2.1 ai = 16 ∧ m5.1 1604 ai 0 = L ∧ ai < lo0 ∧ ai ≠ r ∧ L < lo0 ∧ L ≠ r ∧ L ≠ 1005 ∧ lo0 ≤ m5.2.2.1) ∧ m5.2.1 L = 11604 ∧ m5.1 21604 L 0 = (ts.length : Int) ∧ ∀ i : Nat, i < ts.length → CMb lo0 m5.2.2.1 m5 (ts.getD i []).length (m5.1 11604 L i) (ts.getD i []) := by
            rcases ta with e | e
            · exact absurd e.1 hai
            · exact e
          have ta2 := ta.add (k := 2 * (ts.length : Int) + 20) hai (cm.ck (lo' := lo0) (hi' := m5.2.2.1) (by rw [len]; omega) hlo.2 (Int.le_refl _) (fun _ _ _ _ _ _ => rfl) (fun _ _ _ => rfl))
          have o2 : ∀ g x, x ≠ L → (dpy (dst (dst m5 11604 L ts.length w) 21604 L 0 (ts.length + 1)) (2 * (ts.length : Int) + 20)).1 g x = m5.1 g x := fun g x hx => by
            show (dst (dst m5 11604 L ts.length w) 21604 L 0 (ts.length + 1)).1 g x = _
            rw [ds_o hx, ds_o hx]
          have o3 : ∀ g, g ≠ 11604 → g ≠ 21604 → ∀ x, (dpy (dst (dst m5 11604 L ts.length w) 21604 L 0 (ts.length + 1)) (2 * (ts.length : Int) + 20)).1 g x = m5.1 g x := fun g h1 h2 x => by
            show (dst (dst m5 11604 L ts.length w) 21604 L 0 (ts.length + 1)).1 g x = _
            rw [ds_n h2, ds_n h1]
          have xb : RX r L m5 (dpy (dst (dst m5 11604 L ts.length w) 21604 L 0 (ts.length + 1)) (2 * (ts.length : Int) + 20)) := ⟨Int.le_refl _, fun _ _ => rfl, fun g b _ => by
            by_cases e : b = L
            · by_cases e1 : g = 11604
              · exact Or.inr (Or.inr ⟨e, z1, by rw [e1]; rfl⟩)
              · by_cases e2 : g = 21604
                · exact Or.inr (Or.inr ⟨e, z1, by rw [e2]; rfl⟩)
                · exact Or.inl (o3 g e1 e2 b)
            · exact Or.inl (o2 g b e)⟩
          have sb : DS t n nm q2 o ai r (dpy (dst (dst m5 11604 L ts.length w) 21604 L 0 (ts.length + 1)) (2 * (ts.length : Int) + 20)) := sa.y xb z7 (fun g _ => o2 g r (Ne.symm z7))
          have fin := hQ w _ (xa.l.tr xb) sb (by
            have := (cm.ck (m' := dpy (dst (dst m5 11604 L ts.length w) 21604 L 0 (ts.length + 1)) (2 * (ts.length : Int) + 20)) (Nat.le_refl _) (Int.le_refl _) (Int.le_refl _) (fun g b b0 b1 _ _ => o2 g b (by omega)) (fun _ _ _ => rfl)).tc
            rw [len]
            exact this) ta2 (by
              show _ ≤ m5.2.2.2 - (2 * (ts.length : Int) + 20)
              omega)
          rw [← z11] at fin
          rw [← z3] at fin z10 z11
          have hsz : 0 ≤ m5.1 21604 (m5.1 1604 ai 0) 0 ∧ m5.1 21604 (m5.1 1604 ai 0) 0 ≤ 400 := by omega
          rw [← k9] at fin z2 hsz z10
          have k9' : m5.1 409 r 0 ≠ 0 := by rw [k9]; exact hai
          have wk : m5.2.1 w = 11 := ka
          clear hQ sb xb o2 o3 ta2 ta z12
          refine RDr [] [] 40 ?_
          repeat' first | ((refine ⟨z10, ⟨by omega, by omega, Or.inr (by omega)⟩, ?_⟩)) | (refine ⟨fun _ => ?_, fun _ => ?_⟩ <;> try omega) | (refine ⟨by first | omega | rfl | assumption | (simp only [dst_1, dst_2, up3_ap, upd1_ap, Nat.reduceEqDiff, ↓reduceIte, eq_self] at * <;> omega) | fail, ?_⟩) | (exact fin) | (simp only [dst_1, dst_2, up3_ap, upd1_ap, Nat.reduceEqDiff, ↓reduceIte, eq_self] at *) | omega | fail
      rcases pB_some hk with ⟨⟨kf, p⟩, hr3, rfl⟩ | ⟨c2, l2, q2, hr3, hk3⟩
      · clear aft
        refine RDr [] [] 40 ?_
        repeat' first | ((refine hub_i (by dsimp only [kdD]; omega) (D_byteAt a2.1 (by omega) ?_))) | ((rw [hby])) | (refine hub_i (by dsimp only [kdD]; omega) (E_cut a2 (fun m3 c3 s3 => ?_))) | ((refine ⟨by rw [c3.1]; show ((3 : Nat) : Int) + 4 ≤ _; omega, fun w hw => ?_⟩; have sa := s3.al (k := 11) (c := ((3 : Nat) : Int) + 4) hw; have dx := dal_x (r := r) (L := 0) (k := 11) (c := ((3 : Nat) : Int) + 4) hw; have bd := dx.2.2.2.2)) | ((refine hub_i (by dsimp only [kdD]; have := sa.1.1; omega) (S _ _ (B + 1400) _ _ _ _ _ _ hr3 sa (by omega) (by rw [bd, c3.1]; omega) (by omega) (fun w2 m4 g1 => ?_)))) | (refine ⟨fun _ => ?_, fun _ => ?_⟩ <;> try omega) | (refine ⟨by first | omega | rfl | assumption | (simp only [dst_1, dst_2, up3_ap, upd1_ap, Nat.reduceEqDiff, ↓reduceIte, eq_self] at * <;> omega) | fail, ?_⟩) | (exact hQ _ _ ((g1.tr (a1.tr ((RC.x c3).tr dx.1))).l.le (by omega))) | (simp only [dst_1, dst_2, up3_ap, upd1_ap, Nat.reduceEqDiff, ↓reduceIte, eq_self] at *) | omega | fail
      · have hk3 := hk3.symm
        cases hk3
        have far2 := prs_far _ _ _ _ _ _ hnx1.2.1 _ _ _ hr3
        refine RDr [] [2010069] 40 ?_
        repeat' first | ((refine hub_i (by dsimp only [kdD]; omega) (D_byteAt a2.1 (by omega) ?_))) | ((rw [hby])) | (refine hub_i (by dsimp only [kdD]; omega) (E_cut a2 (fun m3 c3 s3 => ?_))) | ((refine ⟨by rw [c3.1]; show ((3 : Nat) : Int) + 4 ≤ _; omega, fun w hw => ?_⟩; have sa := s3.al (k := 11) (c := ((3 : Nat) : Int) + 4) hw; have dx := dal_x (r := r) (L := 0) (k := 11) (c := ((3 : Nat) : Int) + 4) hw; have bd := dx.2.2.2.2)) | ((refine hub_i (by dsimp only [kdD]; have := sa.1.1; omega) (S _ _ (B + 1400) _ _ _ _ _ _ hr3 sa (by omega) (by rw [bd, c3.1]; omega) (by omega) (fun y2 m4 x4 s4 t4 b4 => ?_)); obtain ⟨ka, go⟩ := aft c2 q2 rfl _ _ _ y2 c3 hw x4 s4 t4 b4 far2.1)) | (refine hub_i (by dsimp only [kdD]; omega) (D_Compared ka hsg ?_)) | (refine ⟨fun _ => ?_, fun _ => ?_⟩ <;> try omega) | (refine ⟨by first | omega | rfl | assumption | (simp only [dst_1, dst_2, up3_ap, upd1_ap, Nat.reduceEqDiff, ↓reduceIte, eq_self] at * <;> omega) | fail, ?_⟩) | (exact go) | (simp only [dst_1, dst_2, up3_ap, upd1_ap, Nat.reduceEqDiff, ↓reduceIte, eq_self] at *) | omega | fail
    by_cases h60 : isWb t n q1 [60] = true
    · rw [if_pos (by rw [h60]; rfl)] at hk
      simp only [if_pos h60] at hk
      have go := fun y1 m2 => sgn 60 (-4) (by decide) (isWb_lt h60 (by decide) far.2.1).2 (byd_w h60 (by decide)).2 hk y1 m2
      clear sgn
      refine RDr [] [2010042] 40 ?_
      repeat' first | ((refine hub_i (by dsimp only [kdD]; omega) (S _ _ B _ _ _ _ _ _ hr2 hS hB1 hB (by omega) (fun y1 m2 a1 a2 a3 a4 => ?_)); have kr2 := a2.1.1)) | (refine hub_i (by dsimp only [kdD]; omega) (D_isC (w := [60]) rfl a2 (by decide) (fun e1 => ?_) (fun e1 => absurd h60 (by rw [e1]; decide)))) | (refine hub_i (by dsimp only [kdD]; omega) (D_need a2 (by omega) (fun _ => ?_) (fun e => absurd e (by decide)))) | (refine ⟨fun _ => ?_, fun _ => ?_⟩ <;> try omega) | (refine ⟨by first | omega | rfl | assumption | (simp only [dst_1, dst_2, up3_ap, upd1_ap, Nat.reduceEqDiff, ↓reduceIte, eq_self] at * <;> omega) | fail, ?_⟩) | (exact go y1 m2 a1 a2 a3 a4) | (simp only [dst_1, dst_2, up3_ap, upd1_ap, Nat.reduceEqDiff, ↓reduceIte, eq_self] at *) | omega | fail
    · by_cases h62 : isWb t n q1 [62] = true
      · rw [if_pos (by rw [h62]; simp)] at hk
        simp only [if_neg h60, if_pos h62] at hk
        have go := fun y1 m2 => sgn 62 (-5) (by decide) (isWb_lt h62 (by decide) far.2.1).2 (byd_w h62 (by decide)).2 hk y1 m2
        clear sgn
        refine RDr [] [2010042] 40 ?_
        repeat' first | ((refine hub_i (by dsimp only [kdD]; omega) (S _ _ B _ _ _ _ _ _ hr2 hS hB1 hB (by omega) (fun y1 m2 a1 a2 a3 a4 => ?_)); have kr2 := a2.1.1)) | (refine hub_i (by dsimp only [kdD]; omega) (D_isC (w := [60]) rfl a2 (by decide) (fun e1 => absurd e1 h60) (fun e1 => ?_))) | (refine hub_i (by dsimp only [kdD]; omega) (D_isC (w := [62]) rfl a2 (by decide) (fun e1 => ?_) (fun e1 => absurd h62 (by rw [e1]; decide)))) | (refine hub_i (by dsimp only [kdD]; omega) (D_need a2 (by omega) (fun _ => ?_) (fun e => absurd e (by decide)))) | (refine ⟨fun _ => ?_, fun _ => ?_⟩ <;> try omega) | (refine ⟨by first | omega | rfl | assumption | (simp only [dst_1, dst_2, up3_ap, upd1_ap, Nat.reduceEqDiff, ↓reduceIte, eq_self] at * <;> omega) | fail, ?_⟩) | (exact go y1 m2 a1 a2 a3 a4) | (simp only [dst_1, dst_2, up3_ap, upd1_ap, Nat.reduceEqDiff, ↓reduceIte, eq_self] at *) | omega | fail
      · by_cases h61 : isWb t n q1 [61] = true
        · rw [if_pos (by rw [h61]; simp)] at hk
          simp only [if_neg h60, if_neg h62] at hk
          have go := fun y1 m2 => sgn 61 (-6) (by decide) (isWb_lt h61 (by decide) far.2.1).2 (byd_w h61 (by decide)).2 hk y1 m2
          clear sgn
          refine RDr [] [2010042] 40 ?_
          repeat' first | ((refine hub_i (by dsimp only [kdD]; omega) (S _ _ B _ _ _ _ _ _ hr2 hS hB1 hB (by omega) (fun y1 m2 a1 a2 a3 a4 => ?_)); have kr2 := a2.1.1)) | (refine hub_i (by dsimp only [kdD]; omega) (D_isC (w := [60]) rfl a2 (by decide) (fun e1 => absurd e1 h60) (fun e1 => ?_))) | (refine hub_i (by dsimp only [kdD]; omega) (D_isC (w := [62]) rfl a2 (by decide) (fun e1 => absurd e1 h62) (fun e1 => ?_))) | (refine hub_i (by dsimp only [kdD]; omega) (D_isC (w := [61]) rfl a2 (by decide) (fun e1 => ?_) (fun e1 => absurd h61 (by rw [e1]; decide)))) | (refine hub_i (by dsimp only [kdD]; omega) (D_need a2 (by omega) (fun _ => ?_) (fun e => absurd e (by decide)))) | (refine ⟨fun _ => ?_, fun _ => ?_⟩ <;> try omega) | (refine ⟨by first | omega | rfl | assumption | (simp only [dst_1, dst_2, up3_ap, upd1_ap, Nat.reduceEqDiff, ↓reduceIte, eq_self] at * <;> omega) | fail, ?_⟩) | (exact go y1 m2 a1 a2 a3 a4) | (simp only [dst_1, dst_2, up3_ap, upd1_ap, Nat.reduceEqDiff, ↓reduceIte, eq_self] at *) | omega | fail
        · rw [if_neg (by simp [h60, h61, h62])] at hk
          cases hk
          clear sgn
          refine RDr [] [2010042] 40 ?_
          repeat' first | ((refine hub_i (by dsimp only [kdD]; omega) (S _ _ B _ _ _ _ _ _ hr2 hS hB1 hB (by omega) (fun y1 m2 a1 a2 a3 a4 => ?_)); have kr2 := a2.1.1)) | (refine hub_i (by dsimp only [kdD]; omega) (D_isC (w := [60]) rfl a2 (by decide) (fun e1 => absurd e1 h60) (fun e1 => ?_))) | (refine hub_i (by dsimp only [kdD]; omega) (D_isC (w := [62]) rfl a2 (by decide) (fun e1 => absurd e1 h62) (fun e1 => ?_))) | (refine hub_i (by dsimp only [kdD]; omega) (D_isC (w := [61]) rfl a2 (by decide) (fun e1 => absurd e1 h61) (fun e1 => ?_))) | (refine hub_i (by dsimp only [kdD]; omega) (D_need a2 (by omega) (fun e => absurd rfl e) (fun _ m3 w g1 => ?_))) | (refine ⟨fun _ => ?_, fun _ => ?_⟩ <;> try omega) | (refine ⟨by first | omega | rfl | assumption | (simp only [dst_1, dst_2, up3_ap, upd1_ap, Nat.reduceEqDiff, ↓reduceIte, eq_self] at * <;> omega) | fail, ?_⟩) | (exact hQ _ _ ((g1.wt a1 (by decide) (by omega)).l)) | (simp only [dst_1, dst_2, up3_ap, upd1_ap, Nat.reduceEqDiff, ↓reduceIte, eq_self] at *) | omega | fail
end
