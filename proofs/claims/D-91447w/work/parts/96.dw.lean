/-! THE DESK READS: which of some words -/
set_option maxHeartbeats 3200000
set_option maxRecDepth 100000
/-- from the blank at k on: words, a blank behind each -/
def WSs (s : List Int) : Nat → List (List Int) → Prop
  | k, [] => k + 1 = s.length
  | k, w :: r => (w ≠ [] ∧ w.length ≤ 6 ∧ (∀ i : Nat, i < w.length → s.getD (k + 1 + i) 0 = w.getD i 0 ∧ w.getD i 0 ≠ 32) ∧ (∀ i : Nat, i < w.length → 97 ≤ w.getD i 0 ∧ w.getD i 0 ≤ 122)) ∧ k + 1 + w.length < s.length ∧ s.getD (k + 1 + w.length) 0 = 32 ∧ WSs s (k + 1 + w.length) r
section
variable {d : Nat} {m m0 m1 : mD} {Q : mQ mD} {t : Int → Int} {n r L : Int} {nm : Nat} {q o ai : Int}
theorem lidx_w {s w : List Int} {k : Nat} (h1 : ∀ i : Nat, i < w.length → s.getD (k + 1 + i) 0 = w.getD i 0 ∧ w.getD i 0 ≠ 32) (h2 : k + 1 + w.length < s.length) (h3 : s.getD (k + 1 + w.length) 0 = 32) : lidx s 32 ((k : Int) + 1) = (k : Int) + 1 + w.length := by
  unfold lidx
  have sp := fstN_spec (fun i => decide (s.getD i.toNat 0 = 32)) (s.length - ((k : Int) + 1).toNat) ((k : Int) + 1)
  generalize hv : fstN (fun i => decide (s.getD i.toNat 0 = 32)) (s.length - ((k : Int) + 1).toNat) ((k : Int) + 1) = v at sp
  rcases sp with ⟨_, h⟩ | ⟨a, b, c, e⟩
  · have := h ((k : Int) + 1 + w.length) (by omega) (by omega)
    rw [show ((k : Int) + 1 + w.length).toNat = k + 1 + w.length by omega, h3] at this
    exact absurd this (by decide)
  · have c := of_decide_eq_true c
    have l1 : ¬ v < (k : Int) + 1 + w.length := by
      intro hlt
      have := h1 (v.toNat - (k + 1)) (by omega)
      rw [show k + 1 + (v.toNat - (k + 1)) = v.toNat by omega] at this
      exact this.2 (this.1 ▸ c)
    have l2 : ¬ (k : Int) + 1 + w.length < v := by
      intro hlt
      have := e ((k : Int) + 1 + w.length) (by omega) hlt
      rw [show ((k : Int) + 1 + w.length).toNat = k + 1 + w.length by omega, h3] at this
      exact absurd this (by decide)
    omega
theorem wix_nosm {ws : List (List Int)} (h : ¬ sml t n q = true) (hw : ∀ w ∈ ws, 97 ≤ w.getD 0 0 ∧ w.getD 0 0 ≤ 122) : wix t n q ws = -1 := by
  induction ws with
  | nil => rfl
  | cons w r ih =>
    have hn : ¬ isWb t n q w = true := fun hh => by
      have := wrd_srt hh (hw w List.mem_cons_self)
      unfold srt at this
      by_cases c : n ≤ q
      · rw [if_pos c] at this; omega
      · rw [if_neg c, if_neg h] at this
        split at this
        · split at this <;> omega
        · omega
    show (if isWb t n q w then 0 else if wix t n q r = -1 then -1 else wix t n q r + 1) = -1
    rw [if_neg hn, if_pos (ih (fun x hx => hw x (List.mem_cons_of_mem _ hx)))]
theorem E_word {a : Int} {many : Nat} (ha : 100 ≤ a ∧ a < 159) (hm : many ≤ 13) : ∀ (ws : List (List Int)) (k j : Nat) (m : mD) (x5 : Option mV) (V : Int), WSs (lit a) k ws → j ≤ many → j ≤ 13 → (lit a).length ≤ 1000 → DS t n nm q o ai r m → 18 * (ws.length : Int) + 100 ≤ m.2.2.2 → V = (if wix t n q (ws.take (many - j)) = -1 then -1 else j + wix t n q (ws.take (many - j))) → sml t n q = true →
    (∀ m', RX r 0 m m' → DS t n nm q o ai r m' → m.2.2.2 - 18 * (ws.length : Int) ≤ m'.2.2.2 → Q (rI V) m') → RD (d + 2) 192 (5, [some (mR r), some (mR a), some (mI (many : Int)), some (mI (k : Int)), some (mI (j : Int)), x5], [], m) Q
  | [], k, j, m, x5, V, hW, hj, hj2, hln, hS, hB, hV, hs, hQ => by
    have hW : k + 1 = (lit a).length := hW
    rw [List.take_nil] at hV
    rw [if_pos (show wix t n q [] = -1 from rfl)] at hV
    have fin := hQ m RX.rfl hS (by have : (([] : List (List Int)).length : Int) = 0 := rfl; omega)
    rw [hV] at fin
    have kr := hS.1.1
    have k7 := hS.2.1.2.2.2.1
    rw [if_pos hs] at k7
    have tx : isTx m a := Or.inl ha
    have sl : sLen m a = ((lit a).length : Int) := by unfold sLen; rw [if_pos (by omega)]
    refine RDr [] [1920005] 40 ?_
    repeat' first | (refine ⟨tx, ?_⟩) | (refine ⟨fun _ => ?_, fun _ => ?_⟩ <;> try omega) | (refine ⟨by first | omega | rfl | assumption | (simp only [dst_1, dst_2, up3_ap, upd1_ap, Nat.reduceEqDiff, ↓reduceIte, eq_self] at * <;> omega) | fail, ?_⟩) | (exact fin) | (simp only [dst_1, dst_2, up3_ap, upd1_ap, Nat.reduceEqDiff, ↓reduceIte, eq_self] at *) | omega | fail
  | w :: ws, k, j, m, x5, V, hW, hj, hj2, hln, hS, hB, hV, hs, hQ => by
    obtain ⟨⟨w1, w2, w3, w4⟩, w5, w6, w7⟩ := hW
    have kr := hS.1.1
    have k7 := hS.2.1.2.2.2.1
    rw [if_pos hs] at k7
    have tx : isTx m a := Or.inl ha
    have sl : sLen m a = ((lit a).length : Int) := by unfold sLen; rw [if_pos (by omega)]
    have wl : 0 < w.length := List.length_pos_iff.mpr w1
    rw [List.length_cons] at hB
    by_cases hjm : j = many
    · rw [hjm, Nat.sub_self, List.take_zero, if_pos (show wix t n q [] = -1 from rfl)] at hV
      have fin := hQ m RX.rfl hS (by rw [List.length_cons]; omega)
      rw [hV] at fin
      refine RDr [] [1920005] 40 ?_
      repeat' first | (refine ⟨tx, ?_⟩) | (refine ⟨fun _ => ?_, fun _ => ?_⟩ <;> try omega) | (refine ⟨by first | omega | rfl | assumption | (simp only [dst_1, dst_2, up3_ap, upd1_ap, Nat.reduceEqDiff, ↓reduceIte, eq_self] at * <;> omega) | fail, ?_⟩) | (exact fin) | (simp only [dst_1, dst_2, up3_ap, upd1_ap, Nat.reduceEqDiff, ↓reduceIte, eq_self] at *) | omega | fail
    · rw [show many - j = (many - (j + 1)) + 1 by omega, List.take_succ_cons] at hV
      have hV : V = (if (if isWb t n q w then 0 else if wix t n q (ws.take (many - (j + 1))) = -1 then -1 else wix t n q (ws.take (many - (j + 1))) + 1) = -1 then -1 else j + (if isWb t n q w then 0 else if wix t n q (ws.take (many - (j + 1))) = -1 then -1 else wix t n q (ws.take (many - (j + 1))) + 1)) := hV
      have li := lidx_w w3 w5 w6
      -- the part of the text
      have sub : ∀ s, m.2.2.1 ≤ s → ∀ m', m' = drow (dst (dal m s 27 ((k : Int) + 1 + w.length - ((k : Int) + 1) + 12)) 22700 s 0 ((k : Int) + 1 + w.length - ((k : Int) + 1))) 12700 s (fun i => (lit a).getD ((k : Int) + 1 + i).toNat 0) → RX r 0 m m' ∧ DS t n nm q o ai r m' ∧ txL m' s w ∧ m'.2.2.2 = m.2.2.2 - (w.length + 12) := by
        intro s hs' m' hm'
        have dr : ∀ g b, b ≠ s → m'.1 g b = m.1 g b := by
          intro g b hb
          rw [hm']
          have e1 : (dst (dal m s 27 ((k : Int) + 1 + w.length - ((k : Int) + 1) + 12)) 22700 s 0 ((k : Int) + 1 + w.length - ((k : Int) + 1))).1 g b = m.1 g b := by
            rw [ds_o hb]
            show (if b = s then (fun _ => 0) else m.1 g b) = _
            rw [if_neg hb]
          show (if g = 12700 then (fun a' => if a' = s then _ else (dst (dal m s 27 _) 22700 s 0 _).1 12700 a') else (dst (dal m s 27 _) 22700 s 0 _).1 g) b = _
          by_cases eg : g = 12700
          · rw [if_pos eg]
            show (if b = s then _ else (dst (dal m s 27 _) 22700 s 0 _).1 12700 b) = _
            rw [if_neg hb, ← eg]
            exact e1
          · rw [if_neg eg]
            exact e1
        have kd : m'.2.1 s = 27 ∧ ∀ b, b ≠ s → m'.2.1 b = m.2.1 b := by
          rw [hm']
          refine ⟨?_, fun b hb => ?_⟩
          · show (if s = s then 27 else _) = _
            rw [if_pos rfl]
          · show (if b = s then 27 else m.2.1 b) = _
            rw [if_neg hb]
        have nx' : m'.2.2.1 = s + 1 := by rw [hm']; rfl
        have bu : m'.2.2.2 = m.2.2.2 - ((k : Int) + 1 + w.length - ((k : Int) + 1) + 12) := by rw [hm']; rfl
        have c1 : m'.1 22700 s 0 = (w.length : Int) := by
          rw [hm']
          show (dst (dal m s 27 _) 22700 s 0 ((k : Int) + 1 + w.length - ((k : Int) + 1))).1 22700 s 0 = _
          rw [dsz_0]
          omega
        have c2 : ∀ i, m'.1 12700 s i = (lit a).getD ((k : Int) + 1 + i).toNat 0 := by
          intro i
          rw [hm']
          show (if s = s then (fun i => (lit a).getD ((k : Int) + 1 + i).toNat 0) else _) i = _
          rw [if_pos rfl]
        have rx : RX r 0 m m' := ⟨by omega, fun b hb => kd.2 b (by omega), fun g b hb => Or.inl (dr g b (by omega))⟩
        have hr := hS.2.2.2.2.2
        refine ⟨rx, hS.y rx (by omega) (fun g _ => dr g r (by omega)), ⟨Or.inr ⟨?_, kd.1⟩, ?_, fun i hi => ?_⟩, by omega⟩
        · have := hS.2.2.2.2.2; omega
        · unfold sLen; rw [if_neg (by omega)]; exact c1
        · unfold sCh
          rw [if_neg (by omega), c2, show ((k : Int) + 1 + (i : Int)).toNat = k + 1 + i by omega]
          exact (w3 i hi).1
      have h127 : ∀ i : Nat, i < w.length → 0 ≤ w.getD i 0 ∧ w.getD i 0 ≤ 127 := fun i hi => by have := w4 i hi; omega
      by_cases hc : isWb t n q w = true
      · rw [if_pos hc, if_neg (by decide)] at hV
        have fin : ∀ m', RX r 0 m m' → DS t n nm q o ai r m' → m'.2.2.2 = m.2.2.2 - (w.length + 12) → Q (rI (j : Int)) m' := fun m' rx s1 b1 => by
          have := hQ m' rx s1 (by rw [List.length_cons]; omega)
          rw [hV, Int.add_zero] at this
          exact this
        refine RDr [] [1920005] 60 ?_
        repeat' first | ((refine ⟨by first | exact ⟨tx, by omega⟩ | (refine ⟨ha, ?_⟩; omega) | fail, ?_⟩)) | ((refine ⟨tx, ?_⟩)) | ((rw [li])) | ((refine ⟨ha, by omega, by omega, ?_⟩)) | ((refine ⟨ha, by omega, by omega, fun s hs' => ?_⟩; obtain ⟨rx, s1, tl, bu⟩ := sub s hs' _ rfl)) | ((intro s hs'; obtain ⟨rx, s1, tl, bu⟩ := sub s hs' _ rfl)) | ((refine hub_i (by dsimp only [kdD]; have := s1.1.1; omega) (D_is s1 tl h127 (fun e1 => ?_) (fun e1 => absurd hc (by rw [e1]; decide))))) | (refine ⟨fun _ => ?_, fun _ => ?_⟩ <;> try omega) | (refine ⟨by first | omega | rfl | assumption | (simp only [dst_1, dst_2, up3_ap, upd1_ap, Nat.reduceEqDiff, ↓reduceIte, eq_self] at * <;> omega) | fail, ?_⟩) | (exact fin _ rx s1 bu) | (simp only [dst_1, dst_2, up3_ap, upd1_ap, Nat.reduceEqDiff, ↓reduceIte, eq_self] at *) | omega | fail
      · rw [if_neg hc] at hV
        have nxt : ∀ m' x5, RX r 0 m m' → DS t n nm q o ai r m' → m'.2.2.2 = m.2.2.2 - (w.length + 12) → RD (d + 2) 192 (5, [some (mR r), some (mR a), some (mI (many : Int)), some (mI ((k : Int) + 1 + w.length)), some (mI ((j : Int) + 1)), x5], [], m') Q := by
          intro m' x5 rx s1 b1
          have := E_word ha hm ws (k + 1 + w.length) (j + 1) m' x5 V w7 (by omega) (by omega) hln s1 (by omega) ?_ hs (fun m'' rx2 s2 b2 => hQ m'' (rx.tr rx2) s2 (by rw [List.length_cons]; omega))
          · rw [show ((k + 1 + w.length : Nat) : Int) = (k : Int) + 1 + w.length by omega, show ((j + 1 : Nat) : Int) = (j : Int) + 1 by omega] at this
            exact this
          · rw [hV]
            have hzb := (wix_b (t := t) (n := n) (q := q) (ws.take (many - (j + 1)))).1
            generalize wix t n q (ws.take (many - (j + 1))) = z at hzb
            by_cases hz : z = -1
            · rw [if_pos hz, if_pos rfl, if_pos hz]
            · rw [if_neg hz, if_neg hz]
              by_cases hz2 : z + 1 = -1
              · omega
              · rw [if_neg hz2]; omega
        refine RDr [] [1920005] 60 ?_
        repeat' first | ((refine ⟨tx, ?_⟩)) | ((rw [li])) | ((refine ⟨ha, by omega, by omega, ?_⟩)) | ((refine ⟨ha, by omega, by omega, fun s hs' => ?_⟩; obtain ⟨rx, s1, tl, bu⟩ := sub s hs' _ rfl)) | ((intro s hs'; obtain ⟨rx, s1, tl, bu⟩ := sub s hs' _ rfl)) | ((refine hub_i (by dsimp only [kdD]; have := s1.1.1; omega) (D_is s1 tl h127 (fun e1 => absurd e1 hc) (fun e1 => ?_)))) | (refine ⟨fun _ => ?_, fun _ => ?_⟩ <;> try omega) | (refine ⟨by first | omega | rfl | assumption | (simp only [dst_1, dst_2, up3_ap, upd1_ap, Nat.reduceEqDiff, ↓reduceIte, eq_self] at * <;> omega) | fail, ?_⟩) | (exact nxt _ _ rx s1 bu) | (simp only [dst_1, dst_2, up3_ap, upd1_ap, Nat.reduceEqDiff, ↓reduceIte, eq_self] at *) | omega | fail
end
section
variable {d : Nat} {m m0 m1 : mD} {Q : mQ mD} {t : Int → Int} {n r L : Int} {nm : Nat} {q o ai : Int}
theorem E_wordOf {a : Int} {many : Nat} {ws : List (List Int)} {x3 x4 x5 : Option mV} (ha : 100 ≤ a ∧ a < 159) (hm : many ≤ 13) (hW : WSs (lit a) 0 ws) (hln : (lit a).length ≤ 1000) (hwl : ws.length ≤ 13) (hw : ∀ w ∈ ws, 97 ≤ w.getD 0 0 ∧ w.getD 0 0 ≤ 122) (hS : DS t n nm q o ai r m) (hB : 400 ≤ m.2.2.2)
    (hQ : ∀ m', RX r 0 m m' → DS t n nm q o ai r m' → m.2.2.2 - 240 ≤ m'.2.2.2 → Q (rI (wix t n q (ws.take many))) m') : RD (d + 2) 192 (0, [some (mR r), some (mR a), some (mI (many : Int)), x3, x4, x5], [], m) Q := by
  have kr := hS.1.1
  by_cases hs : sml t n q = true
  · have go := E_word (d := d) (Q := Q) (t := t) (n := n) (r := r) (nm := nm) (q := q) (o := o) (ai := ai) ha hm ws 0 0 m x5 (wix t n q (ws.take many)) hW (by omega) (by omega) hln hS (by omega) (by
      rw [Nat.sub_zero]
      split
      · assumption
      · omega) hs (fun m' rx s1 b1 => hQ m' rx s1 (by omega))
    refine RDr [] [1920005] 20 ?_
    repeat' first | (refine ⟨fun _ => ?_, fun _ => ?_⟩ <;> try omega) | (refine ⟨by first | omega | rfl | assumption | (simp only [dst_1, dst_2, up3_ap, upd1_ap, Nat.reduceEqDiff, ↓reduceIte, eq_self] at * <;> omega) | fail, ?_⟩) | (exact go) | (simp only [dst_1, dst_2, up3_ap, upd1_ap, Nat.reduceEqDiff, ↓reduceIte, eq_self] at *) | omega | fail
  · have e := wix_nosm (ws := ws.take many) hs (fun w h => hw w (List.mem_of_mem_take h))
    have fin := hQ m RX.rfl hS (by omega)
    rw [e] at fin
    have k7 := hS.2.1.2.2.2.1
    rw [if_neg hs] at k7
    refine RDr [] [] 30 ?_
    repeat' first | (refine ⟨fun _ => ?_, fun _ => ?_⟩ <;> try omega) | (refine ⟨by first | omega | rfl | assumption | (simp only [dst_1, dst_2, up3_ap, upd1_ap, Nat.reduceEqDiff, ↓reduceIte, eq_self] at * <;> omega) | fail, ?_⟩) | (exact fin) | (simp only [dst_1, dst_2, up3_ap, upd1_ap, Nat.reduceEqDiff, ↓reduceIte, eq_self] at *) | omega | fail
theorem WS_all : WSs (lit 123) 0 wNm := by
  refine ⟨⟨by decide, by decide, by decide, by decide⟩, by decide, by decide, ?_⟩
  repeat' first | exact rfl | (refine ⟨⟨by decide, by decide, by decide, by decide⟩, by decide, by decide, ?_⟩) | fail
theorem WS_rul : WSs (lit 107) 0 wRul := by
  refine ⟨⟨by decide, by decide, by decide, by decide⟩, by decide, by decide, ?_⟩
  repeat' first | exact rfl | (refine ⟨⟨by decide, by decide, by decide, by decide⟩, by decide, by decide, ?_⟩) | fail
theorem WS_kin : WSs (lit 109) 0 wKin := by
  refine ⟨⟨by decide, by decide, by decide, by decide⟩, by decide, by decide, ?_⟩
  repeat' first | exact rfl | (refine ⟨⟨by decide, by decide, by decide, by decide⟩, by decide, by decide, ?_⟩) | fail
end
