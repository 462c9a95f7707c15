/-! THE MODEL: act, near, fund: the text is read -/
set_option maxHeartbeats 3200000
set_option maxRecDepth 100000
section
variable {d : Nat} {m m0 m' : sg} {Q : mQ sg} {t : Int → Int} {n : Int} {nm : Nat} {q q' o : Int} {pre pre' : List Int} {k : Int} {cs : List Cl} {nn : List (Int × Int)}
theorem MD.tx (h : MD t n nm q (cat cs) cs.length cs nn m) : TX m 44 cs := ⟨h.1.2.2.1.1, h.2.1, by rw [show (20 : Int) * 44 = 880 by omega]; exact h.2.2.1, fun i hi => by rw [show (420 : Int) * 44 + i = 18480 + i by omega]; exact h.1.2.2.1.2 i hi⟩
theorem srt0 (h : n ≤ q) : srt t n q = 0 := by unfold srt; rw [if_pos h]
theorem srt1 (h : ¬ n ≤ q) : srt t n q ≠ 0 := by
  unfold srt
  rw [if_neg h]
  split
  · omega
  · split
    · split <;> omega
    · omega
theorem nm_ok {cs : List Cl} (h : ∀ c ∈ cs, clsOk n c) : ∀ i : Nat, i < (nms cs).length → 0 ≤ ((nms cs).getD i (0, 0)).1 ∧ ((nms cs).getD i (0, 0)).1 + ((nms cs).getD i (0, 0)).2 ≤ n := by
  have al : ∀ (cs : List Cl), (∀ c ∈ cs, clsOk n c) → ∀ x ∈ nms cs, 0 ≤ x.1 ∧ x.1 + x.2 ≤ n := by
    intro cs
    induction cs with
    | nil => intro _ x hx; cases hx
    | cons c r ih =>
      intro h x hx
      have hr := ih (fun c hc => h c (List.mem_cons_of_mem _ hc))
      have hx : x ∈ (if c.1 = 8 then (c.2.2.2.2.2.2, c.2.1) :: nms r else nms r) := hx
      by_cases e : c.1 = 8
      · rw [if_pos e] at hx
        rcases List.mem_cons.mp hx with rfl | hx
        · rcases h c List.mem_cons_self with h | h | h
          · omega
          · omega
          · exact h.2.2.1
        · exact hr x hx
      · rw [if_neg e] at hx
        exact hr x hx
  intro i hi
  rw [List.getD_eq_getElem?_getD, List.getElem?_eq_getElem hi]
  exact al cs h _ (List.getElem_mem hi)
abbrev lPost (m0 : sg) (x : (Int × Int) ⊕ List Cl) (R : sg → Prop) : Prop := match x with
  | .inl (kf, pf) => ∀ m', FY m0 kf pf m' → R m'
  | .inr cs => ∀ m', frY m0 m' → m' 19 0 = 0 → TX m' 44 cs → R m'
theorem C_actL {f : Nat} {fr : Int} {x2 : Option mV} : ∀ (g : Nat) (q : Int) (cs : List Cl) (m : sg) (x : (Int × Int) ⊕ List Cl), actC t n f g q cs = some x → MD t n 13 q (cat cs) cs.length cs [] m → frY m0 m → akOk q cs → lPost m0 x (fun m' => RM (d + 62) 88 (54, [some (mR 1026), some (mI fr), x2], [], m') Q) → RM (d + 62) 88 (33, [some (mR 1026), some (mI fr), x2], [], m) Q
  | 0, q, cs, m, x, h, _, _, _, _ => by cases h
  | g + 1, q, cs, m, x, h, hD, hY, hk, hQ => by
    have hqn := hD.1.qn
    have h19 := hD.1.wl
    have h17 := hD.1.so
    unfold actC at h
    by_cases hn : n ≤ q
    · rw [if_pos hn] at h
      cases h
      have hs := srt0 (t := t) hn
      have fin := hQ m hY h19 hD.tx
      refine RMr [] [880033, 880054] 40 ?_
      repeat' first | (refine ⟨fun _ => ?_, fun _ => ?_⟩ <;> try omega) | (refine ⟨by first | omega | (simp only [upm_ap, upd1_ap, Nat.reduceEqDiff, ↓reduceIte, eq_self] at * <;> omega) | fail, ?_⟩) | (refine M_isWell (fun _ => ?_) (fun e => absurd h19 e)) | (exact fin) | (simp only [upm_ap, upd1_ap, Nat.reduceEqDiff, ↓reduceIte, eq_self] at *) | omega | fail
    · rw [if_neg hn] at h
      have hs := srt1 (t := t) hn
      rcases dB_some h with ⟨⟨kf, pf⟩, hc, rfl⟩ | ⟨c, q', hc, hk2⟩
      · refine RMr [] [880033, 880054] 40 ?_
        repeat' first | (refine ⟨fun _ => ?_, fun _ => ?_⟩ <;> try omega) | (refine ⟨by first | omega | (simp only [upm_ap, upd1_ap, Nat.reduceEqDiff, ↓reduceIte, eq_self] at * <;> omega) | fail, ?_⟩) | (refine M_isWell (fun _ => ?_) (fun e => absurd h19 e)) | (refine C_rule hc hD hY ⟨rfl, by have := hk.2.1; omega⟩ rfl hk.1 (fun m' g1 => ?_)) | (simp only [upm_ap, upd1_ap, Nat.reduceEqDiff, ↓reduceIte, eq_self] at *) | omega | fail
        have fin := hQ _ g1
        refine RMr [] [880054] 40 ?_
        repeat' first | (refine ⟨fun _ => ?_, fun _ => ?_⟩ <;> try omega) | (refine ⟨by first | omega | (simp only [upm_ap, upd1_ap, Nat.reduceEqDiff, ↓reduceIte, eq_self] at * <;> omega) | fail, ?_⟩) | (refine M_isWell (fun e => absurd e g1.x) (fun _ => ?_)) | (exact fin) | (simp only [upm_ap, upd1_ap, Nat.reduceEqDiff, ↓reduceIte, eq_self] at *) | omega | fail
      · have far := rul_far ⟨hqn.1, hqn.2.1⟩ (by omega) hc
        have hk3 := ak_s ⟨hqn.1, hqn.2.1⟩ (by omega) hk hc
        have e8 : nms [c] = [] := by
          show (if c.1 = 8 then [(c.2.2.2.2.2.2, c.2.1)] else []) = _
          rw [if_neg (by have := far.2.2.2.2; omega)]
        refine RMr [] [880033, 880054] 40 ?_
        repeat' first | (refine ⟨fun _ => ?_, fun _ => ?_⟩ <;> try omega) | (refine ⟨by first | omega | (simp only [upm_ap, upd1_ap, Nat.reduceEqDiff, ↓reduceIte, eq_self] at * <;> omega) | fail, ?_⟩) | (refine M_isWell (fun _ => ?_) (fun e => absurd h19 e)) | (refine C_rule hc hD hY ⟨rfl, by have := hk.2.1; omega⟩ rfl hk.1 (fun m' hY1 hD1 => ?_)) | (simp only [upm_ap, upd1_ap, Nat.reduceEqDiff, ↓reduceIte, eq_self] at *) | omega | fail
        rw [e8] at hD1
        refine C_actL g _ _ _ _ hk2 ?_ hY1 hk3 hQ
        rw [cat_app, List.length_append]
        have e1 : cat [c] = c.2.2.2.1 ++ c.2.2.2.2.1 := by show c.2.2.2.1 ++ (c.2.2.2.2.1 ++ []) = _; rw [List.append_nil]
        rw [e1]
        exact hD1
theorem C_fundL {f : Nat} {a1 a2 : Int} {x3 x4 x5 x6 x7 : Option mV} : ∀ (g : Nat) (q : Int) (cs : List Cl) (m : sg) (x : (Int × Int) ⊕ List Cl), deedC t n f g q cs = some x → MD t n 10 q (cat cs) cs.length cs (nms cs) m → frY m0 m → dkOk n q cs → lPost m0 x (fun m' => RM (d + 62) 118 (66, [some (mR 1026), some (mI a1), some (mI a2), x3, x4, x5, x6, x7], [], m') Q) → RM (d + 62) 118 (45, [some (mR 1026), some (mI a1), some (mI a2), x3, x4, x5, x6, x7], [], m) Q
  | 0, q, cs, m, x, h, _, _, _, _ => by cases h
  | g + 1, q, cs, m, x, h, hD, hY, hk, hQ => by
    have hqn := hD.1.qn
    have h19 := hD.1.wl
    have h17 := hD.1.so
    unfold deedC at h
    by_cases hn : n ≤ q
    · rw [if_pos hn] at h
      cases h
      have hs := srt0 (t := t) hn
      have fin := hQ m hY h19 hD.tx
      refine RMr [] [1180045, 1180066] 40 ?_
      repeat' first | (refine ⟨fun _ => ?_, fun _ => ?_⟩ <;> try omega) | (refine ⟨by first | omega | (simp only [upm_ap, upd1_ap, Nat.reduceEqDiff, ↓reduceIte, eq_self] at * <;> omega) | fail, ?_⟩) | (refine M_isWell (fun _ => ?_) (fun e => absurd h19 e)) | (exact fin) | (simp only [upm_ap, upd1_ap, Nat.reduceEqDiff, ↓reduceIte, eq_self] at *) | omega | fail
    · rw [if_neg hn] at h
      have hs := srt1 (t := t) hn
      have hok := nm_ok hk.2.2.2
      rcases dB_some h with ⟨⟨kf, pf⟩, hc, rfl⟩ | ⟨c, q', hc, hk2⟩
      · refine RMr [] [1180045, 1180066] 40 ?_
        repeat' first | (refine ⟨fun _ => ?_, fun _ => ?_⟩ <;> try omega) | (refine ⟨by first | omega | (simp only [upm_ap, upd1_ap, Nat.reduceEqDiff, ↓reduceIte, eq_self] at * <;> omega) | fail, ?_⟩) | (refine M_isWell (fun _ => ?_) (fun e => absurd h19 e)) | (refine C_clause hc hD hY ⟨rfl, by have := hk.2.1; omega⟩ rfl hk.1 hk.2.2.1 hok (fun m' g1 => ?_)) | (simp only [upm_ap, upd1_ap, Nat.reduceEqDiff, ↓reduceIte, eq_self] at *) | omega | fail
        have fin := hQ _ g1
        refine RMr [] [1180066] 40 ?_
        repeat' first | (refine ⟨fun _ => ?_, fun _ => ?_⟩ <;> try omega) | (refine ⟨by first | omega | (simp only [upm_ap, upd1_ap, Nat.reduceEqDiff, ↓reduceIte, eq_self] at * <;> omega) | fail, ?_⟩) | (refine M_isWell (fun e => absurd e g1.x) (fun _ => ?_)) | (exact fin) | (simp only [upm_ap, upd1_ap, Nat.reduceEqDiff, ↓reduceIte, eq_self] at *) | omega | fail
      · have hk3 := dk_s ⟨hqn.1, hqn.2.1⟩ hk hc
        refine RMr [] [1180045, 1180066] 40 ?_
        repeat' first | (refine ⟨fun _ => ?_, fun _ => ?_⟩ <;> try omega) | (refine ⟨by first | omega | (simp only [upm_ap, upd1_ap, Nat.reduceEqDiff, ↓reduceIte, eq_self] at * <;> omega) | fail, ?_⟩) | (refine M_isWell (fun _ => ?_) (fun e => absurd h19 e)) | (refine C_clause hc hD hY ⟨rfl, by have := hk.2.1; omega⟩ rfl hk.1 hk.2.2.1 hok (fun m' hY1 hD1 => ?_)) | (simp only [upm_ap, upd1_ap, Nat.reduceEqDiff, ↓reduceIte, eq_self] at *) | omega | fail
        refine C_fundL g _ _ _ _ hk2 ?_ hY1 hk3 hQ
        rw [cat_app, List.length_append, nms_app]
        have e1 : cat [c] = c.2.2.2.1 ++ c.2.2.2.2.1 := by show c.2.2.2.1 ++ (c.2.2.2.2.1 ++ []) = _; rw [List.append_nil]
        rw [e1]
        exact hD1
theorem C_nearL {f : Nat} {a1 : Int} {x2 : Option mV} {x : (Int × Int) ⊕ List Cl} (h : neaC t n f q = some x) (hD : MD t n 10 q [] 0 [] [] m) (hY : frY m0 m) (hQ : lPost m0 x (fun m' => RM (d + 62) 124 (74, [some (mR 1026), some (mI a1), x2], [], m') Q)) : RM (d + 62) 124 (33, [some (mR 1026), some (mI a1), x2], [], m) Q := by
  have hqn := hD.1.qn
  have h19 := hD.1.wl
  unfold neaC at h
  by_cases he : isWb t n q wEnd = true
  · rw [if_pos he] at h
    rcases dB_some h with ⟨⟨kf, pf⟩, hc, rfl⟩ | ⟨c, q', hc, hk2⟩
    · refine RMr [] [1240074] 60 ?_
      repeat' first | (refine ⟨fun _ => ?_, fun _ => ?_⟩ <;> try omega) | (refine ⟨by first | omega | (simp only [upm_ap, upd1_ap, Nat.reduceEqDiff, ↓reduceIte, eq_self] at * <;> omega) | fail, ?_⟩) | (refine M_isWell (fun e => absurd e g1.x) (fun _ => ?_)) | (refine P_isw (w := wEnd) rfl hD.1 (by decide) (fun e1 => ?_) (fun e1 => absurd he (by rw [e1]; decide))) | (refine C_clause (cs := []) hc hD hY ⟨rfl, by omega⟩ rfl (by show ((0 : Nat) : Int) ≤ q; omega) (by show 0 ≤ 6; omega) (fun i hi => absurd hi (Nat.not_lt_zero _)) (fun m' g1 => ?_)) | (exact hQ _ g1) | (simp only [upm_ap, upd1_ap, Nat.reduceEqDiff, ↓reduceIte, eq_self] at *) | omega | fail
    · have far := cls_far ⟨hqn.1, hqn.2.1⟩ hc
      have tx : ∀ m', MD t n 10 q' ([] ++ (c.2.2.2.1 ++ c.2.2.2.2.1)) (0 + 1) ([] ++ [c]) ([] ++ nms [c]) m' → TX m' 44 [c] := by
        intro m' h
        refine MD.tx (t := t) (n := n) (nm := 10) (q := q') (nn := nms [c]) ?_
        have e1 : cat [c] = c.2.2.2.1 ++ c.2.2.2.2.1 := by show c.2.2.2.1 ++ (c.2.2.2.2.1 ++ []) = _; rw [List.append_nil]
        rw [e1]
        exact h
      by_cases hn : n ≤ q'
      · rw [if_pos hn] at hk2
        cases hk2
        have hs := srt0 (t := t) hn
        refine RMr [] [1240074] 60 ?_
        repeat' first | (refine ⟨fun _ => ?_, fun _ => ?_⟩ <;> try omega) | (refine ⟨by first | omega | (simp only [upm_ap, upd1_ap, Nat.reduceEqDiff, ↓reduceIte, eq_self] at * <;> omega) | fail, ?_⟩) | ((have h17 := hD1.1.so; clear h17; refine M_isWell (fun _ => ?_) (fun e => absurd hD1.1.wl e))) | (refine P_isw (w := wEnd) rfl hD.1 (by decide) (fun e1 => ?_) (fun e1 => absurd he (by rw [e1]; decide))) | (refine C_clause (cs := []) hc hD hY ⟨rfl, by omega⟩ rfl (by show ((0 : Nat) : Int) ≤ q; omega) (by show 0 ≤ 6; omega) (fun i hi => absurd hi (Nat.not_lt_zero _)) (fun m' hY1 hD1 => ?_)) | (exact absurd (hD1.1.so.trans hs) (by assumption)) | (exact hQ _ hY1 hD1.1.wl (tx _ hD1)) | (simp only [upm_ap, upd1_ap, Nat.reduceEqDiff, ↓reduceIte, eq_self] at *) | omega | fail
      · rw [if_neg hn] at hk2
        cases hk2
        have hs := srt1 (t := t) hn
        refine RMr [] [1240074] 60 ?_
        repeat' first | (refine ⟨fun _ => ?_, fun _ => ?_⟩ <;> try omega) | (refine ⟨by first | omega | (simp only [upm_ap, upd1_ap, Nat.reduceEqDiff, ↓reduceIte, eq_self] at * <;> omega) | fail, ?_⟩) | (refine M_isWell (fun _ => ?_) (fun e => absurd hD1.1.wl e)) | (refine P_isw (w := wEnd) rfl hD.1 (by decide) (fun e1 => ?_) (fun e1 => absurd he (by rw [e1]; decide))) | (refine C_clause (cs := []) hc hD hY ⟨rfl, by omega⟩ rfl (by show ((0 : Nat) : Int) ≤ q; omega) (by show 0 ≤ 6; omega) (fun i hi => absurd hi (Nat.not_lt_zero _)) (fun m' hY1 hD1 => ?_)) | (refine P_fail hD1.1 (frX.rfl (m := m')) (by decide) (fun m2 g1 g2 => ?_)) | (exact absurd (show m' 17 0 = 0 by assumption) (by rw [hD1.1.so]; exact hs)) | (exact hQ _ (g1.y hY1)) | (simp only [upm_ap, upd1_ap, Nat.reduceEqDiff, ↓reduceIte, eq_self] at *) | omega | fail
  · rw [if_neg he] at h
    cases h
    refine RMr [] [1240074] 60 ?_
    repeat' first | (refine ⟨fun _ => ?_, fun _ => ?_⟩ <;> try omega) | (refine ⟨by first | omega | (simp only [upm_ap, upd1_ap, Nat.reduceEqDiff, ↓reduceIte, eq_self] at * <;> omega) | fail, ?_⟩) | (refine M_isWell (fun e => absurd e g1.x) (fun _ => ?_)) | (refine P_isw (w := wEnd) rfl hD.1 (by decide) (fun e1 => absurd e1 he) (fun e1 => ?_)) | (refine P_fail hD.1 (frX.rfl (m := m)) (by decide) (fun m2 g1 g2 => ?_)) | (exact hQ _ (g1.y hY)) | (simp only [upm_ap, upd1_ap, Nat.reduceEqDiff, ↓reduceIte, eq_self] at *) | omega | fail
end
