/-! THE TEXTS: what is read (spec of both readers). A result: none (no fuel), a fault (kind, place), or a code, its comparisons' codes, the next token -/
set_option maxHeartbeats 1600000
set_option maxRecDepth 100000
/-- the token at q is the word w -/
def isWb (t : Int → Int) (n q : Int) (w : List Int) : Bool := decide (tke t n q - q = (w.length : Int)) && (List.range w.length).all (fun i => decide (byt t n (q + i) = w.getD i 0))
theorem isWb_iff {t : Int → Int} {n q : Int} {w : List Int} : isWb t n q w = true ↔ tke t n q - q = (w.length : Int) ∧ ∀ i : Nat, i < w.length → byt t n (q + i) = w.getD i 0 := by
  unfold isWb
  rw [Bool.and_eq_true, decide_eq_true_iff, List.all_eq_true]
  refine and_congr_right (fun _ => ⟨fun h i hi => of_decide_eq_true (h i (List.mem_range.mpr hi)), fun h i hi => decide_eq_true (h i (List.mem_range.mp hi))⟩)
theorem isWb_lt {t : Int → Int} {n q : Int} {w : List Int} (h : isWb t n q w = true) (hw : w ≠ []) (hq : q ≤ n) : q < n ∧ q < nx t n q := by
  have h1 := (isWb_iff.mp h).1
  have hl : 0 < w.length := List.length_pos_iff.mpr hw
  have hb := tke_b (t := t) hq
  have hn := nx_b (t := t) hq
  omega
/-- the first of some words; -1 -/
def wix (t : Int → Int) (n q : Int) : List (List Int) → Int
  | [] => -1
  | w :: r => if isWb t n q w then 0 else if wix t n q r = -1 then -1 else wix t n q r + 1
theorem wix_b {t : Int → Int} {n q : Int} : ∀ ws : List (List Int), -1 ≤ wix t n q ws ∧ wix t n q ws < ws.length
  | [] => ⟨Int.le_refl _, by show (-1 : Int) < (0 : Nat); omega⟩
  | w :: r => by
    have ih := wix_b (t := t) (n := n) (q := q) r
    have e : wix t n q (w :: r) = if isWb t n q w then 0 else if wix t n q r = -1 then -1 else wix t n q r + 1 := rfl
    rw [e, List.length_cons]
    split
    · omega
    · split <;> omega
def wNm : List (List Int) := [[112, 111, 111, 114], [109, 97, 105, 100, 115], [98, 111, 121, 115], [115, 105, 99, 107], [98, 114, 101, 97, 100], [99, 111, 97, 108], [114, 101, 110, 116], [108, 97, 107, 101], [105, 110, 99, 111, 109, 101], [99, 111, 105, 110], [108, 105, 118, 105, 110, 103], [100, 101, 97, 100], [109, 97, 114, 107, 115]]
abbrev wNot : List Int := [110, 111, 116]
abbrev wAnd : List Int := [97, 110, 100]
abbrev wOr : List Int := [111, 114]
abbrev pR : Type := Option ((Int × Int) ⊕ (List Int × List (List Int) × Int))
abbrev pF (k q : Int) : pR := some (.inl (k, q))
abbrev pO (c : List Int) (l : List (List Int)) (q : Int) : pR := some (.inr (c, l, q))
def pB (r : pR) (k : List Int → List (List Int) → Int → pR) : pR := match r with
  | none => none
  | some (.inl e) => some (.inl e)
  | some (.inr (c, l, q)) => k c l q
def trn (c c1 : List Int) : List Int := if c = [] then c1 else c1 ++ [-9]
/-- 0 factor, 1 product, 7 its loop, 2 sum, 8 its loop, 3 comparison, 4 part (c: turned), 5 both, 9 its loop, 6 condition, 10 its loop; o: brackets, nm: names known -/
def prs (t : Int → Int) (n : Int) (nm : Nat) : Nat → Nat → Int → Int → List Int → List (List Int) → pR
  | 0, _, _, _, _, _ => none
  | f + 1, s, o, q, c, l => match s with
    | 0 => if isWb t n q [40] then (if 4 ≤ o then pF 4 q else pB (prs t n nm f 2 (o + 1) (nx t n q) [] []) (fun c1 l1 q1 => if isWb t n q1 [41] then pO c1 l1 (nx t n q1) else pF 1 q1))
        else if srt t n q = 3 then (if wix t n q (wNm.take nm) = -1 then pF 3 q else pO [10000 + wix t n q (wNm.take nm)] [] (nx t n q))
        else if srt t n q = 2 then pO [vlu t n q] [] (nx t n q) else pF 1 q
    | 1 => pB (prs t n nm f 0 o q [] []) (fun c1 l1 q1 => prs t n nm f 7 o q1 c1 l1)
    | 7 => if isWb t n q [42] then pB (prs t n nm f 0 o (nx t n q) [] []) (fun c2 _ q1 => prs t n nm f 7 o q1 (c ++ (c2 ++ [-3])) []) else pO c [] q
    | 2 => pB (prs t n nm f 1 o q [] []) (fun c1 l1 q1 => prs t n nm f 8 o q1 c1 l1)
    | 8 => if isWb t n q [43] || isWb t n q [45] then pB (prs t n nm f 1 o (nx t n q) [] []) (fun c2 _ q1 => prs t n nm f 8 o q1 (c ++ (c2 ++ [if isWb t n q [43] then -1 else -2])) []) else pO c [] q
    | 3 => pB (prs t n nm f 2 o q [] []) (fun c1 _ q1 => if isWb t n q1 [60] || (isWb t n q1 [62] || isWb t n q1 [61]) then pB (prs t n nm f 2 o (nx t n q1) [] []) (fun c2 _ q2 => pO (c1 ++ (c2 ++ [if isWb t n q1 [60] then -4 else if isWb t n q1 [62] then -5 else -6])) [c1 ++ (c2 ++ [if isWb t n q1 [60] then -4 else if isWb t n q1 [62] then -5 else -6])] q2) else pF 1 q1)
    | 4 => if isWb t n q wNot then prs t n nm f 4 o (nx t n q) (if c = [] then [1] else []) []
        else if isWb t n q [91] then (if 4 ≤ o then pF 4 q else pB (prs t n nm f 6 (o + 1) (nx t n q) [] []) (fun c1 l1 q1 => if isWb t n q1 [93] then pO (trn c c1) l1 (nx t n q1) else pF 1 q1))
        else pB (prs t n nm f 3 o q [] []) (fun c1 l1 q1 => pO (trn c c1) l1 q1)
    | 5 => pB (prs t n nm f 4 o q [] []) (fun c1 l1 q1 => prs t n nm f 9 o q1 c1 l1)
    | 9 => if isWb t n q wAnd then pB (prs t n nm f 4 o (nx t n q) [] []) (fun c2 l2 q1 => prs t n nm f 9 o q1 (c ++ (c2 ++ [-7])) (l ++ l2)) else pO c l q
    | 6 => pB (prs t n nm f 5 o q [] []) (fun c1 l1 q1 => prs t n nm f 10 o q1 c1 l1)
    | 10 => if isWb t n q wOr then pB (prs t n nm f 5 o (nx t n q) [] []) (fun c2 l2 q1 => prs t n nm f 10 o q1 (c ++ (c2 ++ [-8])) (l ++ l2)) else pO c l q
    | _ => none
theorem prs_0 (t : Int → Int) (n : Int) (nm f : Nat) (o q : Int) (c : List Int) (l : List (List Int)) : prs t n nm (f + 1) 0 o q c l = (if isWb t n q [40] then (if 4 ≤ o then pF 4 q else pB (prs t n nm f 2 (o + 1) (nx t n q) [] []) (fun c1 l1 q1 => if isWb t n q1 [41] then pO c1 l1 (nx t n q1) else pF 1 q1)) else if srt t n q = 3 then (if wix t n q (wNm.take nm) = -1 then pF 3 q else pO [10000 + wix t n q (wNm.take nm)] [] (nx t n q)) else if srt t n q = 2 then pO [vlu t n q] [] (nx t n q) else pF 1 q) := rfl
theorem prs_1 (t : Int → Int) (n : Int) (nm f : Nat) (o q : Int) (c : List Int) (l : List (List Int)) : prs t n nm (f + 1) 1 o q c l = (pB (prs t n nm f 0 o q [] []) (fun c1 l1 q1 => prs t n nm f 7 o q1 c1 l1)) := rfl
theorem prs_2 (t : Int → Int) (n : Int) (nm f : Nat) (o q : Int) (c : List Int) (l : List (List Int)) : prs t n nm (f + 1) 2 o q c l = (pB (prs t n nm f 1 o q [] []) (fun c1 l1 q1 => prs t n nm f 8 o q1 c1 l1)) := rfl
theorem prs_3 (t : Int → Int) (n : Int) (nm f : Nat) (o q : Int) (c : List Int) (l : List (List Int)) : prs t n nm (f + 1) 3 o q c l = (pB (prs t n nm f 2 o q [] []) (fun c1 _ q1 => if isWb t n q1 [60] || (isWb t n q1 [62] || isWb t n q1 [61]) then pB (prs t n nm f 2 o (nx t n q1) [] []) (fun c2 _ q2 => pO (c1 ++ (c2 ++ [if isWb t n q1 [60] then -4 else if isWb t n q1 [62] then -5 else -6])) [c1 ++ (c2 ++ [if isWb t n q1 [60] then -4 else if isWb t n q1 [62] then -5 else -6])] q2) else pF 1 q1)) := rfl
theorem prs_4 (t : Int → Int) (n : Int) (nm f : Nat) (o q : Int) (c : List Int) (l : List (List Int)) : prs t n nm (f + 1) 4 o q c l = (if isWb t n q wNot then prs t n nm f 4 o (nx t n q) (if c = [] then [1] else []) [] else if isWb t n q [91] then (if 4 ≤ o then pF 4 q else pB (prs t n nm f 6 (o + 1) (nx t n q) [] []) (fun c1 l1 q1 => if isWb t n q1 [93] then pO (trn c c1) l1 (nx t n q1) else pF 1 q1)) else pB (prs t n nm f 3 o q [] []) (fun c1 l1 q1 => pO (trn c c1) l1 q1)) := rfl
theorem prs_5 (t : Int → Int) (n : Int) (nm f : Nat) (o q : Int) (c : List Int) (l : List (List Int)) : prs t n nm (f + 1) 5 o q c l = (pB (prs t n nm f 4 o q [] []) (fun c1 l1 q1 => prs t n nm f 9 o q1 c1 l1)) := rfl
theorem prs_6 (t : Int → Int) (n : Int) (nm f : Nat) (o q : Int) (c : List Int) (l : List (List Int)) : prs t n nm (f + 1) 6 o q c l = (pB (prs t n nm f 5 o q [] []) (fun c1 l1 q1 => prs t n nm f 10 o q1 c1 l1)) := rfl
theorem prs_7 (t : Int → Int) (n : Int) (nm f : Nat) (o q : Int) (c : List Int) (l : List (List Int)) : prs t n nm (f + 1) 7 o q c l = (if isWb t n q [42] then pB (prs t n nm f 0 o (nx t n q) [] []) (fun c2 _ q1 => prs t n nm f 7 o q1 (c ++ (c2 ++ [-3])) []) else pO c [] q) := rfl
theorem prs_8 (t : Int → Int) (n : Int) (nm f : Nat) (o q : Int) (c : List Int) (l : List (List Int)) : prs t n nm (f + 1) 8 o q c l = (if isWb t n q [43] || isWb t n q [45] then pB (prs t n nm f 1 o (nx t n q) [] []) (fun c2 _ q1 => prs t n nm f 8 o q1 (c ++ (c2 ++ [if isWb t n q [43] then -1 else -2])) []) else pO c [] q) := rfl
theorem prs_9 (t : Int → Int) (n : Int) (nm f : Nat) (o q : Int) (c : List Int) (l : List (List Int)) : prs t n nm (f + 1) 9 o q c l = (if isWb t n q wAnd then pB (prs t n nm f 4 o (nx t n q) [] []) (fun c2 l2 q1 => prs t n nm f 9 o q1 (c ++ (c2 ++ [-7])) (l ++ l2)) else pO c l q) := rfl
theorem prs_10 (t : Int → Int) (n : Int) (nm f : Nat) (o q : Int) (c : List Int) (l : List (List Int)) : prs t n nm (f + 1) 10 o q c l = (if isWb t n q wOr then pB (prs t n nm f 5 o (nx t n q) [] []) (fun c2 l2 q1 => prs t n nm f 10 o q1 (c ++ (c2 ++ [-8])) (l ++ l2)) else pO c l q) := rfl
section
variable {t : Int → Int} {n : Int} {nm : Nat}
theorem pB_some {r : pR} {k : List Int → List (List Int) → Int → pR} {x : (Int × Int) ⊕ (List Int × List (List Int) × Int)} (h : pB r k = some x) : (∃ e, r = some (.inl e) ∧ x = .inl e) ∨ ∃ c l q, r = pO c l q ∧ k c l q = some x := by
  unfold pB at h
  split at h
  · cases h
  · rename_i e
    exact Or.inl ⟨e, rfl, by cases h; rfl⟩
  · rename_i c l q
    exact Or.inr ⟨c, l, q, rfl, h⟩
/-- what a selector's fuel is -/
def rnk (s : Nat) : Nat := match s with
  | 0 => 1 | 1 => 2 | 2 => 3 | 3 => 4 | 4 => 5 | 5 => 6 | 6 => 7 | _ => 1
/-- how far: where, how long -/
theorem prs_far : ∀ (f s : Nat) (o q : Int) (c : List Int) (l : List (List Int)), q ≤ n → ∀ c' l' q', prs t n nm f s o q c l = pO c' l' q' →
    q ≤ q' ∧ q' ≤ n ∧ (c'.length : Int) ≤ (if s = 7 ∨ s = 8 ∨ s = 9 ∨ s = 10 then (c.length : Int) else if s = 4 ∧ c ≠ [] then 1 else 0) + (q' - q) ∧ (s ≤ 6 → q < q')
  | 0, s, o, q, c, l, _, c', l', q', h => by cases h
  | f + 1, s, o, q, c, l, hq, c', l', q', h => by
    have ih := fun s o q c l => prs_far f s o q c l
    have tr : ∀ c c1 : List Int, ((trn c c1).length : Int) = c1.length + (if c ≠ [] then 1 else 0) := by
      intro c c1
      unfold trn
      by_cases hc : c = []
      · rw [if_pos hc, if_neg (fun h => h hc)]; omega
      · rw [if_neg hc, if_pos hc, List.length_append]; rfl
    have hnx := nx_b (t := t) hq
    match s, h with
    | 0, h =>
      rw [prs_0] at h
      by_cases h1 : isWb t n q [40] = true
      · rw [if_pos h1] at h
        by_cases h2 : 4 ≤ o
        · rw [if_pos h2] at h; cases h
        · rw [if_neg h2] at h
          rcases pB_some h with ⟨e, -, he⟩ | ⟨c1, l1, q1, hr, hk⟩
          · cases he
          · have i := ih 2 _ _ _ _ hnx.2.1 _ _ _ hr
            have hl := isWb_lt h1 (by decide) hq
            by_cases h3 : isWb t n q1 [41] = true
            · rw [if_pos h3] at hk
              cases hk
              have hnx2 := nx_b (t := t) i.2.1
              simp at i ⊢
              omega
            · rw [if_neg h3] at hk; cases hk
      · rw [if_neg h1] at h
        by_cases h2 : srt t n q = 3
        · rw [if_pos h2] at h
          have hlt : q < n := by
            unfold srt at h2
            by_cases hc : n ≤ q
            · rw [if_pos hc] at h2; omega
            · omega
          by_cases h3 : wix t n q (wNm.take nm) = -1
          · rw [if_pos h3] at h; cases h
          · rw [if_neg h3] at h
            cases h
            simp
            omega
        · rw [if_neg h2] at h
          by_cases h3 : srt t n q = 2
          · rw [if_pos h3] at h
            have hlt : q < n := by
              unfold srt at h3
              by_cases hc : n ≤ q
              · rw [if_pos hc] at h3; omega
              · omega
            cases h
            simp
            omega
          · rw [if_neg h3] at h; cases h
    | 1, h =>
      rcases pB_some (show pB (prs t n nm f 0 o q [] []) (fun c1 l1 q1 => prs t n nm f 7 o q1 c1 l1) = some _ from h) with ⟨e, -, he⟩ | ⟨c1, l1, q1, hr, hk⟩
      · cases he
      · have i := ih 0 _ _ _ _ hq _ _ _ hr
        have j := ih 7 _ _ _ _ i.2.1 _ _ _ hk
        simp at i j ⊢
        omega
    | 7, h =>
      rw [prs_7] at h
      by_cases h1 : isWb t n q [42] = true
      · rw [if_pos h1] at h
        have hl := isWb_lt h1 (by decide) hq
        rcases pB_some h with ⟨e, -, he⟩ | ⟨c1, l1, q1, hr, hk⟩
        · cases he
        · have i := ih 0 _ _ _ _ hnx.2.1 _ _ _ hr
          have j := ih 7 _ _ _ _ i.2.1 _ _ _ hk
          simp at i j ⊢
          omega
      · rw [if_neg h1] at h
        cases h
        simp
        omega
    | 2, h =>
      rcases pB_some (show pB (prs t n nm f 1 o q [] []) (fun c1 l1 q1 => prs t n nm f 8 o q1 c1 l1) = some _ from h) with ⟨e, -, he⟩ | ⟨c1, l1, q1, hr, hk⟩
      · cases he
      · have i := ih 1 _ _ _ _ hq _ _ _ hr
        have j := ih 8 _ _ _ _ i.2.1 _ _ _ hk
        simp at i j ⊢
        omega
    | 8, h =>
      rw [prs_8] at h
      by_cases h1 : (isWb t n q [43] || isWb t n q [45]) = true
      · rw [if_pos h1] at h
        have hl : q < n ∧ q < nx t n q := by
          rcases Bool.or_eq_true _ _ ▸ h1 with h | h
          · exact isWb_lt h (by decide) hq
          · exact isWb_lt h (by decide) hq
        rcases pB_some h with ⟨e, -, he⟩ | ⟨c1, l1, q1, hr, hk⟩
        · cases he
        · have i := ih 1 _ _ _ _ hnx.2.1 _ _ _ hr
          have j := ih 8 _ _ _ _ i.2.1 _ _ _ hk
          simp at i j ⊢
          omega
      · rw [if_neg h1] at h
        cases h
        simp
        omega
    | 3, h =>
      rw [prs_3] at h
      rcases pB_some h with ⟨e, -, he⟩ | ⟨c1, l1, q1, hr, hk⟩
      · cases he
      · have i := ih 2 _ _ _ _ hq _ _ _ hr
        by_cases h1 : (isWb t n q1 [60] || (isWb t n q1 [62] || isWb t n q1 [61])) = true
        · rw [if_pos h1] at hk
          have hnx1 := nx_b (t := t) i.2.1
          have hl : q1 < n ∧ q1 < nx t n q1 := by
            rw [Bool.or_eq_true, Bool.or_eq_true] at h1
            rcases h1 with h | h | h
            · exact isWb_lt h (by decide) i.2.1
            · exact isWb_lt h (by decide) i.2.1
            · exact isWb_lt h (by decide) i.2.1
          rcases pB_some hk with ⟨e, -, he⟩ | ⟨c2, l2, q2, hr2, hk2⟩
          · cases he
          · have j := ih 2 _ _ _ _ hnx1.2.1 _ _ _ hr2
            cases hk2
            simp at i j ⊢
            omega
        · rw [if_neg h1] at hk; cases hk
    | 4, h =>
      rw [prs_4] at h
      by_cases h0 : isWb t n q wNot = true
      · rw [if_pos h0] at h
        have hl := isWb_lt h0 (by decide) hq
        have i := ih 4 _ _ _ _ hnx.2.1 _ _ _ h
        by_cases hc : c = []
        · rw [if_pos hc] at i
          simp at i
          simp [hc]
          omega
        · rw [if_neg hc] at i
          simp at i
          simp [hc]
          omega
      · rw [if_neg h0] at h
        by_cases h1 : isWb t n q [91] = true
        · rw [if_pos h1] at h
          by_cases h2 : 4 ≤ o
          · rw [if_pos h2] at h; cases h
          · rw [if_neg h2] at h
            rcases pB_some h with ⟨e, -, he⟩ | ⟨c1, l1, q1, hr, hk⟩
            · cases he
            · have i := ih 6 _ _ _ _ hnx.2.1 _ _ _ hr
              have hl := isWb_lt h1 (by decide) hq
              by_cases h3 : isWb t n q1 [93] = true
              · rw [if_pos h3] at hk
                cases hk
                have hnx2 := nx_b (t := t) i.2.1
                rw [tr]
                simp at i ⊢
                by_cases hc : c = [] <;> simp [hc] <;> omega
              · rw [if_neg h3] at hk; cases hk
        · rw [if_neg h1] at h
          rcases pB_some h with ⟨e, -, he⟩ | ⟨c1, l1, q1, hr, hk⟩
          · cases he
          · have i := ih 3 _ _ _ _ hq _ _ _ hr
            cases hk
            rw [tr]
            simp at i ⊢
            by_cases hc : c = [] <;> simp [hc] <;> omega
    | 5, h =>
      rcases pB_some (show pB (prs t n nm f 4 o q [] []) (fun c1 l1 q1 => prs t n nm f 9 o q1 c1 l1) = some _ from h) with ⟨e, -, he⟩ | ⟨c1, l1, q1, hr, hk⟩
      · cases he
      · have i := ih 4 _ _ _ _ hq _ _ _ hr
        have j := ih 9 _ _ _ _ i.2.1 _ _ _ hk
        simp at i j ⊢
        omega
    | 9, h =>
      rw [prs_9] at h
      by_cases h1 : isWb t n q wAnd = true
      · rw [if_pos h1] at h
        have hl := isWb_lt h1 (by decide) hq
        rcases pB_some h with ⟨e, -, he⟩ | ⟨c1, l1, q1, hr, hk⟩
        · cases he
        · have i := ih 4 _ _ _ _ hnx.2.1 _ _ _ hr
          have j := ih 9 _ _ _ _ i.2.1 _ _ _ hk
          simp at i j ⊢
          omega
      · rw [if_neg h1] at h
        cases h
        simp
        omega
    | 6, h =>
      rcases pB_some (show pB (prs t n nm f 5 o q [] []) (fun c1 l1 q1 => prs t n nm f 10 o q1 c1 l1) = some _ from h) with ⟨e, -, he⟩ | ⟨c1, l1, q1, hr, hk⟩
      · cases he
      · have i := ih 5 _ _ _ _ hq _ _ _ hr
        have j := ih 10 _ _ _ _ i.2.1 _ _ _ hk
        simp at i j ⊢
        omega
    | 10, h =>
      rw [prs_10] at h
      by_cases h1 : isWb t n q wOr = true
      · rw [if_pos h1] at h
        have hl := isWb_lt h1 (by decide) hq
        rcases pB_some h with ⟨e, -, he⟩ | ⟨c1, l1, q1, hr, hk⟩
        · cases he
        · have i := ih 5 _ _ _ _ hnx.2.1 _ _ _ hr
          have j := ih 10 _ _ _ _ i.2.1 _ _ _ hk
          simp at i j ⊢
          omega
      · rw [if_neg h1] at h
        cases h
        simp
        omega
    | s + 11, h => cases h
end
