/-! THE TEXTS: comparisons are counted -/
set_option maxHeartbeats 1600000
set_option maxRecDepth 100000
section
variable {t : Int → Int} {n : Int} {nm : Nat}
/-- comparisons are as many at most -/
theorem prs_cmp : ∀ (f s : Nat) (o q : Int) (c : List Int) (l : List (List Int)), q ≤ n → ∀ c' l' q', prs t n nm f s o q c l = pO c' l' q' →
    q ≤ q' ∧ q' ≤ n ∧ (l'.length : Int) ≤ (if s = 9 ∨ s = 10 then (l.length : Int) else 0) + (q' - q)
  | 0, s, o, q, c, l, _, c', l', q', h => by cases h
  | f + 1, s, o, q, c, l, hq, c', l', q', h => by
    have ih := fun s o q c l => prs_cmp f s o q c l
    have far := fun s o q c l => prs_far (t := t) (n := n) (nm := nm) f s o q c l
    have hnx := nx_b (t := t) hq
    match s, h with
    | 0, h =>
      rw [prs_0] at h
      by_cases h1 : isWb t n q [40] = true
      · rw [if_pos h1] at h
        by_cases h2 : 4 ≤ o
        · rw [if_pos h2] at h; cases h
        · rw [if_neg h2] at h
          rcases pB_some h with ⟨e, -, he⟩ | ⟨c1, l1, q1, hr, hk⟩
          · cases he
          · have i := ih 2 _ _ _ _ hnx.2.1 _ _ _ hr
            have hl := isWb_lt h1 (by decide) hq
            by_cases h3 : isWb t n q1 [41] = true
            · rw [if_pos h3] at hk
              cases hk
              have hnx2 := nx_b (t := t) i.2.1
              simp at i ⊢
              omega
            · rw [if_neg h3] at hk; cases hk
      · rw [if_neg h1] at h
        by_cases h2 : srt t n q = 3
        · rw [if_pos h2] at h
          have hlt : q < n := by
            unfold srt at h2
            by_cases hc : n ≤ q
            · rw [if_pos hc] at h2; omega
            · omega
          by_cases h3 : wix t n q (wNm.take nm) = -1
          · rw [if_pos h3] at h; cases h
          · rw [if_neg h3] at h
            cases h
            simp
            omega
        · rw [if_neg h2] at h
          by_cases h3 : srt t n q = 2
          · rw [if_pos h3] at h
            have hlt : q < n := by
              unfold srt at h3
              by_cases hc : n ≤ q
              · rw [if_pos hc] at h3; omega
              · omega
            cases h
            simp
            omega
          · rw [if_neg h3] at h; cases h
    | 1, h =>
      rcases pB_some (show pB (prs t n nm f 0 o q [] []) (fun c1 l1 q1 => prs t n nm f 7 o q1 c1 l1) = some _ from h) with ⟨e, -, he⟩ | ⟨c1, l1, q1, hr, hk⟩
      · cases he
      · have i := ih 0 _ _ _ _ hq _ _ _ hr
        have j := ih 7 _ _ _ _ i.2.1 _ _ _ hk
        simp at i j ⊢
        omega
    | 7, h =>
      rw [prs_7] at h
      by_cases h1 : isWb t n q [42] = true
      · rw [if_pos h1] at h
        have hl := isWb_lt h1 (by decide) hq
        rcases pB_some h with ⟨e, -, he⟩ | ⟨c1, l1, q1, hr, hk⟩
        · cases he
        · have i := ih 0 _ _ _ _ hnx.2.1 _ _ _ hr
          have j := ih 7 _ _ _ _ i.2.1 _ _ _ hk
          simp at i j ⊢
          omega
      · rw [if_neg h1] at h
        cases h
        simp
        omega
    | 2, h =>
      rcases pB_some (show pB (prs t n nm f 1 o q [] []) (fun c1 l1 q1 => prs t n nm f 8 o q1 c1 l1) = some _ from h) with ⟨e, -, he⟩ | ⟨c1, l1, q1, hr, hk⟩
      · cases he
      · have i := ih 1 _ _ _ _ hq _ _ _ hr
        have j := ih 8 _ _ _ _ i.2.1 _ _ _ hk
        simp at i j ⊢
        omega
    | 8, h =>
      rw [prs_8] at h
      by_cases h1 : (isWb t n q [43] || isWb t n q [45]) = true
      · rw [if_pos h1] at h
        have hl : q < n ∧ q < nx t n q := by
          rcases Bool.or_eq_true _ _ ▸ h1 with h | h
          · exact isWb_lt h (by decide) hq
          · exact isWb_lt h (by decide) hq
        rcases pB_some h with ⟨e, -, he⟩ | ⟨c1, l1, q1, hr, hk⟩
        · cases he
        · have i := ih 1 _ _ _ _ hnx.2.1 _ _ _ hr
          have j := ih 8 _ _ _ _ i.2.1 _ _ _ hk
          simp at i j ⊢
          omega
      · rw [if_neg h1] at h
        cases h
        simp
        omega
    | 3, h =>
      rw [prs_3] at h
      rcases pB_some h with ⟨e, -, he⟩ | ⟨c1, l1, q1, hr, hk⟩
      · cases he
      · have i := ih 2 _ _ _ _ hq _ _ _ hr
        by_cases h1 : (isWb t n q1 [60] || (isWb t n q1 [62] || isWb t n q1 [61])) = true
        · rw [if_pos h1] at hk
          have hnx1 := nx_b (t := t) i.2.1
          have hl : q1 < n ∧ q1 < nx t n q1 := by
            rw [Bool.or_eq_true, Bool.or_eq_true] at h1
            rcases h1 with h | h | h
            · exact isWb_lt h (by decide) i.2.1
            · exact isWb_lt h (by decide) i.2.1
            · exact isWb_lt h (by decide) i.2.1
          rcases pB_some hk with ⟨e, -, he⟩ | ⟨c2, l2, q2, hr2, hk2⟩
          · cases he
          · have j := ih 2 _ _ _ _ hnx1.2.1 _ _ _ hr2
            have fj := far 2 _ _ _ _ hnx1.2.1 _ _ _ hr2
            cases hk2
            simp at i j ⊢
            omega
        · rw [if_neg h1] at hk; cases hk
    | 4, h =>
      rw [prs_4] at h
      by_cases h0 : isWb t n q wNot = true
      · rw [if_pos h0] at h
        have hl := isWb_lt h0 (by decide) hq
        have i := ih 4 _ _ _ _ hnx.2.1 _ _ _ h
        simp at i ⊢
        omega
      · rw [if_neg h0] at h
        by_cases h1 : isWb t n q [91] = true
        · rw [if_pos h1] at h
          by_cases h2 : 4 ≤ o
          · rw [if_pos h2] at h; cases h
          · rw [if_neg h2] at h
            rcases pB_some h with ⟨e, -, he⟩ | ⟨c1, l1, q1, hr, hk⟩
            · cases he
            · have i := ih 6 _ _ _ _ hnx.2.1 _ _ _ hr
              have hl := isWb_lt h1 (by decide) hq
              by_cases h3 : isWb t n q1 [93] = true
              · rw [if_pos h3] at hk
                cases hk
                have hnx2 := nx_b (t := t) i.2.1
                simp at i ⊢
                omega
              · rw [if_neg h3] at hk; cases hk
        · rw [if_neg h1] at h
          rcases pB_some h with ⟨e, -, he⟩ | ⟨c1, l1, q1, hr, hk⟩
          · cases he
          · have i := ih 3 _ _ _ _ hq _ _ _ hr
            cases hk
            simp at i ⊢
            omega
    | 5, h =>
      rcases pB_some (show pB (prs t n nm f 4 o q [] []) (fun c1 l1 q1 => prs t n nm f 9 o q1 c1 l1) = some _ from h) with ⟨e, -, he⟩ | ⟨c1, l1, q1, hr, hk⟩
      · cases he
      · have i := ih 4 _ _ _ _ hq _ _ _ hr
        have j := ih 9 _ _ _ _ i.2.1 _ _ _ hk
        simp at i j ⊢
        omega
    | 9, h =>
      rw [prs_9] at h
      by_cases h1 : isWb t n q wAnd = true
      · rw [if_pos h1] at h
        have hl := isWb_lt h1 (by decide) hq
        rcases pB_some h with ⟨e, -, he⟩ | ⟨c1, l1, q1, hr, hk⟩
        · cases he
        · have i := ih 4 _ _ _ _ hnx.2.1 _ _ _ hr
          have j := ih 9 _ _ _ _ i.2.1 _ _ _ hk
          simp at i j ⊢
          omega
      · rw [if_neg h1] at h
        cases h
        simp
        omega
    | 6, h =>
      rcases pB_some (show pB (prs t n nm f 5 o q [] []) (fun c1 l1 q1 => prs t n nm f 10 o q1 c1 l1) = some _ from h) with ⟨e, -, he⟩ | ⟨c1, l1, q1, hr, hk⟩
      · cases he
      · have i := ih 5 _ _ _ _ hq _ _ _ hr
        have j := ih 10 _ _ _ _ i.2.1 _ _ _ hk
        simp at i j ⊢
        omega
    | 10, h =>
      rw [prs_10] at h
      by_cases h1 : isWb t n q wOr = true
      · rw [if_pos h1] at h
        have hl := isWb_lt h1 (by decide) hq
        rcases pB_some h with ⟨e, -, he⟩ | ⟨c1, l1, q1, hr, hk⟩
        · cases he
        · have i := ih 5 _ _ _ _ hnx.2.1 _ _ _ hr
          have j := ih 10 _ _ _ _ i.2.1 _ _ _ hk
          simp at i j ⊢
          omega
      · rw [if_neg h1] at h
        cases h
        simp
        omega
    | s + 11, h => cases h
end
