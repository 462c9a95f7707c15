/-! THE TEXTS: fuel is enough; what codes are -/
set_option maxHeartbeats 1600000
set_option maxRecDepth 100000
section
variable {t : Int → Int} {n : Int} {nm : Nat}
theorem pB_tot {r : pR} {k : List Int → List (List Int) → Int → pR} (hr : ∃ x, r = some x) (hk : ∀ c l q, r = pO c l q → ∃ x, k c l q = some x) : ∃ x, pB r k = some x := by
  obtain ⟨x, rfl⟩ := hr
  rcases x with e | ⟨c, l, q⟩
  · exact ⟨_, rfl⟩
  · exact hk c l q rfl
theorem if_tot {p : Prop} [Decidable p] {a b : pR} (ha : p → ∃ x, a = some x) (hb : ¬ p → ∃ x, b = some x) : ∃ x, (if p then a else b) = some x := by
  by_cases h : p
  · rw [if_pos h]; exact ha h
  · rw [if_neg h]; exact hb h
theorem prs_tot : ∀ (f s : Nat) (o q : Int) (c : List Int) (l : List (List Int)), q ≤ n → s ≤ 10 → 16 * (n - q).toNat + rnk s ≤ f → ∃ x, prs t n nm f s o q c l = some x
  | 0, s, o, q, c, l, _, hs, hf => by
    exfalso
    have : 1 ≤ rnk s := by unfold rnk; split <;> omega
    omega
  | f + 1, s, o, q, c, l, hq, hs, hf => by
    have ih := fun s o q c l => prs_tot f s o q c l
    have far := fun s o q c l => prs_far (t := t) (n := n) (nm := nm) f s o q c l
    have hnx := nx_b (t := t) hq
    have ok : ∀ {c l q}, ∃ x, pO c l q = some x := ⟨_, rfl⟩
    have bad : ∀ {k q}, ∃ x, pF k q = some x := ⟨_, rfl⟩
    have r0 : ∀ s, 7 ≤ s → rnk s = 1 := fun s h => by
      unfold rnk
      split <;> first | rfl | omega
    match s, hs, hf with
    | 0, hs, hf =>
      have hf : 16 * (n - q).toNat + 1 ≤ f + 1 := hf
      rw [prs_0]
      refine if_tot (fun h1 => if_tot (fun _ => bad) (fun _ => pB_tot ?_ (fun c1 l1 q1 hr => if_tot (fun _ => ok) (fun _ => bad)))) (fun _ => if_tot (fun _ => if_tot (fun _ => bad) (fun _ => ok)) (fun _ => if_tot (fun _ => ok) (fun _ => bad)))
      have hl := isWb_lt h1 (by decide) hq
      exact ih 2 _ _ _ _ hnx.2.1 (by omega) (by show 16 * (n - nx t n q).toNat + 3 ≤ f; omega)
    | 1, hs, hf =>
      have hf : 16 * (n - q).toNat + 2 ≤ f + 1 := hf
      rw [prs_1]
      refine pB_tot (ih 0 _ _ _ _ hq (by omega) (by show 16 * (n - q).toNat + 1 ≤ f; omega)) (fun c1 l1 q1 hr => ?_)
      have i := far 0 _ _ _ _ hq _ _ _ hr
      exact ih 7 _ _ _ _ i.2.1 (by omega) (by show 16 * (n - q1).toNat + 1 ≤ f; omega)
    | 7, hs, hf =>
      have hf : 16 * (n - q).toNat + 1 ≤ f + 1 := hf
      rw [prs_7]
      refine if_tot (fun h1 => ?_) (fun _ => ok)
      have hl := isWb_lt h1 (by decide) hq
      refine pB_tot (ih 0 _ _ _ _ hnx.2.1 (by omega) (by show 16 * (n - nx t n q).toNat + 1 ≤ f; omega)) (fun c1 l1 q1 hr => ?_)
      have i := far 0 _ _ _ _ hnx.2.1 _ _ _ hr
      exact ih 7 _ _ _ _ i.2.1 (by omega) (by show 16 * (n - q1).toNat + 1 ≤ f; omega)
    | 2, hs, hf =>
      have hf : 16 * (n - q).toNat + 3 ≤ f + 1 := hf
      rw [prs_2]
      refine pB_tot (ih 1 _ _ _ _ hq (by omega) (by show 16 * (n - q).toNat + 2 ≤ f; omega)) (fun c1 l1 q1 hr => ?_)
      have i := far 1 _ _ _ _ hq _ _ _ hr
      exact ih 8 _ _ _ _ i.2.1 (by omega) (by show 16 * (n - q1).toNat + 1 ≤ f; omega)
    | 8, hs, hf =>
      have hf : 16 * (n - q).toNat + 1 ≤ f + 1 := hf
      rw [prs_8]
      refine if_tot (fun h1 => ?_) (fun _ => ok)
      have hl : q < n ∧ q < nx t n q := by
        rcases Bool.or_eq_true _ _ ▸ h1 with h | h
        · exact isWb_lt h (by decide) hq
        · exact isWb_lt h (by decide) hq
      refine pB_tot (ih 1 _ _ _ _ hnx.2.1 (by omega) (by show 16 * (n - nx t n q).toNat + 2 ≤ f; omega)) (fun c1 l1 q1 hr => ?_)
      have i := far 1 _ _ _ _ hnx.2.1 _ _ _ hr
      exact ih 8 _ _ _ _ i.2.1 (by omega) (by show 16 * (n - q1).toNat + 1 ≤ f; omega)
    | 3, hs, hf =>
      have hf : 16 * (n - q).toNat + 4 ≤ f + 1 := hf
      rw [prs_3]
      refine pB_tot (ih 2 _ _ _ _ hq (by omega) (by show 16 * (n - q).toNat + 3 ≤ f; omega)) (fun c1 l1 q1 hr => ?_)
      have i := far 2 _ _ _ _ hq _ _ _ hr
      refine if_tot (fun h1 => ?_) (fun _ => bad)
      have hnx1 := nx_b (t := t) i.2.1
      refine pB_tot (ih 2 _ _ _ _ hnx1.2.1 (by omega) (by show 16 * (n - nx t n q1).toNat + 3 ≤ f; omega)) (fun c1 l1 q1 hr => ok)
    | 4, hs, hf =>
      have hf : 16 * (n - q).toNat + 5 ≤ f + 1 := hf
      rw [prs_4]
      refine if_tot (fun h0 => ?_) (fun _ => if_tot (fun h1 => if_tot (fun _ => bad) (fun _ => pB_tot ?_ (fun c1 l1 q1 hr => if_tot (fun _ => ok) (fun _ => bad)))) (fun _ => pB_tot ?_ (fun _ _ _ _ => ok)))
      · have hl := isWb_lt h0 (by decide) hq
        exact ih 4 _ _ _ _ hnx.2.1 (by omega) (by show 16 * (n - nx t n q).toNat + 5 ≤ f; omega)
      · have hl := isWb_lt h1 (by decide) hq
        exact ih 6 _ _ _ _ hnx.2.1 (by omega) (by show 16 * (n - nx t n q).toNat + 7 ≤ f; omega)
      · exact ih 3 _ _ _ _ hq (by omega) (by show 16 * (n - q).toNat + 4 ≤ f; omega)
    | 5, hs, hf =>
      have hf : 16 * (n - q).toNat + 6 ≤ f + 1 := hf
      rw [prs_5]
      refine pB_tot (ih 4 _ _ _ _ hq (by omega) (by show 16 * (n - q).toNat + 5 ≤ f; omega)) (fun c1 l1 q1 hr => ?_)
      have i := far 4 _ _ _ _ hq _ _ _ hr
      exact ih 9 _ _ _ _ i.2.1 (by omega) (by show 16 * (n - q1).toNat + 1 ≤ f; omega)
    | 9, hs, hf =>
      have hf : 16 * (n - q).toNat + 1 ≤ f + 1 := hf
      rw [prs_9]
      refine if_tot (fun h1 => ?_) (fun _ => ok)
      have hl := isWb_lt h1 (by decide) hq
      refine pB_tot (ih 4 _ _ _ _ hnx.2.1 (by omega) (by show 16 * (n - nx t n q).toNat + 5 ≤ f; omega)) (fun c1 l1 q1 hr => ?_)
      have i := far 4 _ _ _ _ hnx.2.1 _ _ _ hr
      exact ih 9 _ _ _ _ i.2.1 (by omega) (by show 16 * (n - q1).toNat + 1 ≤ f; omega)
    | 6, hs, hf =>
      have hf : 16 * (n - q).toNat + 7 ≤ f + 1 := hf
      rw [prs_6]
      refine pB_tot (ih 5 _ _ _ _ hq (by omega) (by show 16 * (n - q).toNat + 6 ≤ f; omega)) (fun c1 l1 q1 hr => ?_)
      have i := far 5 _ _ _ _ hq _ _ _ hr
      exact ih 10 _ _ _ _ i.2.1 (by omega) (by show 16 * (n - q1).toNat + 1 ≤ f; omega)
    | 10, hs, hf =>
      have hf : 16 * (n - q).toNat + 1 ≤ f + 1 := hf
      rw [prs_10]
      refine if_tot (fun h1 => ?_) (fun _ => ok)
      have hl := isWb_lt h1 (by decide) hq
      refine pB_tot (ih 5 _ _ _ _ hnx.2.1 (by omega) (by show 16 * (n - nx t n q).toNat + 6 ≤ f; omega)) (fun c1 l1 q1 hr => ?_)
      have i := far 5 _ _ _ _ hnx.2.1 _ _ _ hr
      exact ih 10 _ _ _ _ i.2.1 (by omega) (by show 16 * (n - q1).toNat + 1 ≤ f; omega)
    | s + 11, hs, hf => omega
end
