/-! THE TEXTS: clauses: how far, fuel -/
set_option maxHeartbeats 1600000
set_option maxRecDepth 100000
section
variable {t : Int → Int} {n : Int}
theorem num_v {q lo hi : Int} {k : Int → cR} {c : Cl} {q' : Int} (h : numC t n q lo hi k = cO c q') : srt t n q = 2 ∧ (lo ≤ vlu t n q ∧ vlu t n q ≤ hi) ∧ k (vlu t n q) = cO c q' := by
  rcases num_some h with ⟨_, e⟩ | ⟨_, _, e⟩ | ⟨a, b, e⟩
  · cases e
  · cases e
  · exact ⟨a, b, e⟩
/-- what a clause is -/
def clsOk (n : Int) (c : Cl) : Prop := (c.1 = 7 ∧ c.2.2.2.1 = [] ∧ c.2.2.2.2.1 = []) ∨ (c.1 = 9 ∧ c.2.2.2.1 = [] ∧ c.2.2.2.2.1 = [] ∧ (1 ≤ c.2.1 ∧ c.2.1 ≤ 7) ∧ (1 ≤ c.2.2.1 ∧ c.2.2.1 ≤ c.2.1)) ∨ (c.1 = 8 ∧ (1 ≤ c.2.1 ∧ c.2.1 ≤ 8) ∧ (0 ≤ c.2.2.2.2.2.2 ∧ c.2.2.2.2.2.2 + c.2.1 ≤ n) ∧ (c.2.2.1 = 0 ∨ c.2.2.1 = 1))
theorem cls_far {f : Nat} {q i q' : Int} {nn : List (Int × Int)} {c : Cl} (hq : 0 ≤ q ∧ q ≤ n) (h : clsC t n f q i nn = cO c q') : (q < q' ∧ q' ≤ n) ∧ ((c.2.2.2.1.length + c.2.2.2.2.1.length : Nat) : Int) ≤ q' - q ∧ i ≠ 12 ∧ (c.1 = 8 → nn.length ≠ 6) ∧ clsOk n c := by
  have hnx := nx_b (t := t) hq.2
  have hnx2 := nx_b (t := t) hnx.2.1
  have hnx3 := nx_b (t := t) hnx2.2.1
  unfold clsC at h
  by_cases h1 : ¬ (isWb t n q wEnd || (isWb t n q wMark || isWb t n q wTrust)) = true
  · rw [if_pos h1] at h; cases h
  · rw [if_neg h1] at h
    by_cases h2 : i = 12 ∨ (isWb t n q wEnd = true ∧ nn.length = 6)
    · rw [if_pos h2] at h; cases h
    · rw [if_neg h2] at h
      rcases cB_some h with ⟨e, -, he⟩ | ⟨c1, q1, hc, hk⟩
      · cases he
      · by_cases h3 : isWb t n q1 [59] = true
        · rw [if_pos h3] at hk
          cases hk
          by_cases he : isWb t n q wEnd = true
          · rw [if_pos he] at hc
            have hl := isWb_lt he (by decide) hq.2
            have far := end_far hnx.2.1 hc
            have hq1 := nx_b (t := t) far.2.1
            have htk := tke_b (t := t) hnx.2.1
            have h3lt := srt2_lt (Or.inr far.2.2.2.2.1.1)
            exact ⟨by omega, by omega, fun e => h2 (Or.inl e), fun _ e => h2 (Or.inr ⟨he, e⟩), Or.inr (Or.inr ⟨far.2.2.1, by omega, by omega, far.2.2.2.2.2⟩)⟩
          · rw [if_neg he] at hc
            by_cases hm : isWb t n q wMark = true
            · rw [if_pos hm] at hc
              have hl := isWb_lt hm (by decide) hq.2
              obtain ⟨a, b, e⟩ := num_v hc
              have far := mrk_far _ _ _ hnx2.2.1 _ _ e
              have hq1 := nx_b (t := t) far.2.1
              refine ⟨by omega, ?_, fun e => h2 (Or.inl e), fun e => by omega, Or.inl far.2.2⟩
              rw [far.2.2.2.1, far.2.2.2.2]
              show ((0 + 0 : Nat) : Int) ≤ _
              omega
            · rw [if_neg hm] at hc
              obtain ⟨a, b, e⟩ := num_v hc
              obtain ⟨a2, b2, e2⟩ := num_v e
              cases e2
              have hq1 := nx_b (t := t) hnx3.2.1
              have l1 := srt2_lt (Or.inl a)
              refine ⟨by omega, ?_, fun e => h2 (Or.inl e), fun (e : (9 : Int) = 8) => by omega, Or.inr (Or.inl ⟨rfl, rfl, rfl, b, b2⟩)⟩
              show ((0 + 0 : Nat) : Int) ≤ _
              omega
        · rw [if_neg h3] at hk; cases hk
def rlOk (c : Cl) : Prop := c.2.2.2.1 = [] ∧ ((c.1 = 6 ∧ (0 ≤ c.2.1 ∧ c.2.1 < 4)) ∨ ((0 ≤ c.1 ∧ c.1 < 6) ∧ c.2.2.2.2.1 = [] ∧ (rLo c.1 ≤ c.2.1 ∧ c.2.1 ≤ rHi c.1)))
theorem rul_far {f : Nat} {q i q' : Int} {c : Cl} (hq : 0 ≤ q ∧ q ≤ n) (hlt : q < n) (h : rulC t n f q i = cO c q') : (q < q' ∧ q' ≤ n) ∧ ((c.2.2.2.1.length + c.2.2.2.2.1.length : Nat) : Int) ≤ q' - q ∧ i ≠ 20 ∧ rlOk c := by
  have hnx := nx_b (t := t) hq.2
  have hnx2 := nx_b (t := t) hnx.2.1
  have hnx3 := nx_b (t := t) hnx2.2.1
  have hwb := wix_b (t := t) (n := n) (q := q) wRul
  have hwk := wix_b (t := t) (n := n) (q := nx t n q) wKin
  have l6 : (wRul.length : Int) = 6 := rfl
  have l4 : (wKin.length : Int) = 4 := rfl
  unfold rulC at h
  by_cases h1 : wix t n q wRul = -1 ∧ ¬ isWb t n q wBar = true
  · rw [if_pos h1] at h; cases h
  · rw [if_neg h1] at h
    by_cases h2 : i = 20
    · rw [if_pos h2] at h; cases h
    · rw [if_neg h2] at h
      rcases cB_some h with ⟨e, -, he⟩ | ⟨c1, q1, hc, hk⟩
      · cases he
      · by_cases h3 : isWb t n q1 [59] = true
        · rw [if_pos h3] at hk
          cases hk
          by_cases hw : wix t n q wRul = -1
          · rw [if_pos hw] at hc
            by_cases hv : wix t n (nx t n q) wKin = -1
            · rw [if_pos hv] at hc; cases hc
            · rw [if_neg hv] at hc
              by_cases hi : isWb t n (nx t n (nx t n q)) wIf = true
              · rw [if_pos hi] at hc
                rcases pC_some hc with ⟨e, -, he⟩ | ⟨c2, l2, q4, hp, hk2⟩
                · cases he
                · cases hk2
                  have f2 := prs_far _ _ _ _ _ _ hnx3.2.1 _ _ _ hp
                  simp at f2
                  have hq1 := nx_b (t := t) f2.2.1
                  refine ⟨by omega, ?_, h2, rfl, Or.inl ⟨rfl, by dsimp only; omega⟩⟩
                  show ((0 + c2.length : Nat) : Int) ≤ _
                  omega
              · rw [if_neg hi] at hc; cases hc
          · rw [if_neg hw] at hc
            obtain ⟨a, b, e⟩ := num_v hc
            cases e
            have hq1 := nx_b (t := t) hnx2.2.1
            refine ⟨by omega, ?_, h2, rfl, Or.inr ⟨by dsimp only; omega, rfl, b⟩⟩
            show ((0 + 0 : Nat) : Int) ≤ _
            omega
        · rw [if_neg h3] at hk; cases hk
/-! fuel -/
theorem pC_tot {r : pR} {k : List Int → List (List Int) → Int → cR} (hr : ∃ x, r = some x) (hk : ∀ c l q, r = pO c l q → ∃ x, k c l q = some x) : ∃ x, pC r k = some x := by
  obtain ⟨x, rfl⟩ := hr
  rcases x with e | ⟨c, l, q⟩
  · exact ⟨_, rfl⟩
  · exact hk c l q rfl
theorem cB_tot {r : cR} {k : Cl → Int → cR} (hr : ∃ x, r = some x) (hk : ∀ c q, r = cO c q → ∃ x, k c q = some x) : ∃ x, cB r k = some x := by
  obtain ⟨x, rfl⟩ := hr
  rcases x with e | ⟨c, q⟩
  · exact ⟨_, rfl⟩
  · exact hk c q rfl
theorem dB_tot {r : cR} {k : Cl → Int → dR} (hr : ∃ x, r = some x) (hk : ∀ c q, r = cO c q → ∃ x, k c q = some x) : ∃ x, dB r k = some x := by
  obtain ⟨x, rfl⟩ := hr
  rcases x with e | ⟨c, q⟩
  · exact ⟨_, rfl⟩
  · exact hk c q rfl
theorem ifc_tot {α : Type} {p : Prop} [Decidable p] {a b : Option α} (ha : p → ∃ x, a = some x) (hb : ¬ p → ∃ x, b = some x) : ∃ x, (if p then a else b) = some x := by
  by_cases h : p
  · rw [if_pos h]; exact ha h
  · rw [if_neg h]; exact hb h
theorem sem_tot {r : cR} (hr : ∃ x, r = some x) : ∃ x, semC t n r = some x := cB_tot hr (fun c q _ => ifc_tot (fun _ => ⟨_, rfl⟩) (fun _ => ⟨_, rfl⟩))
theorem num_tot {q lo hi : Int} {k : Int → cR} (hk : ∀ v, srt t n q = 2 → ∃ x, k v = some x) : ∃ x, numC t n q lo hi k = some x := by
  unfold numC
  exact ifc_tot (fun h => ifc_tot (fun _ => hk _ h) (fun _ => ⟨_, rfl⟩)) (fun _ => ⟨_, rfl⟩)
theorem cls_tot {f : Nat} {q i : Int} {nn : List (Int × Int)} (hn : 0 ≤ q ∧ q ≤ n) (hf : 16 * n.toNat + 20 ≤ f) : ∃ x, clsC t n f q i nn = some x := by
  have hnx := nx_b (t := t) hn.2
  have hnx2 := nx_b (t := t) hnx.2.1
  have hnx3 := nx_b (t := t) hnx2.2.1
  unfold clsC
  refine ifc_tot (fun _ => ⟨_, rfl⟩) (fun _ => ifc_tot (fun _ => ⟨_, rfl⟩) (fun _ => sem_tot (ifc_tot (fun _ => ?_) (fun _ => ifc_tot (fun _ => ?_) (fun _ => ?_)))))
  · unfold endC
    refine ifc_tot (fun _ => ⟨_, rfl⟩) (fun _ => ifc_tot (fun _ => ⟨_, rfl⟩) (fun _ => ifc_tot (fun _ => ?_) (fun _ => ⟨_, rfl⟩)))
    refine pC_tot (prs_tot _ _ _ _ _ _ hnx3.2.1 (by omega) (by show 16 * _ + 3 ≤ f; omega)) (fun c1 l q3 hr => ?_)
    have f1 := prs_far _ _ _ _ _ _ hnx3.2.1 _ _ _ hr
    have hnx4 := nx_b (t := t) f1.2.1
    refine ifc_tot (fun _ => pC_tot (prs_tot _ _ _ _ _ _ hnx4.2.1 (by omega) (by show 16 * _ + 7 ≤ f; omega)) (fun _ _ _ _ => ifc_tot (fun _ => ⟨_, rfl⟩) (fun _ => ⟨_, rfl⟩))) (fun _ => ⟨_, rfl⟩)
  · exact num_tot (fun v _ => mrk_tot _ _ _ hnx2.2.1 (by omega))
  · exact num_tot (fun v _ => num_tot (fun w _ => ⟨_, rfl⟩))
theorem rul_tot {f : Nat} {q i : Int} (hn : 0 ≤ q ∧ q ≤ n) (hf : 16 * n.toNat + 20 ≤ f) : ∃ x, rulC t n f q i = some x := by
  have hnx := nx_b (t := t) hn.2
  have hnx2 := nx_b (t := t) hnx.2.1
  have hnx3 := nx_b (t := t) hnx2.2.1
  unfold rulC
  refine ifc_tot (fun _ => ⟨_, rfl⟩) (fun _ => ifc_tot (fun _ => ⟨_, rfl⟩) (fun _ => sem_tot (ifc_tot (fun _ => ifc_tot (fun _ => ⟨_, rfl⟩) (fun _ => ifc_tot (fun _ => ?_) (fun _ => ⟨_, rfl⟩))) (fun _ => num_tot (fun v _ => ⟨_, rfl⟩)))))
  exact pC_tot (prs_tot _ _ _ _ _ _ hnx3.2.1 (by omega) (by show 16 * _ + 7 ≤ f; omega)) (fun _ _ _ _ => ⟨_, rfl⟩)
theorem deed_tot {f : Nat} (hf : 16 * n.toNat + 20 ≤ f) : ∀ (g : Nat) (q : Int) (cs : List Cl), 0 ≤ q ∧ q ≤ n → (n - q).toNat + 1 ≤ g → ∃ x, deedC t n f g q cs = some x
  | 0, q, cs, _, h => by omega
  | g + 1, q, cs, hq, h => by
    unfold deedC
    refine ifc_tot (fun _ => ⟨_, rfl⟩) (fun _ => dB_tot (cls_tot hq hf) (fun c q' hc => ?_))
    have far := cls_far hq hc
    exact deed_tot hf g _ _ (by omega) (by omega)
theorem act_tot {f : Nat} (hf : 16 * n.toNat + 20 ≤ f) : ∀ (g : Nat) (q : Int) (cs : List Cl), 0 ≤ q ∧ q ≤ n → (n - q).toNat + 1 ≤ g → ∃ x, actC t n f g q cs = some x
  | 0, q, cs, _, h => by omega
  | g + 1, q, cs, hq, h => by
    unfold actC
    refine ifc_tot (fun _ => ⟨_, rfl⟩) (fun hlt => dB_tot (rul_tot hq hf) (fun c q' hc => ?_))
    have far := rul_far hq (by omega) hc
    exact act_tot hf g _ _ (by omega) (by omega)
theorem nea_tot {f : Nat} {q : Int} (hq : 0 ≤ q ∧ q ≤ n) (hf : 16 * n.toNat + 20 ≤ f) : ∃ x, neaC t n f q = some x := by
  unfold neaC
  exact ifc_tot (fun _ => dB_tot (cls_tot hq hf) (fun c q' hc => ifc_tot (fun _ => ⟨_, rfl⟩) (fun _ => ⟨_, rfl⟩))) (fun _ => ⟨_, rfl⟩)
/-- what a deed's clauses are -/
def dkOk (n q : Int) (cs : List Cl) : Prop := ((cat cs).length : Int) ≤ q ∧ cs.length ≤ 12 ∧ (nms cs).length ≤ 6 ∧ ∀ c ∈ cs, clsOk n c
theorem dk_s {q q' : Int} {c : Cl} {cs : List Cl} {f : Nat} (hq : 0 ≤ q ∧ q ≤ n) (hk : dkOk n q cs) (hc : clsC t n f q cs.length (nms cs) = cO c q') : dkOk n q' (cs ++ [c]) := by
  have far := cls_far hq hc
  obtain ⟨a, b, c', d⟩ := hk
  refine ⟨?_, ?_, ?_, fun x hx => ?_⟩
  · rw [cat_app, List.length_append]
    have : (cat [c]).length = c.2.2.2.1.length + c.2.2.2.2.1.length := by
      show (c.2.2.2.1 ++ (c.2.2.2.2.1 ++ [])).length = _
      rw [List.append_nil, List.length_append]
    omega
  · rw [List.length_append]
    show cs.length + 1 ≤ 12
    have := far.2.2.1
    omega
  · rw [nms_app, List.length_append]
    show (nms cs).length + (if c.1 = 8 then [(c.2.2.2.2.2.2, c.2.1)] else []).length ≤ 6
    by_cases e : c.1 = 8
    · rw [if_pos e]
      have := far.2.2.2.1 e
      show _ + 1 ≤ 6
      omega
    · rw [if_neg e]
      exact c'
  · rcases List.mem_append.mp hx with h | h
    · exact d x h
    · rw [List.mem_singleton.mp h]; exact far.2.2.2.2
theorem deed_ok {f : Nat} : ∀ (g : Nat) (q : Int) (cs cs' : List Cl), 0 ≤ q ∧ q ≤ n → dkOk n q cs → deedC t n f g q cs = some (.inr cs') → dkOk n n cs'
  | 0, q, cs, cs', _, _, h => by cases h
  | g + 1, q, cs, cs', hq, hk, h => by
    unfold deedC at h
    by_cases hn : n ≤ q
    · rw [if_pos hn] at h
      cases h
      exact ⟨by have := hk.1; omega, hk.2⟩
    · rw [if_neg hn] at h
      rcases dB_some h with ⟨e, -, he⟩ | ⟨c, q', hc, hk2⟩
      · cases he
      · have far := cls_far hq hc
        exact deed_ok g _ _ _ (by omega) (dk_s hq hk hc) hk2
def akOk (q : Int) (cs : List Cl) : Prop := ((cat cs).length : Int) ≤ q ∧ cs.length ≤ 20 ∧ ∀ c ∈ cs, rlOk c
theorem ak_s {q q' : Int} {c : Cl} {cs : List Cl} {f : Nat} (hq : 0 ≤ q ∧ q ≤ n) (hlt : q < n) (hk : akOk q cs) (hc : rulC t n f q cs.length = cO c q') : akOk q' (cs ++ [c]) := by
  have far := rul_far hq hlt hc
  obtain ⟨a, b, d⟩ := hk
  refine ⟨?_, ?_, fun x hx => ?_⟩
  · rw [cat_app, List.length_append]
    have : (cat [c]).length = c.2.2.2.1.length + c.2.2.2.2.1.length := by
      show (c.2.2.2.1 ++ (c.2.2.2.2.1 ++ [])).length = _
      rw [List.append_nil, List.length_append]
    omega
  · rw [List.length_append]
    show cs.length + 1 ≤ 20
    have := far.2.2.1
    omega
  · rcases List.mem_append.mp hx with h | h
    · exact d x h
    · rw [List.mem_singleton.mp h]; exact far.2.2.2
theorem act_ok {f : Nat} : ∀ (g : Nat) (q : Int) (cs cs' : List Cl), 0 ≤ q ∧ q ≤ n → akOk q cs → actC t n f g q cs = some (.inr cs') → akOk n cs'
  | 0, q, cs, cs', _, _, h => by cases h
  | g + 1, q, cs, cs', hq, hk, h => by
    unfold actC at h
    by_cases hn : n ≤ q
    · rw [if_pos hn] at h
      cases h
      exact ⟨by have := hk.1; omega, hk.2⟩
    · rw [if_neg hn] at h
      rcases dB_some h with ⟨e, -, he⟩ | ⟨c, q', hc, hk2⟩
      · cases he
      · have far := rul_far hq (by omega) hc
        exact act_ok g _ _ _ (by omega) (ak_s hq (by omega) hk hc) hk2
end
