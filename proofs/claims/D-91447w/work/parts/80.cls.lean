/-! THE TEXTS: clauses of deeds and rules of acts (spec). A clause: kind, two numbers, a sum's code, a condition's code, its comparisons, where its name is -/
set_option maxHeartbeats 1600000
set_option maxRecDepth 100000
abbrev Cl : Type := Int × Int × Int × List Int × List Int × List (List Int) × Int
abbrev cR : Type := Option ((Int × Int) ⊕ (Cl × Int))
abbrev cF (k q : Int) : cR := some (.inl (k, q))
abbrev cO (c : Cl) (q : Int) : cR := some (.inr (c, q))
def pC (r : pR) (k : List Int → List (List Int) → Int → cR) : cR := match r with
  | none => none
  | some (.inl e) => some (.inl e)
  | some (.inr (c, l, q)) => k c l q
def cB (r : cR) (k : Cl → Int → cR) : cR := match r with
  | none => none
  | some (.inl e) => some (.inl e)
  | some (.inr (c, q)) => k c q
theorem pC_some {r : pR} {k : List Int → List (List Int) → Int → cR} {x : (Int × Int) ⊕ (Cl × Int)} (h : pC r k = some x) : (∃ e, r = some (.inl e) ∧ x = .inl e) ∨ ∃ c l q, r = pO c l q ∧ k c l q = some x := by
  unfold pC at h
  split at h
  · cases h
  · rename_i e
    exact Or.inl ⟨e, rfl, by cases h; rfl⟩
  · rename_i c l q
    exact Or.inr ⟨c, l, q, rfl, h⟩
theorem cB_some {r : cR} {k : Cl → Int → cR} {x : (Int × Int) ⊕ (Cl × Int)} (h : cB r k = some x) : (∃ e, r = some (.inl e) ∧ x = .inl e) ∨ ∃ c q, r = cO c q ∧ k c q = some x := by
  unfold cB at h
  split at h
  · cases h
  · rename_i e
    exact Or.inl ⟨e, rfl, by cases h; rfl⟩
  · rename_i c q
    exact Or.inr ⟨c, q, rfl, h⟩
abbrev wEnd : List Int := [101, 110, 100]
abbrev wMark : List Int := [109, 97, 114, 107]
abbrev wTrust : List Int := [116, 114, 117, 115, 116]
abbrev wPays : List Int := [112, 97, 121, 115]
abbrev wIf : List Int := [105, 102]
abbrev wPart : List Int := [112, 97, 114, 116]
abbrev wBar : List Int := [98, 97, 114]
def wRul : List (List Int) := [[102, 97, 105, 108], [107, 101, 101, 112], [100, 97, 121, 115], [108, 97, 116, 101], [103, 97, 105, 110], [115, 101, 108, 108]]
def wKin : List (List Int) := [[110, 101, 97, 114], [106, 111, 105, 110], [115, 97, 108, 101], [115, 116, 114, 105, 107, 101]]
/-- the token at q is the name at a, of s letters -/
def nmE (t : Int → Int) (n q : Int) (x : Int × Int) : Bool := decide (x.2 = tke t n q - q) && (List.range x.2.toNat).all (fun i => decide (t (q + i) = t (x.1 + i)))
/-- an end, from its name on -/
def endC (t : Int → Int) (n : Int) (f : Nat) (q : Int) (nn : List (Int × Int)) : cR :=
  if ¬ srt t n q = 3 ∨ 8 < tke t n q - q then cF 1 q
  else if nn.any (nmE t n q) then cF 3 q
  else if isWb t n (nx t n q) wPays then pC (prs t n 10 f 2 0 (nx t n (nx t n q)) [] []) (fun c1 _ q3 =>
    if isWb t n q3 wIf then pC (prs t n 10 f 6 0 (nx t n q3) [] []) (fun c2 l q4 =>
      if isWb t n q4 wPart then cO (8, tke t n q - q, 1, c1, c2, l, q) (nx t n q4) else cO (8, tke t n q - q, 0, c1, c2, l, q) q4)
    else cF 1 q3)
  else cF 1 (nx t n q)
/-- marks -/
def mrkC (t : Int → Int) (n : Int) : Nat → Int → Int → cR
  | 0, _, _ => none
  | g + 1, q, b => if srt t n q = 2 then (if vlu t n q ≤ 7 then mrkC t n g (nx t n q) (zor b (zshl 1 (vlu t n q))) else cF 2 q) else cO (7, b, 0, [], [], [], 0) q
def numC (t : Int → Int) (n q lo hi : Int) (k : Int → cR) : cR := if srt t n q = 2 then (if lo ≤ vlu t n q ∧ vlu t n q ≤ hi then k (vlu t n q) else cF 2 q) else cF 1 q
def semC (t : Int → Int) (n : Int) (r : cR) : cR := cB r (fun c q => if isWb t n q [59] then cO c (nx t n q) else cF 1 q)
/-- a clause of a deed: i clauses are there, ends' names nn -/
def clsC (t : Int → Int) (n : Int) (f : Nat) (q i : Int) (nn : List (Int × Int)) : cR :=
  if ¬ (isWb t n q wEnd || (isWb t n q wMark || isWb t n q wTrust)) = true then cF 1 q
  else if i = 12 ∨ (isWb t n q wEnd = true ∧ nn.length = 6) then cF 4 q
  else semC t n (if isWb t n q wEnd then endC t n f (nx t n q) nn
    else if isWb t n q wMark then numC t n (nx t n q) 0 7 (fun v => mrkC t n f (nx t n (nx t n q)) (zshl 1 v))
    else numC t n (nx t n q) 1 7 (fun v => numC t n (nx t n (nx t n q)) 1 v (fun w => cO (9, v, w, [], [], [], 0) (nx t n (nx t n (nx t n q))))))
def rLo (w : Int) : Int := if w = 1 ∨ w = 4 then 0 else 1
def rHi (w : Int) : Int := if w = 0 then 50 else if w = 1 then 8 else if w = 2 then 360 else if w = 3 then 720 else if w = 4 then 20 else 40
/-- a rule of an act -/
def rulC (t : Int → Int) (n : Int) (f : Nat) (q i : Int) : cR :=
  if wix t n q wRul = -1 ∧ ¬ isWb t n q wBar = true then cF 1 q
  else if i = 20 then cF 4 q
  else semC t n (if wix t n q wRul = -1 then (if wix t n (nx t n q) wKin = -1 then cF 1 (nx t n q) else if isWb t n (nx t n (nx t n q)) wIf then pC (prs t n 13 f 6 0 (nx t n (nx t n (nx t n q))) [] []) (fun c2 l q4 => cO (6, wix t n (nx t n q) wKin, 0, [], c2, l, 0) q4) else cF 1 (nx t n (nx t n q)))
    else numC t n (nx t n q) (rLo (wix t n q wRul)) (rHi (wix t n q wRul)) (fun v => cO (wix t n q wRul, v, 0, [], [], [], 0) (nx t n (nx t n q))))
abbrev dR : Type := Option ((Int × Int) ⊕ List Cl)
def dB (r : cR) (k : Cl → Int → dR) : dR := match r with
  | none => none
  | some (.inl e) => some (.inl e)
  | some (.inr (c, q)) => k c q
theorem dB_some {r : cR} {k : Cl → Int → dR} {x : (Int × Int) ⊕ List Cl} (h : dB r k = some x) : (∃ e, r = some (.inl e) ∧ x = .inl e) ∨ ∃ c q, r = cO c q ∧ k c q = some x := by
  unfold dB at h
  split at h
  · cases h
  · rename_i e
    exact Or.inl ⟨e, rfl, by cases h; rfl⟩
  · rename_i c q
    exact Or.inr ⟨c, q, rfl, h⟩
/-- the names of ends -/
def nms : List Cl → List (Int × Int)
  | [] => []
  | c :: r => if c.1 = 8 then (c.2.2.2.2.2.2, c.2.1) :: nms r else nms r
theorem nms_app (a b : List Cl) : nms (a ++ b) = nms a ++ nms b := by
  induction a with
  | nil => rfl
  | cons c r ih =>
    show (if c.1 = 8 then (c.2.2.2.2.2.2, c.2.1) :: nms (r ++ b) else nms (r ++ b)) = (if c.1 = 8 then (c.2.2.2.2.2.2, c.2.1) :: nms r else nms r) ++ nms b
    by_cases h : c.1 = 8
    · rw [if_pos h, if_pos h, ih]; rfl
    · rw [if_neg h, if_neg h, ih]
/-- all signs of clauses -/
def cat : List Cl → List Int
  | [] => []
  | c :: r => c.2.2.2.1 ++ (c.2.2.2.2.1 ++ cat r)
theorem cat_app (a b : List Cl) : cat (a ++ b) = cat a ++ cat b := by
  induction a with
  | nil => rfl
  | cons c r ih =>
    show c.2.2.2.1 ++ (c.2.2.2.2.1 ++ cat (r ++ b)) = (c.2.2.2.1 ++ (c.2.2.2.2.1 ++ cat r)) ++ cat b
    rw [ih, List.append_assoc, List.append_assoc]
def deedC (t : Int → Int) (n : Int) (f : Nat) : Nat → Int → List Cl → dR
  | 0, _, _ => none
  | g + 1, q, cs => if n ≤ q then some (.inr cs) else dB (clsC t n f q cs.length (nms cs)) (fun c q' => deedC t n f g q' (cs ++ [c]))
def actC (t : Int → Int) (n : Int) (f : Nat) : Nat → Int → List Cl → dR
  | 0, _, _ => none
  | g + 1, q, cs => if n ≤ q then some (.inr cs) else dB (rulC t n f q cs.length) (fun c q' => actC t n f g q' (cs ++ [c]))
/-- one end alone -/
def neaC (t : Int → Int) (n : Int) (f : Nat) (q : Int) : dR :=
  if isWb t n q wEnd then dB (clsC t n f q 0 []) (fun c q' => if n ≤ q' then some (.inr [c]) else some (.inl (1, q'))) else some (.inl (1, q))
/-! far, and fuel -/
section
variable {t : Int → Int} {n : Int}
theorem srt2_lt {q : Int} (h : srt t n q = 2 ∨ srt t n q = 3) : q < n := by
  unfold srt at h
  by_cases c : n ≤ q
  · rw [if_pos c] at h; omega
  · omega
theorem mrk_far : ∀ (g : Nat) (q b : Int), q ≤ n → ∀ c q', mrkC t n g q b = cO c q' → q ≤ q' ∧ q' ≤ n ∧ c.1 = 7 ∧ c.2.2.2.1 = [] ∧ c.2.2.2.2.1 = []
  | 0, q, b, _, c, q', h => by cases h
  | g + 1, q, b, hq, c, q', h => by
    have hnx := nx_b (t := t) hq
    unfold mrkC at h
    by_cases h2 : srt t n q = 2
    · rw [if_pos h2] at h
      by_cases h3 : vlu t n q ≤ 7
      · rw [if_pos h3] at h
        have i := mrk_far g _ _ hnx.2.1 _ _ h
        exact ⟨by omega, i.2⟩
      · rw [if_neg h3] at h; cases h
    · rw [if_neg h2] at h
      cases h
      exact ⟨Int.le_refl _, hq, rfl, rfl, rfl⟩
theorem mrk_tot : ∀ (g : Nat) (q b : Int), q ≤ n → (n - q).toNat + 1 ≤ g → ∃ x, mrkC t n g q b = some x
  | 0, q, b, _, h => by omega
  | g + 1, q, b, hq, h => by
    have hnx := nx_b (t := t) hq
    unfold mrkC
    by_cases h2 : srt t n q = 2
    · rw [if_pos h2]
      have := srt2_lt (Or.inl h2)
      by_cases h3 : vlu t n q ≤ 7
      · rw [if_pos h3]
        exact mrk_tot g _ _ hnx.2.1 (by omega)
      · rw [if_neg h3]; exact ⟨_, rfl⟩
    · rw [if_neg h2]; exact ⟨_, rfl⟩
theorem num_some {q lo hi : Int} {k : Int → cR} {x : (Int × Int) ⊕ (Cl × Int)} (h : numC t n q lo hi k = some x) : (srt t n q ≠ 2 ∧ x = .inl (1, q)) ∨ (srt t n q = 2 ∧ ¬ (lo ≤ vlu t n q ∧ vlu t n q ≤ hi) ∧ x = .inl (2, q)) ∨ (srt t n q = 2 ∧ (lo ≤ vlu t n q ∧ vlu t n q ≤ hi) ∧ k (vlu t n q) = some x) := by
  unfold numC at h
  by_cases h2 : srt t n q = 2
  · rw [if_pos h2] at h
    by_cases h3 : lo ≤ vlu t n q ∧ vlu t n q ≤ hi
    · rw [if_pos h3] at h; exact Or.inr (Or.inr ⟨h2, h3, h⟩)
    · rw [if_neg h3] at h; cases h; exact Or.inr (Or.inl ⟨h2, h3, rfl⟩)
  · rw [if_neg h2] at h; cases h; exact Or.inl ⟨h2, rfl⟩
theorem end_far {f : Nat} {q q' : Int} {nn : List (Int × Int)} {c : Cl} (hq : q ≤ n) (h : endC t n f q nn = cO c q') : q < q' ∧ q' ≤ n ∧ c.1 = 8 ∧ ((c.2.2.2.1.length + c.2.2.2.2.1.length : Nat) : Int) ≤ q' - q ∧ (srt t n q = 3 ∧ c.2.1 = tke t n q - q ∧ c.2.1 ≤ 8 ∧ c.2.2.2.2.2.2 = q) ∧ (c.2.2.1 = 0 ∨ c.2.2.1 = 1) := by
  have hnx := nx_b (t := t) hq
  have hnx2 := nx_b (t := t) hnx.2.1
  unfold endC at h
  by_cases h1 : ¬ srt t n q = 3 ∨ 8 < tke t n q - q
  · rw [if_pos h1] at h; cases h
  · rw [if_neg h1] at h
    have hlt := srt2_lt (t := t) (n := n) (q := q) (Or.inr (by
      by_cases h3 : srt t n q = 3
      · exact h3
      · exact absurd (Or.inl h3) h1))
    have hs3 : srt t n q = 3 := by
      by_cases h3 : srt t n q = 3
      · exact h3
      · exact absurd (Or.inl h3) h1
    by_cases h2 : nn.any (nmE t n q) = true
    · rw [if_pos h2] at h; cases h
    · rw [if_neg h2] at h
      by_cases h3 : isWb t n (nx t n q) wPays = true
      · rw [if_pos h3] at h
        rcases pC_some h with ⟨e, -, he⟩ | ⟨c1, l1, q3, hr, hk⟩
        · cases he
        · have f1 := prs_far _ _ _ _ _ _ hnx2.2.1 _ _ _ hr
          simp at f1
          have hnx3 := nx_b (t := t) (n := n) (q := q3) (by omega)
          by_cases h4 : isWb t n q3 wIf = true
          · rw [if_pos h4] at hk
            rcases pC_some hk with ⟨e, -, he⟩ | ⟨c2, l2, q4, hr2, hk2⟩
            · cases he
            · have f2 := prs_far _ _ _ _ _ _ hnx3.2.1 _ _ _ hr2
              simp at f2
              have hnx4 := nx_b (t := t) (n := n) (q := q4) (by omega)
              by_cases h5 : isWb t n q4 wPart = true
              · rw [if_pos h5] at hk2
                cases hk2
                refine ⟨by omega, by omega, rfl, ?_, ⟨hs3, rfl, by dsimp only; omega, rfl⟩, Or.inr rfl⟩
                dsimp only
                omega
              · rw [if_neg h5] at hk2
                cases hk2
                refine ⟨by omega, by omega, rfl, ?_, ⟨hs3, rfl, by dsimp only; omega, rfl⟩, Or.inl rfl⟩
                dsimp only
                omega
          · rw [if_neg h4] at hk; cases hk
      · rw [if_neg h3] at h; cases h
end
