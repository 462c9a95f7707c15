/-! THE SECOND MACHINE: the same items over a memory M of one's own choice; heap instructions and primitive callees are predicate transformers -/
def isHp (ins : Instr) : Bool := match ins with
  | .getfield _ | .putfield _ | .getstatic _ | .putstatic _ | .iaload | .iastore | .laload | .lastore | .baload | .bastore | .aaload | .aastore | .arraylength | .new _ | .anewarray _ | .checkcast _ | .instanceof _ | .aconst_null | .invokedynamic _ => true
  | _ => false
def O0 : mHeap Unit := fun _ _ _ => none
abbrev mH2 (M : Type) : Type := mIt → List mV → M → (List mV → M → Prop) → Prop
abbrev mP2 (M : Type) : Type := Nat → List Nat → List mV → M → mQ M → Prop
/-- eq, ne, lt, ge, gt, le; of references: eq, ne -/
def m_br2 (op : Nat) (x y : Int) (A B : Prop) : Prop := match op with
  | 0 => (x = y → A) ∧ (x ≠ y → B)
  | 1 => (x ≠ y → A) ∧ (x = y → B)
  | 2 => (x < y → A) ∧ (y ≤ x → B)
  | 3 => (y ≤ x → A) ∧ (x < y → B)
  | 4 => (y < x → A) ∧ (x ≤ y → B)
  | 5 => (x ≤ y → A) ∧ (y < x → B)
  | 6 => (((1000 ≤ x ∨ 1000 ≤ y) ∧ (x < 60 ∨ 65 < x) ∧ (y < 60 ∨ 65 < y)) ∨ x = 0 ∨ y = 0 ∨ x = y) ∧ (x = y → A) ∧ (x ≠ y → B)
  | _ => (((1000 ≤ x ∨ 1000 ≤ y) ∧ (x < 60 ∨ 65 < x) ∧ (y < 60 ∨ 65 < y)) ∨ x = 0 ∨ y = 0 ∨ x = y) ∧ (x ≠ y → A) ∧ (x = y → B)
def m_sw2 (x : Int) (k : Nat → Prop) (d : Prop) : List Nat → Prop
  | key :: t :: r => (x = (key : Int) → k t) ∧ (x ≠ (key : Int) → m_sw2 x k d r)
  | _ => d
def m_dis2 (kd : Nat) (k : Nat → Prop) : List Nat → Prop
  | lo :: hi :: y :: r => (lo ≤ kd ∧ kd ≤ hi → k y) ∧ (¬ (lo ≤ kd ∧ kd ≤ hi) → m_dis2 kd k r)
  | _ => False
/-- the receiver: the one TrustDesk, the one TrustDeskModel, or of a kind -/
def m_hub (lo hi od : Nat) (as : List mV) (k : Int → Nat) (X : Prop) : Prop := match as with
  | .inr (.inr a) :: _ => match lo with
    | 1 => bif Nat.beq a.toNat 1000 then X else False
    | 2 => bif Nat.beq a.toNat 1026 then X else False
    | _ => ((lo ≤ k a ∧ k a ≤ hi) ∨ k a = od) ∧ X
  | _ => False
theorem m_hub_mono {lo hi od : Nat} {as : List mV} {k : Int → Nat} {X X' : Prop} (hX : X → X') (h : m_hub lo hi od as k X) : m_hub lo hi od as k X' := by
  unfold m_hub at h ⊢
  split at h
  · rename_i a r
    split at h
    · cases hb : Nat.beq a.toNat 1000 with
      | true => rw [hb] at h; exact hX h
      | false => rw [hb] at h; exact h
    · cases hb : Nat.beq a.toNat 1026 with
      | true => rw [hb] at h; exact hX h
      | false => rw [hb] at h; exact h
    · exact ⟨h.1, hX h.2⟩
  · exact h
theorem bf_mono {b : Bool} {A A' B B' : Prop} (h1 : A → A') (h2 : B → B') (h : bif b then A else B) : bif b then A' else B' := by
  cases b
  · exact h2 h
  · exact h1 h
section
variable {M : Type}
def wp2 (O : mH2 M) (isP : Nat → Bool) (PR : mP2 M) (kd : M → Int → Nat) (P : Nat → Nat → mIt) (ml : Nat → Nat) (Rr : Nat → Nat → mG M → mQ M → Prop) (inl stops : List Nat) : Nat → Nat → Nat → mG M → mQ M → Prop
  | 0, d, y, g, Q => Rr d y g Q
  | n + 1, d, y, (pc, L, S, m), Q =>
    let nx : mG M → Prop := fun g' => match g' with
      | (pc', L', S', m') => bif m_has stops (10000 * y + pc') then Rr d y (pc', L', S', m') Q else wp2 O isP PR kd P ml Rr inl stops n d y (pc', L', S', m') Q
    match P y pc with
    | (ins, np, tg, au, cz) => bif isHp ins then O (ins, np, tg, au, cz) S m (fun S' m' => nx (np, L, S', m')) else
    match stp O0 (ins, np, tg, au, cz) L S () with
    | none => False
    | some (.inl (pc', L', S', _)) => nx (pc', L', S', m)
    | some (.inr (.inl (C, (pc', L', S', _)))) => C ∧ nx (pc', L', S', m)
    | some (.inr (.inr (.inl (op, x, z, t, (pc', L', S', _))))) => m_br2 op x z (nx (t, L', S', m)) (nx (pc', L', S', m))
    | some (.inr (.inr (.inr (.inl (x, tb, (pc', L', S', _)))))) => m_sw2 x (fun t => nx (t, L', S', m)) (nx (pc', L', S', m)) tb
    | some (.inr (.inr (.inr (.inr (.inl (au, as, (pc', L', S', _))))))) =>
      match d with
      | 0 => False
      | d' + 1 => match au with
        | _ :: rs :: h :: hk :: au' =>
          let K : mQ M := m_K (m_th kd nx L' Q h hk) nx pc' L' S' rs
          let go : List Nat → Nat → Prop := fun ex c => bif isP c then PR c ex as m K else m_entK (ml c) as (fun L0 => bif m_has inl c then wp2 O isP PR kd P ml Rr inl stops n d' c (0, L0, [], m) K else Rr d' c (0, L0, [], m) K)
          match au' with
          | 0 :: c :: ex => go ex c
          | 1 :: r => m_dis2 (kd m (m_recv as)) (go []) r
          | 2 :: lo :: hi :: od :: c :: ex => bif isP c then go ex c else m_hub lo hi od as (kd m) (go ex c)
          | _ => False
        | _ => False
    | some (.inr (.inr (.inr (.inr (.inr (.inl (o, _))))))) => Q o m
    | some (.inr (.inr (.inr (.inr (.inr (.inr (C, o, _))))))) => C ∧ Q o m
/-- THE SECOND MACHINE: the least predicate that holds where one step leads into it -/
def Rn2 (O : mH2 M) (isP : Nat → Bool) (PR : mP2 M) (kd : M → Int → Nat) (P : Nat → Nat → mIt) (ml : Nat → Nat) (d y : Nat) (g : mG M) (Q : mQ M) : Prop :=
  (∀ Z : Nat → Nat → mG M → mQ M → Prop, (∀ d y g Q, wp2 O isP PR kd P ml Z [] [] 1 d y g Q → Z d y g Q) → Z d y g Q) ∨ False
theorem m_br2_mono {op : Nat} {x y : Int} {A B A' B' : Prop} (h : m_br2 op x y A B) (hA : A → A') (hB : B → B') : m_br2 op x y A' B' := by
  unfold m_br2 at h ⊢
  split at h
  · exact ⟨fun e => hA (h.1 e), fun e => hB (h.2 e)⟩
  · exact ⟨fun e => hA (h.1 e), fun e => hB (h.2 e)⟩
  · exact ⟨fun e => hA (h.1 e), fun e => hB (h.2 e)⟩
  · exact ⟨fun e => hA (h.1 e), fun e => hB (h.2 e)⟩
  · exact ⟨fun e => hA (h.1 e), fun e => hB (h.2 e)⟩
  · exact ⟨fun e => hA (h.1 e), fun e => hB (h.2 e)⟩
  · exact ⟨h.1, fun e => hA (h.2.1 e), fun e => hB (h.2.2 e)⟩
  · exact ⟨h.1, fun e => hA (h.2.1 e), fun e => hB (h.2.2 e)⟩
theorem m_sw2_mono {x : Int} {k k' : Nat → Prop} {d d' : Prop} (hk : ∀ t, k t → k' t) (hd : d → d') : ∀ (tb : List Nat), m_sw2 x k d tb → m_sw2 x k' d' tb
  | [], h => hd h
  | [_], h => hd h
  | key :: t :: r, h => ⟨fun e => hk _ (h.1 e), fun e => m_sw2_mono hk hd r (h.2 e)⟩
theorem m_dis2_mono {kd : Nat} {k k' : Nat → Prop} (hk : ∀ t, k t → k' t) : ∀ (tb : List Nat), m_dis2 kd k tb → m_dis2 kd k' tb
  | [], h => h
  | [_], h => h
  | [_, _], h => h
  | lo :: hi :: y :: r, h => ⟨fun e => hk _ (h.1 e), fun e => m_dis2_mono hk r (h.2 e)⟩
abbrev mOk (O : mH2 M) : Prop := ∀ it S m (K K' : List mV → M → Prop), (∀ S' m', K S' m' → K' S' m') → O it S m K → O it S m K'
abbrev mPk (PR : mP2 M) : Prop := ∀ c ex as m (Q Q' : mQ M), (∀ o m', Q o m' → Q' o m') → PR c ex as m Q → PR c ex as m Q'
variable {O : mH2 M} {isP : Nat → Bool} {PR : mP2 M} {kd : M → Int → Nat} {P : Nat → Nat → mIt} {ml : Nat → Nat}
theorem wp2_G (hO : mOk O) (hP : mPk PR) {Rr Rr' : Nat → Nat → mG M → mQ M → Prop} {inl stops : List Nat} {n : Nat}
    (h1 : ∀ d y g (Q Q' : mQ M), (∀ o m, Q o m → Q' o m) → Rr d y g Q → Rr' d y g Q')
    (h2 : ∀ d y g (Q Q' : mQ M), (∀ o m, Q o m → Q' o m) → wp2 O isP PR kd P ml Rr inl stops n d y g Q → Rr' d y g Q')
    {d y : Nat} {g : mG M} {Q Q' : mQ M} (hQ : ∀ o m, Q o m → Q' o m) (h : wp2 O isP PR kd P ml Rr inl stops (n + 1) d y g Q) : wp2 O isP PR kd P ml Rr' [] [] 1 d y g Q' := by
  obtain ⟨pc, L, S, m⟩ := g
  unfold wp2 at h ⊢
  have hn : ∀ (pc' : Nat) (L' : mL) (S' : List mV) (m' : M), (bif m_has stops (10000 * y + pc') then Rr d y (pc', L', S', m') Q else wp2 O isP PR kd P ml Rr inl stops n d y (pc', L', S', m') Q) →
      (bif m_has [] (10000 * y + pc') then Rr' d y (pc', L', S', m') Q' else wp2 O isP PR kd P ml Rr' [] [] 0 d y (pc', L', S', m') Q') := by
    intro pc' L' S' m' h
    show Rr' d y (pc', L', S', m') Q'
    cases hs : m_has stops (10000 * y + pc') with
    | true => rw [hs] at h; exact h1 _ _ _ _ _ hQ h
    | false => rw [hs] at h; exact h2 _ _ _ _ _ hQ h
  dsimp only at h ⊢
  generalize P y pc = it at h ⊢
  obtain ⟨ins, np, tg, au, cz⟩ := it
  dsimp only at h ⊢
  cases hH : isHp ins with
  | true =>
    rw [hH] at h
    exact hO _ _ _ _ _ (fun S' m' => hn _ _ _ _) h
  | false =>
  rw [hH] at h
  dsimp only [cond_false] at h ⊢
  generalize stp O0 (ins, np, tg, au, cz) L S () = r at h ⊢
  rcases r with _ | ⟨pc', L', S', u⟩ | ⟨C, pc', L', S', u⟩ | ⟨op, x, z, t, pc', L', S', u⟩ | ⟨x, tb, pc', L', S', u⟩ | ⟨au, as, pc', L', S', u⟩ | ⟨o, u⟩ | ⟨C, o, u⟩
  · exact h
  · exact hn _ _ _ _ h
  · exact ⟨h.1, hn _ _ _ _ h.2⟩
  · exact m_br2_mono h (hn _ _ _ _) (hn _ _ _ _)
  · exact m_sw2_mono (fun t => hn _ _ _ _) (hn _ _ _ _) tb h
  · dsimp only at h ⊢
    rcases d with _ | d'
    · exact h
    · rcases au with _ | ⟨a0, _ | ⟨rs, _ | ⟨hh, _ | ⟨hk, au'⟩⟩⟩⟩
      · exact h
      · exact h
      · exact h
      · exact h
      · dsimp only at h ⊢
        have hgo : ∀ (K K' : mQ M), (∀ o m, K o m → K' o m) → ∀ ex c, (bif isP c then PR c ex as m K else m_entK (ml c) as (fun L0 => bif m_has inl c then wp2 O isP PR kd P ml Rr inl stops n d' c (0, L0, [], m) K else Rr d' c (0, L0, [], m) K)) →
            (bif isP c then PR c ex as m K' else m_entK (ml c) as (fun L0 => bif m_has [] c then wp2 O isP PR kd P ml Rr' [] [] 0 d' c (0, L0, [], m) K' else Rr' d' c (0, L0, [], m) K')) := by
          intro K K' hK ex c
          cases isP c with
          | true => exact hP _ _ _ _ _ _ hK
          | false =>
          refine m_entK_mono as (fun L hL => ?_)
          show Rr' d' c (0, L, [], m) K'
          cases hs : m_has inl c with
          | true => rw [hs] at hL; exact h2 _ _ _ _ _ hK hL
          | false => rw [hs] at hL; exact h1 _ _ _ _ _ hK hL
        have hth : ∀ a m, m_th kd (fun g' : mG M => match g' with | (pc', L', S', m') => bif m_has stops (10000 * y + pc') then Rr (d' + 1) y (pc', L', S', m') Q else wp2 O isP PR kd P ml Rr inl stops n (d' + 1) y (pc', L', S', m') Q) L' Q hh hk a m →
            m_th kd (fun g' : mG M => match g' with | (pc', L', S', m') => bif m_has [] (10000 * y + pc') then Rr' (d' + 1) y (pc', L', S', m') Q' else wp2 O isP PR kd P ml Rr' [] [] 0 (d' + 1) y (pc', L', S', m') Q') L' Q' hh hk a m := by
          intro a m hm
          cases hh with
          | zero => exact hQ _ _ hm
          | succ k => exact ⟨hm.1, hn _ _ _ _ hm.2⟩
        have hK := m_K_mono (pc' := pc') (L' := L') (S' := S') (rs := rs) hth (nx := fun g' : mG M => match g' with | (pc', L', S', m') => bif m_has stops (10000 * y + pc') then Rr (d' + 1) y (pc', L', S', m') Q else wp2 O isP PR kd P ml Rr inl stops n (d' + 1) y (pc', L', S', m') Q) (nx' := fun g' : mG M => match g' with | (pc', L', S', m') => bif m_has [] (10000 * y + pc') then Rr' (d' + 1) y (pc', L', S', m') Q' else wp2 O isP PR kd P ml Rr' [] [] 0 (d' + 1) y (pc', L', S', m') Q') (fun L S m => hn pc' L S m)
        rcases au' with _ | ⟨_ | _ | _ | k, r⟩
        · exact h
        · rcases r with _ | ⟨c, r⟩
          · exact h
          · exact hgo _ _ hK r c h
        · exact m_dis2_mono (hgo _ _ hK []) _ h
        · rcases r with _ | ⟨lo, _ | ⟨hi, _ | ⟨od, _ | ⟨c, r⟩⟩⟩⟩
          · exact h
          · exact h
          · exact h
          · exact h
          · exact bf_mono (fun h => hgo _ _ hK r c h) (fun h => m_hub_mono (fun h => hgo _ _ hK r c h) h) h
        · exact h
  · exact hQ _ _ h
  · exact ⟨h.1, hQ _ _ h.2⟩
theorem Rn2.ind {Z : Nat → Nat → mG M → mQ M → Prop} (hZ : ∀ d y g Q, wp2 O isP PR kd P ml Z [] [] 1 d y g Q → Z d y g Q) {d y : Nat} {g : mG M} {Q : mQ M} (h : Rn2 O isP PR kd P ml d y g Q) : Z d y g Q := h.elim (fun h => h Z hZ) False.elim
theorem Rn2.mono_aux (hO : mOk O) (hP : mPk PR) {d y : Nat} {g : mG M} {Q : mQ M} (h : Rn2 O isP PR kd P ml d y g Q) : ∀ Q' : mQ M, (∀ o m, Q o m → Q' o m) → Rn2 O isP PR kd P ml d y g Q' := by
  refine Rn2.ind (Z := fun d y g Q => ∀ Q' : mQ M, (∀ o m, Q o m → Q' o m) → Rn2 O isP PR kd P ml d y g Q') ?_ h
  intro d y g Q hw Q' hQ
  refine Or.inl (fun Z hZ => ?_)
  refine hZ _ _ _ _ (wp2_G hO hP (Rr' := Z) (fun d y g Q Q' hQ h => Rn2.ind hZ (h Q' hQ)) (fun d y g Q Q' hQ h => ?_) hQ hw)
  unfold wp2 at h
  exact Rn2.ind hZ (h Q' hQ)
theorem Rn2.mono (hO : mOk O) (hP : mPk PR) {d y : Nat} {g : mG M} {Q Q' : mQ M} (h : Rn2 O isP PR kd P ml d y g Q) (hQ : ∀ o m, Q o m → Q' o m) : Rn2 O isP PR kd P ml d y g Q' := Rn2.mono_aux hO hP h Q' hQ
theorem Rn2.step (hO : mOk O) (hP : mPk PR) {d y : Nat} {g : mG M} {Q : mQ M} (h : wp2 O isP PR kd P ml (Rn2 O isP PR kd P ml) [] [] 1 d y g Q) : Rn2 O isP PR kd P ml d y g Q := by
  refine Or.inl (fun Z hZ => ?_)
  refine hZ _ _ _ _ (wp2_G hO hP (Rr := Rn2 O isP PR kd P ml) (Rr' := Z) (fun d y g Q Q' hQ h => Rn2.ind hZ (Rn2.mono hO hP h hQ)) (fun d y g Q Q' hQ h => ?_) (fun _ _ h => h) h)
  unfold wp2 at h
  exact Rn2.ind hZ (Rn2.mono hO hP h hQ)
theorem Rn2.run (hO : mOk O) (hP : mPk PR) (inl stops : List Nat) (n : Nat) {d y : Nat} {g : mG M} {Q : mQ M} (h : wp2 O isP PR kd P ml (Rn2 O isP PR kd P ml) inl stops n d y g Q) : Rn2 O isP PR kd P ml d y g Q := by
  have hall : ∀ n d y g (Q Q' : mQ M), (∀ o m, Q o m → Q' o m) → wp2 O isP PR kd P ml (Rn2 O isP PR kd P ml) inl stops n d y g Q → Rn2 O isP PR kd P ml d y g Q' := by
    intro n
    induction n with
    | zero =>
      intro d y g Q Q' hQ h
      unfold wp2 at h
      exact Rn2.mono hO hP h hQ
    | succ n ih =>
      intro d y g Q Q' hQ h
      exact Rn2.step hO hP (wp2_G hO hP (Rr := Rn2 O isP PR kd P ml) (Rr' := Rn2 O isP PR kd P ml) (fun d y g Q Q' hQ h => Rn2.mono hO hP h hQ) ih hQ h)
  exact hall n d y g Q Q (fun _ _ h => h) h
end
