/-! FROM THE SECOND MACHINE TO THE RAW ONE: the frame -/
set_option maxHeartbeats 3200000
def mapG (m : mM) (g : mG Unit) : mG mM := (g.1, g.2.1, g.2.2.1, m)
def mapR (m : mM) (r : mRes Unit) : mRes mM := match r with
  | none => none
  | some (.inl g) => some (.inl (mapG m g))
  | some (.inr (.inl (C, g))) => some (.inr (.inl (C, mapG m g)))
  | some (.inr (.inr (.inl (op, x, z, t, g)))) => some (.inr (.inr (.inl (op, x, z, t, mapG m g))))
  | some (.inr (.inr (.inr (.inl (x, tb, g))))) => some (.inr (.inr (.inr (.inl (x, tb, mapG m g)))))
  | some (.inr (.inr (.inr (.inr (.inl (au, as, g)))))) => some (.inr (.inr (.inr (.inr (.inl (au, as, mapG m g))))))
  | some (.inr (.inr (.inr (.inr (.inr (.inl (o, _))))))) => some (.inr (.inr (.inr (.inr (.inr (.inl (o, m)))))))
  | some (.inr (.inr (.inr (.inr (.inr (.inr (C, o, _))))))) => some (.inr (.inr (.inr (.inr (.inr (.inr (C, o, m)))))))
theorem ld_map (m : mM) : ∀ (k : Nat) (L : mL) (f : mV → mRes Unit) (f' : mV → mRes mM), (∀ v, f' v = mapR m (f v)) → m_ld k L f' = mapR m (m_ld k L f)
  | 0, some v :: _, f, f', h => h v
  | 0, none :: _, f, f', h => rfl
  | 0, [], f, f', h => rfl
  | k + 1, [], f, f', h => rfl
  | k + 1, _ :: r, f, f', h => ld_map m k r f f' h
theorem st1_map (m : mM) : ∀ (k : Nat) (v : mV) (L : mL) (f : mL → mRes Unit) (f' : mL → mRes mM), (∀ L, f' L = mapR m (f L)) → m_st1 k v L f' = mapR m (m_st1 k v L f)
  | 0, v, [], f, f', h => rfl
  | 0, v, x :: r, f, f', h => h _
  | 1, v, [], f, f', h => rfl
  | 1, v, [x], f, f', h => by rcases x with _ | x | x | x <;> rfl
  | 1, v, x :: y :: r, f, f', h => by rcases x with _ | x | x | x <;> exact h _
  | n + 2, v, [], f, f', h => rfl
  | n + 2, v, x :: r, f, f', h => st1_map m (n + 1) v r (fun r' => f (x :: r')) (fun r' => f' (x :: r')) (fun L => h _)
theorem st2_map (m : mM) : ∀ (k : Nat) (v : mV) (L : mL) (f : mL → mRes Unit) (f' : mL → mRes mM), (∀ L, f' L = mapR m (f L)) → m_st2 k v L f' = mapR m (m_st2 k v L f)
  | 0, v, [], f, f', h => rfl
  | 0, v, [x], f, f', h => rfl
  | 0, v, x :: y :: r, f, f', h => h _
  | 1, v, [], f, f', h => rfl
  | 1, v, [x], f, f', h => by rcases x with _ | x | x | x <;> rfl
  | 1, v, [x, y], f, f', h => by rcases x with _ | x | x | x <;> rfl
  | 1, v, x :: y :: z :: r, f, f', h => by rcases x with _ | x | x | x <;> exact h _
  | n + 2, v, [], f, f', h => rfl
  | n + 2, v, x :: r, f, f', h => st2_map m (n + 1) v r (fun r' => f (x :: r')) (fun r' => f' (x :: r')) (fun L => h _)
theorem stp_map {ins : Instr} {np tg : Nat} {au : List Nat} {cz : Int} {L : mL} {S : List mV} {m : mM} (h : isHp ins = false) (hs : ins ≠ .swap) : stp rO (ins, np, tg, au, cz) L S m = mapR m (stp O0 (ins, np, tg, au, cz) L S ()) := by
  cases ins <;> first
    | rfl
    | (cases h; done)
    | exact absurd rfl hs
    | (refine ld_map m _ _ _ _ (fun v => ?_); rcases v with v | v | v <;> first | rfl | exact st1_map m _ _ _ _ _ (fun L => rfl))
    | (rcases S with _ | ⟨v | v | v, r⟩ <;> first | rfl | exact st1_map m _ _ _ _ _ (fun L => rfl) | exact st2_map m _ _ _ _ _ (fun L => rfl))
    | (rcases S with _ | ⟨v | v | v, _ | ⟨w | w | w, r⟩⟩ <;> rfl)
    | (unfold stp; dsimp only
       cases m_take (Nat.mod (au.headD 0) 16) S [] with
       | none => rfl
       | some q =>
         obtain ⟨as, r⟩ := q
         dsimp only
         cases Nat.beq (m_words as) (Nat.div (au.headD 0) 16) <;> first | rfl | (cases Nat.ble r.length 4 <;> rfl))
    | (rcases S with _ | ⟨v | v | v, _ | ⟨w, r⟩⟩ <;> first | rfl | (rcases au with _ | ⟨_ | _ | _ | _ | q, au⟩ <;> rfl))
    | fail
theorem br_raw {op : Nat} {x y : Int} {A B : Prop} (h : m_br2 op x y A B) : m_br op x y A B := by
  unfold m_br2 at h
  unfold m_br
  have aux : ∀ {c : Prop} [Decidable c] {X Y : Prop}, (c → X) → (¬ c → Y) → (if c then X else Y) := by
    intro c _ X Y h1 h2
    by_cases hc : c
    · rw [if_pos hc]; exact h1 hc
    · rw [if_neg hc]; exact h2 hc
  split at h
  · exact aux h.1 h.2
  · exact aux h.2 h.1
  · exact aux h.1 (fun q => h.2 (by omega))
  · exact aux h.2 (fun q => h.1 (by omega))
  · exact aux h.1 (fun q => h.2 (by omega))
  · exact aux h.2 (fun q => h.1 (by omega))
  · exact ⟨h.1, aux h.2.1 h.2.2⟩
  · rename_i n0 n1 n2 n3 n4 n5 n6
    split
    · exact absurd rfl n0
    · exact absurd rfl n1
    · exact absurd rfl n2
    · exact absurd rfl n3
    · exact absurd rfl n4
    · exact absurd rfl n5
    · exact absurd rfl n6
    · exact ⟨h.1, aux h.2.2 h.2.1⟩
theorem sw_raw {x : Int} {k : Nat → Prop} {d : Prop} : ∀ (tb : List Nat), m_sw2 x k d tb → m_sw x k d tb
  | [], h => h
  | [_], h => h
  | key :: t :: r, h => by
    unfold m_sw
    by_cases hc : x = (key : Int)
    · rw [if_pos hc]; exact h.1 hc
    · rw [if_neg hc]; exact sw_raw r (h.2 hc)
theorem stp_heap {ins : Instr} {np tg : Nat} {au : List Nat} {cz : Int} {L : mL} {S : List mV} {m : mM} (h : isHp ins = true) : stp rO (ins, np, tg, au, cz) L S m = (match rO (ins, np, tg, au, cz) S m with
    | some (none, S', m') => r_go (np, L, S', m')
    | some (some P, S', m') => r_ck P (np, L, S', m')
    | none => none) := by
  cases ins <;> first
    | (cases h; done)
    | (unfold stp; dsimp only; generalize rO _ S m = q; rcases q with _ | ⟨_ | P, S', m'⟩ <;> rfl)
theorem hp_IS {ins : Instr} (h : isHp ins = true) : isIS ins = false := by
  cases ins <;> first | rfl | (cases h; done)
theorem cv_id {ins : Instr} {np tg : Nat} {au : List Nat} {cz : Int} (h : isIS ins = false) : cvI (ins, np, tg, au, cz) = (ins, np, tg, au, cz) := by
  unfold cvI
  dsimp only
  split
  · rw [h]; rfl
  · rfl
/-- Math's methods -/
def mthC (c : Nat) : Bool := m_has [232, 233, 234, 235] c
theorem cv_c {k np tg a1 a2 a3 a4 : Nat} {au : List Nat} {cz : Int} {c : Nat} (h : mthC c = false) : cvI (.invokestatic k, np, tg, a1 :: a2 :: a3 :: a4 :: 0 :: c :: au, cz) = (.invokestatic k, np, tg, a1 :: a2 :: a3 :: a4 :: 0 :: c :: au, cz) := by
  have h1 : Nat.beq c 232 = false ∧ Nat.beq c 233 = false ∧ Nat.beq c 235 = false ∧ Nat.beq c 234 = false := by
    refine ⟨?_, ?_, ?_, ?_⟩ <;> (cases hb : Nat.beq c _ with
      | false => rfl
      | true => rw [Nat.eq_of_beq_eq_true hb] at h; cases h)
  have e : cvI (.invokestatic k, np, tg, a1 :: a2 :: a3 :: a4 :: 0 :: c :: au, cz) = bif Nat.beq c 232 then (.swap, np, 0, [0], 0) else bif Nat.beq c 233 then (.swap, np, 0, [1], 0) else bif Nat.beq c 235 then (.swap, np, 0, [2], 0) else bif Nat.beq c 234 then (.swap, np, 0, [3], 0) else (.invokestatic k, np, tg, a1 :: a2 :: a3 :: a4 :: 0 :: c :: au, cz) := rfl
  rw [e, h1.1, h1.2.1, h1.2.2.1, h1.2.2.2]
  rfl
theorem cv_n {k np tg a1 a2 a3 a4 n : Nat} {au : List Nat} {cz : Int} : cvI (.invokestatic k, np, tg, a1 :: a2 :: a3 :: a4 :: (n + 1) :: au, cz) = (.invokestatic k, np, tg, a1 :: a2 :: a3 :: a4 :: (n + 1) :: au, cz) := by
  unfold cvI
  dsimp only
  split
  · rename_i heq
    simp at heq
  · rfl
/-- the receiver's kinds of a primitive callee -/
def rngP (c : Nat) : List Nat := bif m_has [60, 61, 62, 66, 68, 69, 71, 73, 74] c then [24, 24, 24] else bif m_has [211, 213, 216, 219, 223] c then [27, 27, 28] else bif m_has [307, 308, 309] c then [25, 25, 25] else bif Nat.beq c 323 then [26, 26, 30] else [5, 6, 5]
/-- primitive callees without a receiver -/
def stP (c : Nat) : Bool := m_has [319, 320] c
def rOk (rg : Nat → List Nat) (c k : Nat) : Prop := match rg c with
  | [lo, hi, od] => (lo ≤ k ∧ k ≤ hi) ∨ k = od
  | _ => False
def disS (hm : Nat) (isP U : Nat → Bool) : List Nat → Bool
  | lo :: hi :: c :: r => Nat.ble 1 lo && (Nat.ble hi hm && (!(isP c) && (U c && disS hm isP U r)))
  | _ => true
/-- the check of an item for the passage: callees -/
def simI (pC : Nat → List Nat → Bool) (rg : Nat → List Nat) (lm hm : Nat) (isP U : Nat → Bool) (it : mIt) : Bool := match it with
  | (.invokestatic _, _, _, _ :: _ :: h :: hk :: au, _) => (Nat.beq h 0 || (Nat.ble 1 hk && Nat.ble hk hm)) && (match au with
    | 0 :: c :: ex => bif isP c then pC c ex else U c
    | 1 :: r => disS hm isP U r
    | 2 :: lo :: hi :: od :: c :: ex => bif isP c then (lbeq [lo, hi, od] (rg c) && (!(stP c) && (!(mthC c) && pC c ex))) else (U c && (Nat.ble lm lo && (Nat.ble lo hi && (Nat.ble hi hm && (Nat.ble 1 od && Nat.ble od hm)))))
    | _ => false)
  | (.invokestatic _, _, _, _, _) => false
  | (.swap, _, _, _, _) => false
  | _ => true
/-- a heap step of the raw machine, seen from the second -/
def hpE {M : Type} (E : M → mM → Prop) (K : List mV → M → Prop) (r : Option (Option Prop × List mV × mM)) : Prop := match r with
  | some (none, S', m') => ∃ mm', E mm' m' ∧ K S' mm'
  | some (some P, S', m') => P ∧ ∃ mm', E mm' m' ∧ K S' mm'
  | none => False
theorem dis_raw {kd hd hm : Nat} {k k' : Nat → Prop} {isP U : Nat → Bool} : ∀ (tb : List Nat), (∀ c, isP c = false → U c = true → VV c 0 → k c → k' c) → disC hd tb = true → disS hm isP U tb = true → m_dis2 kd k tb → m_dis kd k' tb ∧ (1 ≤ kd ∧ kd ≤ hm)
  | [], _, _, _, h => h.elim
  | [_], _, _, _, h => h.elim
  | [_, _], _, _, _, h => h.elim
  | lo :: hi :: c :: r, hk, hd2, hb, h => by
    obtain ⟨d1, d2⟩ := two hd2
    obtain ⟨b1, hb⟩ := two hb
    obtain ⟨b2, hb⟩ := two hb
    obtain ⟨b3, hb⟩ := two hb
    obtain ⟨b4, hb⟩ := two hb
    have e1 := Nat.le_of_ble_eq_true b1
    have e2 := Nat.le_of_ble_eq_true b2
    unfold m_dis
    by_cases hc : lo ≤ kd ∧ kd ≤ hi
    · rw [if_pos hc]
      refine ⟨hk c (by cases hp : isP c with | false => rfl | true => rw [hp] at b3; cases b3) b4 (two d1).2 (h.1 hc), ?_⟩
      omega
    · rw [if_neg hc]
      exact dis_raw r hk d2 hb (h.2 hc)
theorem SIM {M : Type} {s : Nat} {pC : Nat → List Nat → Bool} {rg : Nat → List Nat} {lm hm : Nat} {O2 : mH2 M} {isP U : Nat → Bool} {PR : mP2 M} {kd2 : M → Int → Nat} {E : M → mM → Prop}
    (hU : ∀ y pc, VV y pc → U y = true → simI pC rg lm hm isP U (tP y pc) = true) (hm1 : ∀ c, mthC c = true → isP c = true)
    (H1 : ∀ y pc, VV y pc → U y = true → isHp (tP y pc).1 = true → ∀ S mm K m, E mm m → O2 (tP y pc) S mm K → hpE E K (rO (tP y pc) S m))
    (H2 : ∀ c ex as mm Q m, isP c = true → pC c ex = true → mthC c = false → E mm m → PR c ex as mm Q → (stP c = false → rOk rg c (rK m (m_recv as))) ∧ ∀ d, Rn rO rK tQ tU (s + d) c (0, entL (tU c) as, [], m) (fun o m' => ∃ mm', E mm' m' ∧ Q o mm'))
    (Hm : ∀ c ex as mm Q, mthC c = true → PR c ex as mm Q → (∃ a b, as = [mI a, mI b] ∧ ((c = 232 ∧ Q (rI (max a b)) mm) ∨ (c = 233 ∧ Q (rI (min a b)) mm))) ∨ (∃ a b, as = [mJ a, mJ b] ∧ ((c = 235 ∧ Q (rJ (max a b)) mm) ∨ (c = 234 ∧ Q (rJ (min a b)) mm))))
    (H3 : ∀ mm m lo hi od as X, E mm m → lm ≤ lo → lo ≤ hi → hi ≤ hm → 1 ≤ od → od ≤ hm → m_hub lo hi od as (kd2 mm) X → X ∧ ((lo ≤ rK m (m_recv as) ∧ rK m (m_recv as) ≤ hi) ∨ rK m (m_recv as) = od))
    (H4 : ∀ mm m a, E mm m → 1 ≤ kd2 mm a → kd2 mm a ≤ hm → rK m a = kd2 mm a)
    {d y : Nat} {g : mG M} {Q : mQ M} (h : Rn2 O2 isP PR kd2 tP tU d y g Q) : VV y g.1 → U y = true → ∀ m, E g.2.2.2 m → Rn rO rK tQ tU (s + d) y (g.1, g.2.1, g.2.2.1, m) (fun o m' => ∃ mm', E mm' m' ∧ Q o mm') := by
  refine Rn2.ind (Z := fun d y g Q => VV y g.1 → U y = true → ∀ m, E g.2.2.2 m → Rn rO rK tQ tU (s + d) y (g.1, g.2.1, g.2.2.1, m) (fun o m' => ∃ mm', E mm' m' ∧ Q o mm')) ?_ h
  clear h
  intro d y g Q hw hv hu m hE
  obtain ⟨pc, L, S, mm⟩ := g
  dsimp only at hv hE ⊢
  have hrow := row_of hv
  obtain ⟨-, hrow⟩ := two hrow
  obtain ⟨hsu, hcr⟩ := two hrow
  have hsim := hU y pc hv hu
  have h1 := H1 y pc hv hu
  refine Rn.step ?_
  unfold wp2 at hw
  unfold wp
  dsimp only at hw ⊢
  have hq : tQ y pc = cvI (tP y pc) := rfl
  generalize tP y pc = it at hw hsim h1 hq
  obtain ⟨ins, np, tg, au, cz⟩ := it
  dsimp only at hw h1
  cases hH : isHp ins with
  | true =>
    rw [hH] at hw
    rw [cv_id (hp_IS hH)] at hq
    rw [hq] at hsu ⊢
    have hnp : VV y np := by
      refine List.all_eq_true.mp hsu np ?_
      have : succs (ins, np, tg, au, cz) = [np] := by cases ins <;> first | rfl | (cases hH; done)
      rw [this]
      exact List.mem_cons_self
    rw [stp_heap hH]
    have hh := h1 hH S mm _ m hE hw
    generalize rO (ins, np, tg, au, cz) S m = r at hh ⊢
    rcases r with _ | ⟨_ | C, S', m'⟩
    · exact hh.elim
    · obtain ⟨mm', e1, e2⟩ := hh
      exact e2 hnp hu m' e1
    · obtain ⟨hC, mm', e1, e2⟩ := hh
      exact ⟨hC, e2 hnp hu m' e1⟩
  | false =>
    rw [hH] at hw
    dsimp only [cond_false] at hw
    have hsw : ins ≠ .swap := by
      intro e
      rw [e] at hsim
      cases hsim
    -- the next configurations
    have hnx : ∀ (pc' : Nat) (L' : mL) (S' : List mV) (mm' : M) (m' : mM), pc' ∈ succs (ins, np, tg, au, cz) → E mm' m' → (VV y pc' → U y = true → ∀ m, E mm' m → Rn rO rK tQ tU (s + d) y (pc', L', S', m) (fun o m' => ∃ mm', E mm' m' ∧ Q o mm')) → succs (ins, np, tg, au, cz) = succs (tQ y pc) → Rn rO rK tQ tU (s + d) y (pc', L', S', m') (fun o m' => ∃ mm', E mm' m' ∧ Q o mm') := by
      intro pc' L' S' mm' m' hin hE' hz hs
      rw [hs] at hin
      exact hz (List.all_eq_true.mp hsu pc' hin) hu m' hE'
    have hout := stp_out (ins, np, tg, au, cz) L S m
    rw [stp_map hH hsw] at hout
    have hcall := stp_call (ins, np, tg, au, cz) L S m
    rw [stp_map hH hsw] at hcall
    cases hI : isIS ins with
    | false =>
      rw [cv_id hI] at hq
      have hs : succs (ins, np, tg, au, cz) = succs (tQ y pc) := by rw [hq]
      rw [hq, stp_map hH hsw]
      generalize stp O0 (ins, np, tg, au, cz) L S () = r at hw hout hcall
      rcases r with _ | ⟨pc', L', S', u⟩ | ⟨C, pc', L', S', u⟩ | ⟨op, x, z, t, pc', L', S', u⟩ | ⟨x, tb, pc', L', S', u⟩ | ⟨au', as, pc', L', S', u⟩ | ⟨o, u⟩ | ⟨C, o, u⟩
      · exact hw.elim
      · exact hnx _ _ _ _ _ hout hE hw hs
      · exact ⟨hw.1, hnx _ _ _ _ _ hout hE hw.2 hs⟩
      · exact br_raw (m_br2_mono hw (fun h => hnx _ _ _ _ _ hout.1 hE h hs) (fun h => hnx _ _ _ _ _ hout.2 hE h hs))
      · refine m_sw_in (fun h => hnx _ _ _ _ _ hout.1 hE h hs) tb (fun t ht h => hnx _ _ _ _ _ (hout.2 t ht) hE h hs) (sw_raw tb hw)
      · obtain ⟨k, np', tg', cz', r, e, -⟩ := hcall
        have e1 : ins = .invokestatic k := congrArg Prod.fst e
        rw [e1] at hI
        cases hI
      · exact ⟨mm, hE, hw⟩
      · exact ⟨hw.1, mm, hE, hw.2⟩
    | true =>
      have hins : ∃ k, ins = .invokestatic k := by cases ins <;> first | (cases hI; done) | exact ⟨_, rfl⟩
      obtain ⟨k, rfl⟩ := hins
      have hs0 : succs (.invokestatic k, np, tg, au, cz) = [np] := rfl
      -- the arguments
      have e0 : stp O0 (.invokestatic k, np, tg, au, cz) L S () = (match m_take (Nat.mod (au.headD 0) 16) S [] with
          | some (as, r) => bif Nat.beq (m_words as) (Nat.div (au.headD 0) 16) then bif Nat.ble r.length 4 then r_call au as (np, L, r, ()) else none else none
          | none => none) := rfl
      rw [e0] at hw
      cases hmt : m_take (Nat.mod (au.headD 0) 16) S [] with
      | none => rw [hmt] at hw; exact hw.elim
      | some q =>
        obtain ⟨as, r⟩ := q
        rw [hmt] at hw
        dsimp only at hw
        cases hwd : Nat.beq (m_words as) (Nat.div (au.headD 0) 16) with
        | false => rw [hwd] at hw; exact hw.elim
        | true =>
          rw [hwd] at hw
          cases hr4 : Nat.ble r.length 4 with
          | false => rw [hr4] at hw; exact hw.elim
          | true =>
            rw [hr4] at hw
            dsimp only [cond_true, r_call] at hw
            rcases d with _ | d'
            · exact hw.elim
            rcases au with _ | ⟨hd, _ | ⟨rs, _ | ⟨hh, _ | ⟨hk, au'⟩⟩⟩⟩
            · exact hw.elim
            · exact hw.elim
            · exact hw.elim
            · exact hw.elim
            dsimp only at hw
            obtain ⟨bs, t1, t2, t3⟩ := m_take_spec _ S [] as r hmt
            rw [List.append_nil] at t2
            have hS : S = as.reverse ++ r := by rw [t2, List.reverse_reverse]; exact t3
            have hnp : VV y np := by
              refine List.all_eq_true.mp hsu np ?_
              rw [hq]
              unfold cvI
              dsimp only
              split
              · rename_i c' _ _
                cases isIS (Instr.invokestatic k) <;> first | exact List.mem_cons_self | (dsimp only [cond_true]; cases Nat.beq c' 232 <;> cases Nat.beq c' 233 <;> cases Nat.beq c' 235 <;> cases Nat.beq c' 234 <;> exact List.mem_cons_self)
              · exact List.mem_cons_self
            -- on with the callee's result
            have hK : (hh ≠ 0 → VV y hh ∧ 1 ≤ hk ∧ hk ≤ hm) → ∀ o m', (∃ mm', E mm' m' ∧ m_K (m_th kd2 (fun g' : mG M => match g' with | (pc', L', S', m') => VV y pc' → U y = true → ∀ m, E m' m → Rn rO rK tQ tU (s + (d' + 1)) y (pc', L', S', m) (fun o m' => ∃ mm', E mm' m' ∧ Q o mm')) L Q hh hk) (fun g' : mG M => match g' with | (pc', L', S', m') => VV y pc' → U y = true → ∀ m, E m' m → Rn rO rK tQ tU (s + (d' + 1)) y (pc', L', S', m) (fun o m' => ∃ mm', E mm' m' ∧ Q o mm')) np L r rs o mm') →
                m_K (m_th rK (fun g' : mG mM => match g' with | (pc', L', S', m') => Rn rO rK tQ tU (s + (d' + 1)) y (pc', L', S', m') (fun o m' => ∃ mm', E mm' m' ∧ Q o mm')) L (fun o m' => ∃ mm', E mm' m' ∧ Q o mm') hh hk) (fun g' : mG mM => match g' with | (pc', L', S', m') => Rn rO rK tQ tU (s + (d' + 1)) y (pc', L', S', m') (fun o m' => ∃ mm', E mm' m' ∧ Q o mm')) np L r rs o m' := by
              intro hvh o m' hx
              obtain ⟨mm', e1, e2⟩ := hx
              have hth : ∀ a, m_th kd2 (fun g' : mG M => match g' with | (pc', L', S', m') => VV y pc' → U y = true → ∀ m, E m' m → Rn rO rK tQ tU (s + (d' + 1)) y (pc', L', S', m) (fun o m' => ∃ mm', E mm' m' ∧ Q o mm')) L Q hh hk a mm' → m_th rK (fun g' : mG mM => match g' with | (pc', L', S', m') => Rn rO rK tQ tU (s + (d' + 1)) y (pc', L', S', m') (fun o m' => ∃ mm', E mm' m' ∧ Q o mm')) L (fun o m' => ∃ mm', E mm' m' ∧ Q o mm') hh hk a m' := by
                intro a ha
                cases hh with
                | zero => exact ⟨mm', e1, ha⟩
                | succ h =>
                  obtain ⟨v1, v2, v3⟩ := hvh (Nat.succ_ne_zero h)
                  have ek : kd2 mm' a = hk := ha.1
                  refine ⟨?_, ha.2 v1 hu m' e1⟩
                  rw [H4 mm' m' a e1 (by omega) (by omega)]
                  exact ek
              match rs, o with
              | 0, .inl none => exact e2 hnp hu m' e1
              | 0, .inl (some v) => exact False.elim e2
              | 0, .inr a => exact hth a e2
              | 1, .inl none => exact False.elim e2
              | 1, .inl (some (.inl z)) => exact e2 hnp hu m' e1
              | 1, .inl (some (.inr v)) => exact False.elim e2
              | 1, .inr a => exact hth a e2
              | 2, .inl none => exact False.elim e2
              | 2, .inl (some (.inl z)) => exact False.elim e2
              | 2, .inl (some (.inr (.inl z))) => exact e2 hnp hu m' e1
              | 2, .inl (some (.inr (.inr z))) => exact False.elim e2
              | 2, .inr a => exact hth a e2
              | rs + 3, .inl none => exact False.elim e2
              | rs + 3, .inl (some (.inl z)) => exact False.elim e2
              | rs + 3, .inl (some (.inr (.inl z))) => exact False.elim e2
              | rs + 3, .inl (some (.inr (.inr z))) => exact e2 hnp hu m' e1
              | rs + 3, .inr a => exact hth a e2
            obtain ⟨hsh, hsa⟩ := two hsim
            -- a call that stays a call
            have stay : tQ y pc = (.invokestatic k, np, tg, hd :: rs :: hh :: hk :: au', cz) → ((auB hd au' = true) ∧ (hh ≠ 0 → VV y hh ∧ 1 ≤ hk ∧ hk ≤ hm)) ∧ stp rO (tQ y pc) L S m = r_call (hd :: rs :: hh :: hk :: au') as (np, L, r, m) := by
              intro hq2
              refine ⟨?_, ?_⟩
              · rw [hq2] at hcr
                obtain ⟨-, c1⟩ := two hcr
                obtain ⟨c1, c2⟩ := two c1
                refine ⟨c2, fun hne => ?_⟩
                rw [Bool.or_eq_true] at hsh
                rcases hsh with q | q
                · exact absurd (Nat.eq_of_beq_eq_true q) hne
                · obtain ⟨q1, q2⟩ := two q
                  refine ⟨?_, Nat.le_of_ble_eq_true q1, Nat.le_of_ble_eq_true q2⟩
                  cases hh with
                  | zero => exact absurd rfl hne
                  | succ h =>
                    unfold hB at c1
                    dsimp only at c1
                    split at c1
                    · obtain ⟨-, c1⟩ := two c1
                      obtain ⟨-, c1⟩ := two c1
                      obtain ⟨-, c1⟩ := two c1
                      obtain ⟨-, c1⟩ := two c1
                      exact (two c1).2
                    · cases c1
              · rw [hq2]
                show (match m_take (Nat.mod hd 16) S [] with
                  | some (as, r) => bif Nat.beq (m_words as) (Nat.div hd 16) then bif Nat.ble r.length 4 then r_call (hd :: rs :: hh :: hk :: au') as (np, L, r, m) else none else none
                  | none => none) = _
                rw [show m_take (Nat.mod hd 16) S [] = some (as, r) from hmt]
                dsimp only
                rw [show Nat.beq (m_words as) (Nat.div hd 16) = true from hwd, hr4]
                rfl
            rcases au' with _ | ⟨_ | _ | _ | q, au'⟩
            · exact hw.elim
            · rcases au' with _ | ⟨c, ex⟩
              · exact hw.elim
              · cases hmc : mthC c with
                | true =>
                  change (bif isP c then _ else _) at hw
                  rw [hm1 c hmc] at hw
                  rcases Hm c ex as mm _ hmc hw with ⟨a, b, ha, hc⟩ | ⟨a, b, ha, hc⟩
                  · subst ha
                    have hS' : S = mI b :: mI a :: r := hS
                    subst hS'
                    rcases hc with ⟨rfl, hc⟩ | ⟨rfl, hc⟩
                    · have est : stp rO (tQ y pc) L (mI b :: mI a :: r) m = r_go (np, L, mI (max a b) :: r, m) := by
                        rw [hq]
                        show stp rO (.swap, np, 0, [0], 0) L (mI b :: mI a :: r) m = _
                        rw [stp_m0, hr4]
                        rfl
                      rw [est]
                      show Rn rO rK tQ tU (s + (d' + 1)) y (np, L, mI (max a b) :: r, m) _
                      match rs, hc with
                      | 0, hc => exact False.elim hc
                      | 1, hc => exact hc hnp hu m hE
                      | 2, hc => exact False.elim hc
                      | rs + 3, hc => exact False.elim hc
                    · have est : stp rO (tQ y pc) L (mI b :: mI a :: r) m = r_go (np, L, mI (min a b) :: r, m) := by
                        rw [hq]
                        show stp rO (.swap, np, 0, [1], 0) L (mI b :: mI a :: r) m = _
                        rw [stp_m1, hr4]
                        rfl
                      rw [est]
                      show Rn rO rK tQ tU (s + (d' + 1)) y (np, L, mI (min a b) :: r, m) _
                      match rs, hc with
                      | 0, hc => exact False.elim hc
                      | 1, hc => exact hc hnp hu m hE
                      | 2, hc => exact False.elim hc
                      | rs + 3, hc => exact False.elim hc
                  · subst ha
                    have hS' : S = mJ b :: mJ a :: r := hS
                    subst hS'
                    rcases hc with ⟨rfl, hc⟩ | ⟨rfl, hc⟩
                    · have est : stp rO (tQ y pc) L (mJ b :: mJ a :: r) m = r_go (np, L, mJ (max a b) :: r, m) := by
                        rw [hq]
                        show stp rO (.swap, np, 0, [2], 0) L (mJ b :: mJ a :: r) m = _
                        rw [stp_m2, hr4]
                        rfl
                      rw [est]
                      show Rn rO rK tQ tU (s + (d' + 1)) y (np, L, mJ (max a b) :: r, m) _
                      match rs, hc with
                      | 0, hc => exact False.elim hc
                      | 1, hc => exact False.elim hc
                      | 2, hc => exact hc hnp hu m hE
                      | rs + 3, hc => exact False.elim hc
                    · have est : stp rO (tQ y pc) L (mJ b :: mJ a :: r) m = r_go (np, L, mJ (min a b) :: r, m) := by
                        rw [hq]
                        show stp rO (.swap, np, 0, [3], 0) L (mJ b :: mJ a :: r) m = _
                        rw [stp_m3, hr4]
                        rfl
                      rw [est]
                      show Rn rO rK tQ tU (s + (d' + 1)) y (np, L, mJ (min a b) :: r, m) _
                      match rs, hc with
                      | 0, hc => exact False.elim hc
                      | 1, hc => exact False.elim hc
                      | 2, hc => exact hc hnp hu m hE
                      | rs + 3, hc => exact False.elim hc
                | false =>
                  rw [cv_c hmc] at hq
                  obtain ⟨⟨s1, s2⟩, s3⟩ := stay hq
                  rw [s3]
                  show m_entK (tU c) as (fun L0 => Rn rO rK tQ tU (s + d') c (0, L0, [], m) _)
                  rw [m_entK_eq]
                  change (bif isP c then _ else _) at hw
                  cases hp : isP c with
                  | true =>
                    rw [hp] at hw
                    have hpc : pC c ex = true := by
                      have h' : (bif isP c then pC c ex else U c) = true := hsa
                      rw [hp] at h'
                      exact h'
                    exact Rn.mono ((H2 c ex as mm _ m hp hpc hmc hE hw).2 d') (hK s2)
                  | false =>
                    rw [hp] at hw
                    dsimp only [cond_false] at hw
                    rw [m_entK_eq] at hw
                    have hUc : U c = true := by
                      have h' : (bif isP c then pC c ex else U c) = true := hsa
                      rw [hp] at h'
                      exact h'
                    exact Rn.mono (hw (two s1).2 hUc m hE) (hK s2)
            · rw [cv_n] at hq
              obtain ⟨⟨s1, s2⟩, s3⟩ := stay hq
              rw [s3]
              have hd2 := dis_raw (hd := hd) (k' := fun c => m_entK (tU c) as (fun L0 => Rn rO rK tQ tU (s + d') c (0, L0, [], m) (m_K (m_th rK (fun g' : mG mM => match g' with | (pc', L', S', m') => Rn rO rK tQ tU (s + (d' + 1)) y (pc', L', S', m') (fun o m' => ∃ mm', E mm' m' ∧ Q o mm')) L (fun o m' => ∃ mm', E mm' m' ∧ Q o mm') hh hk) (fun g' : mG mM => match g' with | (pc', L', S', m') => Rn rO rK tQ tU (s + (d' + 1)) y (pc', L', S', m') (fun o m' => ∃ mm', E mm' m' ∧ Q o mm')) np L r rs))) au' (fun c hp hUc hVc hg => by
                rw [hp] at hg
                dsimp only [cond_false] at hg
                rw [m_entK_eq] at hg ⊢
                exact Rn.mono (hg hVc hUc m hE) (hK s2)) s1 hsa hw
              have ek := H4 mm m (m_recv as) hE hd2.2.1 hd2.2.2
              show m_dis (rK m (m_recv as)) _ au'
              rw [ek]
              exact hd2.1
            · rcases au' with _ | ⟨lo, _ | ⟨hi, _ | ⟨od, _ | ⟨c, ex⟩⟩⟩⟩
              · exact hw.elim
              · exact hw.elim
              · exact hw.elim
              · exact hw.elim
              · rw [cv_n] at hq
                obtain ⟨⟨s1, s2⟩, s3⟩ := stay hq
                rw [s3]
                show ((lo ≤ rK m (m_recv as) ∧ rK m (m_recv as) ≤ hi) ∨ rK m (m_recv as) = od) ∧ m_entK (tU c) as (fun L0 => Rn rO rK tQ tU (s + d') c (0, L0, [], m) _)
                rw [m_entK_eq]
                change (bif isP c then _ else _) at hw
                cases hp : isP c with
                | true =>
                  have hsa' : (lbeq [lo, hi, od] (rg c) && (!(stP c) && (!(mthC c) && pC c ex))) = true := by
                    have h' : (bif isP c then (lbeq [lo, hi, od] (rg c) && (!(stP c) && (!(mthC c) && pC c ex))) else (U c && (Nat.ble lm lo && (Nat.ble lo hi && (Nat.ble hi hm && (Nat.ble 1 od && Nat.ble od hm)))))) = true := hsa
                    rw [hp] at h'
                    exact h'
                  obtain ⟨q1, q2⟩ := two hsa'
                  obtain ⟨q2, q3⟩ := two q2
                  obtain ⟨q3, q4⟩ := two q3
                  rw [hp] at hw
                  have hmc : mthC c = false := by cases h : mthC c with | false => rfl | true => rw [h] at q3; cases q3
                  have hsc : stP c = false := by cases h : stP c with | false => rfl | true => rw [h] at q2; cases q2
                  obtain ⟨z1, z2⟩ := H2 c ex as mm _ m hp q4 hmc hE hw
                  have z1 := z1 hsc
                  unfold rOk at z1
                  rw [← lbeq_eq q1] at z1
                  exact ⟨z1, Rn.mono (z2 d') (hK s2)⟩
                | false =>
                  rw [hp] at hw
                  dsimp only [cond_false] at hw
                  have hUc : (U c && (Nat.ble lm lo && (Nat.ble lo hi && (Nat.ble hi hm && (Nat.ble 1 od && Nat.ble od hm))))) = true := by
                    have h' : (bif isP c then (lbeq [lo, hi, od] (rg c) && (!(stP c) && (!(mthC c) && pC c ex))) else (U c && (Nat.ble lm lo && (Nat.ble lo hi && (Nat.ble hi hm && (Nat.ble 1 od && Nat.ble od hm)))))) = true := hsa
                    rw [hp] at h'
                    exact h'
                  obtain ⟨u1, u2⟩ := two hUc
                  obtain ⟨u2, u3⟩ := two u2
                  obtain ⟨u3, u4⟩ := two u3
                  obtain ⟨u4, u5⟩ := two u4
                  obtain ⟨u5, u6⟩ := two u5
                  obtain ⟨z1, z2⟩ := H3 mm m lo hi od as _ hE (Nat.le_of_ble_eq_true u2) (Nat.le_of_ble_eq_true u3) (Nat.le_of_ble_eq_true u4) (Nat.le_of_ble_eq_true u5) (Nat.le_of_ble_eq_true u6) hw
                  rw [m_entK_eq] at z1
                  exact ⟨z2, Rn.mono (z1 (two s1).2 u1 m hE) (hK s2)⟩
            · exact hw.elim
