/-! the mini-VM is sound: the frame -/
set_option maxHeartbeats 1600000
def odds : List Nat → List Nat
  | _ :: t :: r => t :: odds r
  | _ => []
/-- the pcs after an item -/
def succs (it : mIt) : List Nat := match it with
  | (ins, np, tg, au, _) => match ins with
    | .ireturn | .lreturn | .areturn | .return_ | .athrow => []
    | .if_icmp _ _ | .ifCond _ _ | .ifnull _ | .ifnonnull _ | .if_acmp _ _ | .lcmp => [np, tg]
    | .monitorenter | .monitorexit => np :: odds au
    | _ => [np]
def outOK (W : List Nat) (r : mRes mM) : Prop := match r with
  | none => True
  | some (.inl g') => g'.1 ∈ W
  | some (.inr (.inl (_, g'))) => g'.1 ∈ W
  | some (.inr (.inr (.inl (_, _, _, t, g')))) => t ∈ W ∧ g'.1 ∈ W
  | some (.inr (.inr (.inr (.inl (_, tb, g'))))) => g'.1 ∈ W ∧ ∀ t ∈ odds tb, t ∈ W
  | some (.inr (.inr (.inr (.inr (.inl (_, _, g')))))) => g'.1 ∈ W
  | some (.inr (.inr (.inr (.inr (.inr _))))) => True
theorem ld_ok {W : List Nat} {k : Nat} {L : mL} {f : mV → mRes mM} (h : ∀ v, outOK W (f v)) : outOK W (m_ld k L f) := by
  cases hr : m_ld k L f with
  | none => exact True.intro
  | some r =>
    obtain ⟨v, -, h2⟩ := m_ld_spec k L f r hr
    rw [← h2]
    exact h v
theorem st1_ok {W : List Nat} {k : Nat} {v : mV} {L : mL} {f : mL → mRes mM} (h : ∀ v, outOK W (f v)) : outOK W (m_st1 k v L f) := by
  cases hr : m_st1 k v L f with
  | none => exact True.intro
  | some r =>
    obtain ⟨L', h2, -⟩ := m_st1_spec k v L f r hr
    rw [← h2]
    exact h L'
theorem st2_ok {W : List Nat} {k : Nat} {v : mV} {L : mL} {f : mL → mRes mM} (h : ∀ v, outOK W (f v)) : outOK W (m_st2 k v L f) := by
  cases hr : m_st2 k v L f with
  | none => exact True.intro
  | some r =>
    obtain ⟨L', h2, -⟩ := m_st2_spec k v L f r hr
    rw [← h2]
    exact h L'
theorem stp_out (it : mIt) (L : mL) (S : List mV) (m : mM) : outOK (succs it) (stp rO it L S m) := by
  obtain ⟨ins, np, tg, au, cz⟩ := it
  have hm : np ∈ [np] := List.mem_cons_self
  have ht : tg ∈ [np, tg] ∧ np ∈ [np, tg] := ⟨List.mem_cons_of_mem _ List.mem_cons_self, List.mem_cons_self⟩
  have hs : np ∈ np :: odds au ∧ ∀ t ∈ odds au, t ∈ np :: odds au := ⟨List.mem_cons_self, fun t h => List.mem_cons_of_mem _ h⟩
  cases ins <;> first
    | exact True.intro
    | exact hm
    | (refine ld_ok (fun v => ?_); rcases v with v | v | v <;> first | exact True.intro | exact hm | (refine st1_ok (fun L' => ?_); exact hm))
    | (rcases S with _ | ⟨v | v | v, r⟩ <;> first | exact True.intro | (refine st1_ok (fun L' => ?_); exact hm) | (refine st2_ok (fun L' => ?_); exact hm))
    | (rcases S with _ | ⟨v | v | v, r⟩ <;> first | exact True.intro | exact hm | exact ht | exact hs)
    | (rcases S with _ | ⟨v | v | v, _ | ⟨w | w | w, r⟩⟩ <;> first | exact True.intro | exact hm | exact ht)
    | (unfold stp; dsimp only; generalize rO _ S m = q; rcases q with _ | ⟨_ | P, S', m'⟩ <;> first | exact True.intro | exact hm)
    | (unfold stp; dsimp only
       split
       · rename_i as r _
         cases Nat.beq (m_words as) (Nat.div (au.headD 0) 16) with
         | false => exact True.intro
         | true =>
           cases Nat.ble r.length 4 with
           | false => exact True.intro
           | true => exact hm
       · exact True.intro)
    | (rcases S with _ | ⟨v | v | v, _ | ⟨w, r⟩⟩ <;> first | exact True.intro | (rcases au with _ | ⟨_ | _ | _ | _ | q, au⟩ <;> exact True.intro))
    | fail
