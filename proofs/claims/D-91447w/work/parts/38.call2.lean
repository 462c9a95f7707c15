/-! the shape of a call -/
set_option maxHeartbeats 1600000
def callOK (it : mIt) (L : mL) (S : List mV) (m : mM) (r : mRes mM) : Prop := match r with
  | some (.inr (.inr (.inr (.inr (.inl (au, as, g')))))) => ∃ (k np tg : Nat) (cz : Int) (r : List mV), it = (.invokestatic k, np, tg, au, cz) ∧ m_take (Nat.mod (au.headD 0) 16) S [] = some (as, r) ∧ m_words as = Nat.div (au.headD 0) 16 ∧ r.length ≤ 4 ∧ g' = (np, L, r, m)
  | _ => True
theorem ldG {OK : mRes mM → Prop} (h0 : OK none) {k : Nat} {L : mL} {f : mV → mRes mM} (h : ∀ v, OK (f v)) : OK (m_ld k L f) := by
  cases hr : m_ld k L f with
  | none => exact h0
  | some r =>
    obtain ⟨v, -, h2⟩ := m_ld_spec k L f r hr
    rw [← h2]
    exact h v
theorem st1G {OK : mRes mM → Prop} (h0 : OK none) {k : Nat} {v : mV} {L : mL} {f : mL → mRes mM} (h : ∀ v, OK (f v)) : OK (m_st1 k v L f) := by
  cases hr : m_st1 k v L f with
  | none => exact h0
  | some r =>
    obtain ⟨L', h2, -⟩ := m_st1_spec k v L f r hr
    rw [← h2]
    exact h L'
theorem st2G {OK : mRes mM → Prop} (h0 : OK none) {k : Nat} {v : mV} {L : mL} {f : mL → mRes mM} (h : ∀ v, OK (f v)) : OK (m_st2 k v L f) := by
  cases hr : m_st2 k v L f with
  | none => exact h0
  | some r =>
    obtain ⟨L', h2, -⟩ := m_st2_spec k v L f r hr
    rw [← h2]
    exact h L'
theorem stp_call (it : mIt) (L : mL) (S : List mV) (m : mM) : callOK it L S m (stp rO it L S m) := by
  obtain ⟨ins, np, tg, au, cz⟩ := it
  cases ins <;> first
    | exact True.intro
    | (refine ldG (OK := callOK _ L S m) True.intro (fun v => ?_); rcases v with v | v | v <;> first | exact True.intro | (refine st1G (OK := callOK _ L S m) True.intro (fun L' => ?_); exact True.intro))
    | (rcases S with _ | ⟨v | v | v, r⟩ <;> first | exact True.intro | (refine st1G (OK := callOK _ L _ m) True.intro (fun L' => ?_); exact True.intro) | (refine st2G (OK := callOK _ L _ m) True.intro (fun L' => ?_); exact True.intro))
    | (rcases S with _ | ⟨v | v | v, _ | ⟨w | w | w, r⟩⟩ <;> exact True.intro)
    | (unfold stp; dsimp only; generalize rO _ S m = q; rcases q with _ | ⟨_ | P, S', m'⟩ <;> exact True.intro)
    | (unfold stp; dsimp only
       split
       · rename_i as r hmt
         cases hb : Nat.beq (m_words as) (Nat.div (au.headD 0) 16) with
         | false => exact True.intro
         | true =>
           cases hl : Nat.ble r.length 4 with
           | false => exact True.intro
           | true => exact ⟨_, np, tg, cz, r, rfl, hmt, Nat.eq_of_beq_eq_true hb, Nat.le_of_ble_eq_true hl, rfl⟩
       · exact True.intro)
    | (rcases S with _ | ⟨v | v | v, _ | ⟨w, r⟩⟩ <;> first | exact True.intro | (rcases au with _ | ⟨_ | _ | _ | _ | q, au⟩ <;> exact True.intro))
    | fail
theorem m_sw_in {x : Int} {k k' : Nat → Prop} {d d' : Prop} (hd : d → d') : ∀ (tb : List Nat), (∀ t ∈ odds tb, k t → k' t) → m_sw x k d tb → m_sw x k' d' tb
  | [], _, h => hd h
  | [_], _, h => hd h
  | key :: t :: r, hk, h => by
    unfold m_sw at h ⊢
    split at h
    · rename_i hc
      rw [if_pos hc]
      exact hk _ List.mem_cons_self h
    · rename_i hc
      rw [if_neg hc]
      exact m_sw_in hd r (fun t ht => hk t (List.mem_cons_of_mem _ ht)) h
def hOk (Γ : gT) (y pc h hk : Nat) : Prop := match h with
  | 0 => ∀ q ∈ gex Γ y, ¬ (q.1 ≤ pc ∧ pc < q.2.1)
  | h + 1 => ∃ (sp ep ct : Nat) (C nm : String) (rest : List (Nat × Nat × Nat × Nat)), gex Γ y = (sp, ep, h + 1, ct) :: rest ∧ (sp ≤ pc ∧ pc < ep) ∧ ct ≠ 0 ∧ isC Γ hk C ∧ Cond.castable C nm ∈ lw_tbl ∧ Cond.classLink (gnm Γ y).cls ct nm ∈ lw_all
def disOk (Γ : gT) (V : Nat → Nat → Prop) (y pc np n w : Nat) : List Nat → Prop
  | lo :: hi :: c :: r => (CO Γ y pc np n c (fun m as => lo ≤ m.2.1 (m_recv as) ∧ m.2.1 (m_recv as) ≤ hi) ∧ w + tU c = gmx Γ c ∧ V c 0) ∧ disOk Γ V y pc np n w r
  | _ => True
/-- the row of a call -/
def CR (Γ : gT) (V : Nat → Nat → Prop) (y pc np : Nat) (au : List Nat) : Prop := match au with
  | hd :: _ :: h :: hk :: au' => hOk Γ y pc h hk ∧ (h ≠ 0 → V y h) ∧ (match au' with
    | 0 :: c :: _ => CO Γ y pc np (Nat.mod hd 16) c (fun _ _ => True) ∧ Nat.div hd 16 + tU c = gmx Γ c ∧ V c 0
    | 1 :: r => disOk Γ V y pc np (Nat.mod hd 16) (Nat.div hd 16) r
    | 2 :: lo :: hi :: od :: c :: _ => CO Γ y pc np (Nat.mod hd 16) c (fun m as => (lo ≤ m.2.1 (m_recv as) ∧ m.2.1 (m_recv as) ≤ hi) ∨ m.2.1 (m_recv as) = od) ∧ Nat.div hd 16 + tU c = gmx Γ c ∧ V c 0
    | _ => True)
  | _ => True
