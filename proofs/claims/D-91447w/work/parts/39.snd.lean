/-! the mini-VM is sound -/
set_option maxHeartbeats 1600000
theorem sound {Γ : gT} {V : Nat → Nat → Prop} {P : Nat → Nat → mIt} (hGC : gCk Γ) (hrow : ∀ y pc, V y pc → SS Γ y pc (P y pc) ∧ (∀ q ∈ succs (P y pc), V y q) ∧ ∀ k np tg au cz, P y pc = (.invokestatic k, np, tg, au, cz) → CR Γ V y pc np au) :
    ∀ (d y : Nat) (g : mG mM) (Q : mQ mM), wp rO rK P tU (fun d y g Q => V y g.1 → Zs Γ d y g Q) [] [] 1 d y g Q → V y g.1 → Zs Γ d y g Q := by
  intro d y g Q hw hv
  obtain ⟨pc, L, S, m⟩ := g
  obtain ⟨hss, hsu, hcr⟩ := hrow y pc hv
  intro p l e R s mid args below meth c ad0 n0 s0 hcx hrm hn
  have hsm := hss p l e R s mid args below meth c ad0 n0 s0 d hcx hrm hn L S m
  have hout := stp_out (P y pc) L S m
  have hcall := stp_call (P y pc) L S m
  have hnx : ∀ (pc' : Nat) (L' : mL) (S' : List mV) (m' : mM), pc' ∈ succs (P y pc) → (V y pc' → Zs Γ d y (pc', L', S', m') Q) → WA Γ p l e R s mid args below meth c ad0 n0 s0 (EQ Γ s below ad0 n0 s0 Q) (pc', L', S', m') :=
    fun pc' L' S' m' hq h => h (hsu _ hq) p l e R s mid args below meth c ad0 n0 s0 hcx hrm hn
  unfold wp at hw
  dsimp only at hw
  generalize stp rO (P y pc) L S m = r at hw hout hsm hcall
  rcases r with _ | ⟨pc', L', S', m'⟩ | ⟨C, pc', L', S', m'⟩ | ⟨op, x, z, t, pc', L', S', m'⟩ | ⟨x, tb, pc', L', S', m'⟩ | ⟨au, as, pc', L', S', m'⟩ | ⟨o, m'⟩ | ⟨C, o, m'⟩
  · exact hw.elim
  · exact hsm _ (hnx _ _ _ _ hout hw)
  · exact hsm hw.1 _ (hnx _ _ _ _ hout hw.2)
  · exact hsm _ (m_br_mono hw (fun h => hnx _ _ _ _ hout.1 h) (fun h => hnx _ _ _ _ hout.2 h))
  · exact hsm _ (m_sw_in (fun h => hnx _ _ _ _ hout.1 h) tb (fun t ht h => hnx _ _ _ _ (hout.2 t ht) h) hw)
  · obtain ⟨k, np, tg, cz, r, hit, hmt, hwd, hr4, hg'⟩ := hcall
    have hcr := hcr k np tg au cz hit
    obtain ⟨g1, g2, g3, g4⟩ : np = pc' ∧ L = L' ∧ r = S' ∧ m = m' := by
      have q1 := congrArg Prod.fst hg'
      have q2 := congrArg (fun g : mG mM => g.2.1) hg'
      have q3 := congrArg (fun g : mG mM => g.2.2.1) hg'
      have q4 := congrArg (fun g : mG mM => g.2.2.2) hg'
      exact ⟨q1.symm, q2.symm, q3.symm, q4.symm⟩
    subst g1 g2 g3 g4
    obtain ⟨bs, hb1, hb2, hb3⟩ := m_take_spec _ S [] as r hmt
    rw [List.append_nil] at hb2
    have hS : S = as.reverse ++ r := by rw [hb2, List.reverse_reverse]; exact hb3
    have hla : as.length = Nat.mod (au.headD 0) 16 := by rw [hb2, List.length_reverse]; exact hb1
    rcases d with _ | d'
    · exact hw.elim
    rcases au with _ | ⟨hd, _ | ⟨rs, _ | ⟨h, _ | ⟨hk, au'⟩⟩⟩⟩
    · exact hw.elim
    · exact hw.elim
    · exact hw.elim
    · exact hw.elim
    obtain ⟨hho, hhv, hco⟩ := hcr
    have go : ∀ (c' : Nat) (G : mM → List mV → Prop), CO Γ y pc np (Nat.mod hd 16) c' G → Nat.div hd 16 + tU c' = gmx Γ c' → V c' 0 → G m as →
        m_entK (tU c') as (fun L0 => V c' 0 → Zs Γ d' c' (0, L0, [], m) (m_K (m_th rK (fun g' : mG mM => match g' with | (pc', L', S', m') => V y pc' → Zs Γ (d' + 1) y (pc', L', S', m') Q) L Q h hk) (fun g' : mG mM => match g' with | (pc', L', S', m') => V y pc' → Zs Γ (d' + 1) y (pc', L', S', m') Q) np L r rs)) →
        WA Γ p l e R s mid args below meth c ad0 n0 s0 (EQ Γ s below ad0 n0 s0 Q) (pc, L, S, m) := by
      intro c' G hCO hgm hV0 hG hE
      rw [m_entK_eq] at hE
      have hZ := hE hV0
      rw [hS]
      refine call_rule hGC hCO hla hG hZ (by rw [entL_len, hwd]; exact hgm) hr4 hcx hrm hn (fun v m' hK => ?_) (fun a m' hK => ?_)
      · have hin : np ∈ succs (P y pc) := hout
        match rs, v with
        | 0, none => exact hnx _ _ _ _ hin hK
        | 0, some v => exact False.elim hK
        | 1, none => exact False.elim hK
        | 1, some (.inl z) => exact hnx _ _ _ _ hin hK
        | 1, some (.inr v) => exact False.elim hK
        | 2, none => exact False.elim hK
        | 2, some (.inl z) => exact False.elim hK
        | 2, some (.inr (.inl z)) => exact hnx _ _ _ _ hin hK
        | 2, some (.inr (.inr z)) => exact False.elim hK
        | rs + 3, none => exact False.elim hK
        | rs + 3, some (.inl z) => exact False.elim hK
        | rs + 3, some (.inr (.inl z)) => exact False.elim hK
        | rs + 3, some (.inr (.inr z)) => exact hnx _ _ _ _ hin hK
      · have hK : m_th rK (fun g' : mG mM => match g' with | (pc', L', S', m') => V y pc' → Zs Γ (d' + 1) y (pc', L', S', m') Q) L Q h hk a m' := by
          match rs with
          | 0 => exact hK
          | 1 => exact hK
          | 2 => exact hK
          | rs + 3 => exact hK
        cases h with
        | zero => exact th_out hho hcx hK
        | succ h =>
          obtain ⟨sp, ep, ct, C, nm, rest, t1, t2, t3, t4, t5, t6⟩ := hho
          exact th_catch t1 t2 t3 t4 t5 t6 hn hcx hK.1 (hK.2 (hhv (Nat.succ_ne_zero h)) p l e R s mid args below meth c ad0 n0 s0 hcx hrm hn)
    rcases au' with _ | ⟨_ | _ | _ | q, au'⟩
    · exact hw.elim
    · rcases au' with _ | ⟨c', ex⟩
      · exact hw.elim
      · exact go c' _ hco.1 hco.2.1 hco.2.2 True.intro hw
    · have hdis : ∀ tb : List Nat, disOk Γ V y pc np (Nat.mod hd 16) (Nat.div hd 16) tb → m_dis (rK m (m_recv as)) (fun c' => m_entK (tU c') as (fun L0 => V c' 0 → Zs Γ d' c' (0, L0, [], m) (m_K (m_th rK (fun g' : mG mM => match g' with | (pc', L', S', m') => V y pc' → Zs Γ (d' + 1) y (pc', L', S', m') Q) L Q h hk) (fun g' : mG mM => match g' with | (pc', L', S', m') => V y pc' → Zs Γ (d' + 1) y (pc', L', S', m') Q) np L r rs))) tb → WA Γ p l e R s mid args below meth c ad0 n0 s0 (EQ Γ s below ad0 n0 s0 Q) (pc, L, S, m) := by
        intro tb
        induction tb using disOk.induct with
        | case1 lo hi c' rest ih =>
          intro h1 h2
          unfold m_dis at h2
          split at h2
          · rename_i hc
            exact go c' _ h1.1.1 h1.1.2.1 h1.1.2.2 hc h2
          · exact ih h1.2 h2
        | case2 tb hne =>
          intro h1 h2
          rcases tb with _ | ⟨a, _ | ⟨b, _ | ⟨c', tb⟩⟩⟩
          · exact h2.elim
          · exact h2.elim
          · exact h2.elim
          · exact absurd rfl (hne a b c' tb)
      exact hdis au' hco hw
    · rcases au' with _ | ⟨lo, _ | ⟨hi, _ | ⟨od, _ | ⟨c', ex⟩⟩⟩⟩
      · exact hw.elim
      · exact hw.elim
      · exact hw.elim
      · exact hw.elim
      · exact go c' _ hco.1 hco.2.1 hco.2.2 hw.1 hw.2
    · exact hw.elim
  · exact hsm Q hw
  · exact hsm hw.1 Q hw.2
