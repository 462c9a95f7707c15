/-! ALL ROWS of the table are right -/
set_option maxRecDepth 100000
set_option maxHeartbeats 3200000
def isIni (y : Nat) : Bool := decide ((gme0 y).1.name = "<init>")
def noEx (y : Nat) : Bool := match (gme0 y).2.2.2.2 with
  | [] => true
  | _ => false
def hB (y pc h hk : Nat) : Bool := match h with
  | 0 => (gme0 y).2.2.2.2.all (fun q => !(Nat.ble q.1 pc && Nat.ble (pc + 1) q.2.1))
  | h + 1 => match (gme0 y).2.2.2.2 with
    | (sp, ep, h', ct) :: _ => Nat.beq h' (h + 1) && (Nat.ble sp pc && (Nat.ble (pc + 1) ep && (!(Nat.beq ct 0) && (hasF (fcN (cNo y)) [30, ct, hk] && m_has (vP y) (h + 1)))))
    | [] => false
def ceB (hd c : Nat) : Bool := Nat.beq (Nat.div hd 16 + tU c) (gme0 c).2.2.1 && m_has (vP c) 0
def disC (hd : Nat) : List Nat → Bool
  | _ :: _ :: c :: r => ceB hd c && disC hd r
  | _ => true
def auB (hd : Nat) (au : List Nat) : Bool := match au with
  | 0 :: c :: _ => ceB hd c
  | 1 :: r => disC hd r
  | 2 :: _ :: _ :: _ :: c :: _ => ceB hd c
  | _ => false
def crB (y pc : Nat) (it : mIt) : Bool := match it with
  | (.invokestatic _, np, _, hd :: _ :: h :: hk :: au, _) => ckCall (gme0 y).2.1 (fcN (cNo y)) pc np hd au && (hB y pc h hk && auB hd au)
  | (.invokestatic _, _, _, _, _) => false
  | _ => true
def ssB (y pc : Nat) (it : mIt) : Bool := match it with
  | (.nop, _, _, _, _) => true
  | (.invokestatic _, _, _, _, _) => true
  | _ => match decode (gme0 y).2.1 pc with
    | .ok (ins, len) => ckI (gme0 y).2.1 (fcN (cNo y)) (gme0 y).2.2.2.1 (isIni y) (noEx y) pc it ins len
    | .error _ => false
def rowI (y pc : Nat) (it : mIt) : Bool := ssB y pc it && ((succs it).all (m_has (vP y)) && crB y pc it)
def isIS (ins : Instr) : Bool := match ins with
  | .invokestatic _ => true
  | _ => false
/-- Math.max and Math.min as items of their own -/
def cvI (it : mIt) : mIt := match it with
  | (ins, np, tg, au, cz) => match au with
    | _ :: _ :: _ :: _ :: 0 :: c :: _ => bif isIS ins then (bif Nat.beq c 232 then (.swap, np, 0, [0], 0) else bif Nat.beq c 233 then (.swap, np, 0, [1], 0) else bif Nat.beq c 235 then (.swap, np, 0, [2], 0) else bif Nat.beq c 234 then (.swap, np, 0, [3], 0) else (ins, np, tg, au, cz)) else (ins, np, tg, au, cz)
    | _ => (ins, np, tg, au, cz)
def tQ (y pc : Nat) : mIt := cvI (tP y pc)
def rowB (y pc : Nat) : Bool := rowI y pc (tQ y pc)
abbrev VV (y pc : Nat) : Prop := m_has (vP y) pc = true
def mB (y : Nat) : Bool := decide ((gme0 y).1.cls = clsN (cNo y)) && Nat.ble (cNo y + 1) nOwn
section
variable {X : gX}
theorem ssB_ok {y pc : Nat} {it : mIt} (hG : gG (g0 X)) (hF : ∀ q ∈ fcN (cNo y), fm (g0 X) (gnm (g0 X) y).cls q) (h : ssB y pc it = true) : SS (g0 X) y pc it := by
  unfold ssB at h
  split at h
  · exact ss_nop
  · exact ss_call
  · split at h
    · rename_i ins len hd
      exact ckI_ok (Γ := g0 X) hG hd hF (fun q => of_decide_eq_true q) (fun q => by
        unfold noEx at q
        split at q
        · assumption
        · cases q) h
    · cases h
theorem hB_ok {y pc h hk : Nat} (hF : ∀ q ∈ fcN (cNo y), fm (g0 X) (gnm (g0 X) y).cls q) (hb : hB y pc h hk = true) : hOk (g0 X) y pc h hk ∧ (h ≠ 0 → VV y h) := by
  unfold hB at hb
  split at hb
  · refine ⟨fun q hq hc => ?_, fun h => absurd rfl h⟩
    have h1 := List.all_eq_true.mp hb q hq
    rw [Nat.ble_eq_true_of_le hc.1, Nat.ble_eq_true_of_le (show pc + 1 ≤ q.2.1 from hc.2)] at h1
    cases h1
  · split at hb
    · rename_i sp ep h' ct rest hex
      obtain ⟨h1, hb⟩ := two hb
      obtain ⟨h2, hb⟩ := two hb
      obtain ⟨h3, hb⟩ := two hb
      obtain ⟨h4, hb⟩ := two hb
      obtain ⟨h5, h6⟩ := two hb
      obtain ⟨C, nm, q1, q2, q3⟩ := hF _ (hasF_mem h5)
      refine ⟨⟨sp, ep, ct, C, nm, rest, ?_, ⟨Nat.le_of_ble_eq_true h2, Nat.le_of_ble_eq_true h3⟩, ?_, q1, q2, q3⟩, fun _ => h6⟩
      · rw [← Nat.eq_of_beq_eq_true h1]
        exact hex
      · intro e
        rw [e] at h4
        cases h4
    · cases hb
theorem ceB_ok {hd c : Nat} (h : ceB hd c = true) : Nat.div hd 16 + tU c = gmx (g0 X) c ∧ VV c 0 := by
  obtain ⟨h1, h2⟩ := two h
  exact ⟨Nat.eq_of_beq_eq_true h1, h2⟩
theorem disB_ok {y pc idx n hd : Nat} (hF : ∀ q ∈ fcN (cNo y), fm (g0 X) (gnm (g0 X) y).cls q) (hd0 : decode (gby (g0 X) y) pc = .ok (.invokevirtual idx, 3)) : ∀ (r : List Nat), disB (fcN (cNo y)) idx n r = true → disC hd r = true → disOk (g0 X) VV y pc (pc + 3) n (Nat.div hd 16) r
  | lo :: hi :: c :: r, h1, h2 => by
    obtain ⟨a1, a2⟩ := two h1
    obtain ⟨b1, b2⟩ := two h2
    exact ⟨⟨hF _ (hasF_mem a1) y pc rfl hd0, ceB_ok b1⟩, disB_ok hF hd0 r a2 b2⟩
  | [], _, _ => True.intro
  | [_], _, _ => True.intro
  | [_, _], _, _ => True.intro
theorem crB_ok {y pc k np tg : Nat} {au : List Nat} {cz : Int} (hF : ∀ q ∈ fcN (cNo y), fm (g0 X) (gnm (g0 X) y).cls q) (h : crB y pc (.invokestatic k, np, tg, au, cz) = true) : CR (g0 X) VV y pc np au := by
  unfold crB at h
  split at h
  · rename_i k' np' tg' hd rs hh hk au' cz' heq
    cases heq
    obtain ⟨h1, h⟩ := two h
    obtain ⟨h2, h3⟩ := two h
    obtain ⟨o1, o2⟩ := hB_ok hF h2
    refine ⟨o1, o2, ?_⟩
    unfold ckCall at h1
    unfold auB at h3
    split at h1
    · rename_i idx hd0
      obtain ⟨e1, g1⟩ := two h1
      clear h1
      have e1 := nxE e1
      subst e1
      split at g1
      · exact ⟨hF _ (hasF_mem g1) y pc rfl hd0, ceB_ok h3⟩
      · cases g1
    · rename_i idx hd0
      obtain ⟨e1, g1⟩ := two h1
      clear h1
      have e1 := nxE e1
      subst e1
      split at g1
      · exact ⟨hF _ (hasF_mem g1) y pc rfl hd0, ceB_ok h3⟩
      · exact disB_ok hF hd0 _ g1 h3
      · cases g1
    · rename_i idx hd0
      obtain ⟨e1, g1⟩ := two h1
      clear h1
      have e1 := nxE e1
      subst e1
      split at g1
      · exact ⟨hF _ (hasF_mem g1) y pc rfl hd0, ceB_ok h3⟩
      · cases g1
    · cases h1
  · cases h
  · rename_i hne
    exact absurd rfl (hne k np tg au cz)
end
