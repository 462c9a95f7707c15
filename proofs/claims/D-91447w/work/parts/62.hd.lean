/-! THE PASSAGE for the Desk: heap instructions -/
set_option maxHeartbeats 3200000
set_option maxRecDepth 100000
theorem CRd_obj {md : mD} {m : mM} {z : Int} {k : Nat} (h : CRd md m z k) (h1 : 1 ≤ k ∧ k ≤ 23) : m.2.1 z = k ∧ ∀ j : Nat, trk k j = true → m.1 z j = md.1 (rgn k j) z 0 := by
  have hl := ar_lo (k := k) (by omega)
  rcases h with a | a | a | a | a | a | a | a
  · exact a.2.2
  · rw [hl] at a; exact absurd rfl a.1
  · have := ls_lo a.1; omega
  all_goals (have := a.1; omega)
theorem CRd_arr {md : mD} {m : mM} {z : Int} {k : Nat} (h : CRd md m z k) (h1 : (arD k).1 ≠ 0) : m.2.1 z = (arD k).1 ∧ m.2.2.1 z = (arD k).2 ∧ ∀ i, m.1 z i = md.1 k z i := by
  have hl : ¬ k < 10000 := fun h => by rw [ar_lo h] at h1; exact h1 rfl
  rcases h with a | a | a | a | a | a | a | a
  · omega
  · exact a.2
  · rw [(ls_lo a.1).2.2] at h1; exact absurd rfl h1
  · omega
  · rw [a.1] at h1; exact absurd rfl h1
  all_goals omega
theorem CRd_ls {md : mD} {m : mM} {z : Int} {k : Nat} (h : CRd md m z k) (h1 : isLs k = true) : m.2.1 z = 24 ∧ m.1 z 2 = md.1 (k + 10000) z 0 ∧ m.2.1 (m.1 z 1) = 107 ∧ (0 ≤ m.1 z 2 ∧ m.1 z 2 ≤ m.2.2.1 (m.1 z 1) ∧ 1 ≤ m.2.2.1 (m.1 z 1) ∧ m.2.2.1 (m.1 z 1) ≤ 20000) ∧ (0 ≤ m.1 z 0 ∧ m.1 z 0 + md.2.2.2 ≤ 5000000) ∧ ∀ i, 0 ≤ i → i < m.1 z 2 → m.1 (m.1 z 1) i = md.1 k z i := by
  have hl := ls_lo h1
  rcases h with a | a | a | a | a | a | a | a
  · omega
  · rw [hl.2.2] at a; exact absurd rfl a.1
  · exact a.2
  all_goals (have := a.1; omega)
theorem CRd_str {md : mD} {m : mM} {z : Int} (h : CRd md m z 27) : m.2.1 z = 27 ∧ m.1 z 1 = 0 ∧ m.2.1 (m.1 z 0) = 103 ∧ m.2.2.1 (m.1 z 0) = md.1 22700 z 0 ∧ (0 ≤ md.1 22700 z 0 ∧ md.1 22700 z 0 ≤ 65536) ∧ ∀ i, 0 ≤ i → i < md.1 22700 z 0 → (0 ≤ md.1 12700 z i ∧ md.1 12700 z i ≤ 255) ∧ m.1 (m.1 z 0) i = zi2b (md.1 12700 z i) := by
  rcases h with a | a | a | a | a | a | a | a
  · omega
  · exact absurd rfl a.1
  · cases a.1
  · exact a.2
  all_goals (have := a.1; omega)
theorem CRd_sb {md : mD} {m : mM} {z : Int} (h : CRd md m z 12500) : m.2.1 z = 25 ∧ m.1 z 1 = 0 ∧ m.2.1 (m.1 z 0) = 103 ∧ m.2.2.1 (m.1 z 0) = 8 ∧ m.1 z 3 = md.1 22500 z 0 ∧ (0 ≤ m.1 z 3 ∧ m.1 z 3 ≤ 8) ∧ ∀ i, 0 ≤ i → i < m.1 z 3 → (0 ≤ md.1 12500 z i ∧ md.1 12500 z i ≤ 255) ∧ m.1 (m.1 z 0) i = zi2b (md.1 12500 z i) := by
  rcases h with a | a | a | a | a | a | a | a
  · omega
  · exact absurd rfl a.1
  · cases a.1
  · have := a.1; omega
  · exact a.2
  all_goals (have := a.1; omega)
theorem CRd_int {md : mD} {m : mM} {z : Int} (h : CRd md m z 26) : (m.2.1 z = 26 ∨ m.2.1 z = 30) ∧ m.1 z 0 = md.1 2600 z 0 := by
  rcases h with a | a | a | a | a | a | a | a
  · omega
  · exact absurd rfl a.1
  · cases a.1
  · have := a.1; omega
  · have := a.1; omega
  · exact a.2
  all_goals (have := a.1; omega)
theorem CRd_99 {md : mD} {m : mM} {z : Int} (h : CRd md m z 99) : m.2.1 z = 24 ∧ ∀ j, m.1 z j = 0 := by
  rcases h with a | a | a | a | a | a | a | a
  · omega
  · exact absurd rfl a.1
  · cases a.1
  · have := a.1; omega
  · have := a.1; omega
  · have := a.1; omega
  · exact a.2
  · have := a.1; omega
theorem CRd_98 {md : mD} {m : mM} {z : Int} (h : CRd md m z 98) : m.2.1 z = 25 ∧ ∀ j, m.1 z j = 0 := by
  rcases h with a | a | a | a | a | a | a | a
  · omega
  · exact absurd rfl a.1
  · cases a.1
  · have := a.1; omega
  · have := a.1; omega
  · have := a.1; omega
  · have := a.1; omega
  · exact a.2
theorem hdn_obj {m : mM} {z : Int} {k : Nat} (h : k < 10000) (h2 : k ≠ 27) : hdn m z k = 0 := by
  unfold hdn
  have e1 : isLs k = false := by
    cases e : isLs k with
    | false => rfl
    | true => have := ls_lo e; omega
  have e2 : Nat.beq k 27 = false := by
    cases e : Nat.beq k 27 with
    | false => rfl
    | true => exact absurd (Nat.eq_of_beq_eq_true e) h2
  have e3 : Nat.beq k 12500 = false := by
    cases e : Nat.beq k 12500 with
    | false => rfl
    | true => have := Nat.eq_of_beq_eq_true e; omega
  rw [e1, e2, e3]
  rfl
theorem hdn_arr {m : mM} {z : Int} {k : Nat} (h : (arD k).1 ≠ 0) : hdn m z k = 0 := by
  unfold hdn
  have e1 : isLs k = false := by
    cases e : isLs k with
    | false => rfl
    | true => rw [(ls_lo e).2.2] at h; exact absurd rfl h
  have e2 : Nat.beq k 27 = false := by
    cases e : Nat.beq k 27 with
    | false => rfl
    | true => rw [Nat.eq_of_beq_eq_true e] at h; exact absurd rfl h
  have e3 : Nat.beq k 12500 = false := by
    cases e : Nat.beq k 12500 with
    | false => rfl
    | true => rw [Nat.eq_of_beq_eq_true e] at h; exact absurd rfl h
  rw [e1, e2, e3]
  rfl
theorem rgn_inj {k j j' : Nat} (h1 : j ≤ 99) (h2 : j' ≤ 99) (h : rgn k j = rgn k j') : j = j' := by
  unfold rgn at h
  cases e1 : (Nat.ble 19 k && (Nat.ble k 22 && Nat.ble j 9)) with
  | true =>
    rw [e1] at h
    obtain ⟨a1, a2⟩ := two e1
    obtain ⟨a2, a3⟩ := two a2
    have := Nat.le_of_ble_eq_true a1
    have := Nat.le_of_ble_eq_true a2
    have := Nat.le_of_ble_eq_true a3
    cases e2 : (Nat.ble 19 k && (Nat.ble k 22 && Nat.ble j' 9)) with
    | true => rw [e2] at h; simp only [cond_true] at h; omega
    | false =>
      rw [e2] at h
      simp only [cond_true, cond_false] at h
      rw [a1, a2] at e2
      have e2 : Nat.ble j' 9 = false := e2
      have : ¬ j' ≤ 9 := fun hh => by rw [Nat.ble_eq_true_of_le hh] at e2; cases e2
      omega
  | false =>
    rw [e1] at h
    cases e2 : (Nat.ble 19 k && (Nat.ble k 22 && Nat.ble j' 9)) with
    | true =>
      rw [e2] at h
      simp only [cond_true, cond_false] at h
      obtain ⟨a1, a2⟩ := two e2
      obtain ⟨a2, a3⟩ := two a2
      have := Nat.le_of_ble_eq_true a1
      have := Nat.le_of_ble_eq_true a2
      have := Nat.le_of_ble_eq_true a3
      rw [a1, a2] at e1
      have e1 : Nat.ble j 9 = false := e1
      have : ¬ j ≤ 9 := fun hh => by rw [Nat.ble_eq_true_of_le hh] at e1; cases e1
      omega
    | false => rw [e2] at h; simp only [cond_false] at h; omega
def fkD (lo hi j g : Nat) : Bool := Nat.ble 1 lo && (Nat.ble hi 23 && (List.range 24).all (fun k => !(Nat.ble lo k && Nat.ble k hi) || (Nat.beq (rgn k j) g && trk k j)))
theorem fkD_in {lo hi j g : Nat} (h : fkD lo hi j g = true) : 1 ≤ lo ∧ hi ≤ 23 ∧ ∀ k, lo ≤ k → k ≤ hi → rgn k j = g ∧ trk k j = true := by
  obtain ⟨a1, a2⟩ := two h
  obtain ⟨a2, a3⟩ := two a2
  have b2 := Nat.le_of_ble_eq_true a2
  refine ⟨Nat.le_of_ble_eq_true a1, b2, fun k h1 h2 => ?_⟩
  have := List.all_eq_true.mp a3 k (List.mem_range.mpr (by omega))
  rw [Nat.ble_eq_true_of_le h1, Nat.ble_eq_true_of_le h2] at this
  have this : (Nat.beq (rgn k j) g && trk k j) = true := this
  exact ⟨Nat.eq_of_beq_eq_true (two this).1, (two this).2⟩
theorem trk_b {k j : Nat} (h : trk k j = true) : j ≤ 99 := Nat.le_of_ble_eq_true (two h).1
theorem dst_k {md : mD} {g : Nat} {a i v : Int} : (dst md g a i v).2 = md.2 := rfl
theorem dst_oz {md : mD} {g : Nat} {a i v z : Int} (h : z ≠ a) (r : Nat) : (dst md g a i v).1 r z = md.1 r z := by
  rw [dst_1, up3_ap]
  by_cases e : r = g
  · rw [if_pos e, e, if_neg h]
  · rw [if_neg e]
theorem dst_or {md : mD} {g : Nat} {a i v : Int} {r : Nat} (h : r ≠ g) : (dst md g a i v).1 r = md.1 r := by
  rw [dst_1, up3_ap, if_neg h]
theorem dst_s {md : mD} {g : Nat} {a i v : Int} : (dst md g a i v).1 g a = upd1 (md.1 g a) i v := up3_s
section
variable {mb : mM} {md : mD} {m : mM}
theorem ED.cell (hE : ED mb md m) {z : Int} {k : Nat} (h : md.2.1 z = k) (h0 : k ≠ 0) : z < m.2.2.2.1 ∧ CRd md m z k := by
  subst h
  exact ⟨(hE.2.2.1 z h0).1, (hE.2.2.1 z h0).2.2⟩
theorem ED.nD (hE : ED mb md m) {z : Int} (h0 : md.2.1 z ≠ 0) (h : md.2.1 z ≠ 26) : ¬ notD z := by
  rcases (hE.2.2.1 z h0).2.1 with q | q
  · exact absurd (hE.2.2.2.2.2.1 z q.1 q.2).1 h
  · exact q
theorem E_get (hE : ED mb md m) {a : Int} {lo hi j g : Nat} (hf : fkD lo hi j g = true) (hk : lo ≤ md.2.1 a ∧ md.2.1 a ≤ hi) : (lo ≤ m.2.1 a ∧ m.2.1 a ≤ hi) ∧ m.1 a j = md.1 g a 0 := by
  obtain ⟨f1, f2, f3⟩ := fkD_in hf
  obtain ⟨e1, e2⟩ := CRd_obj (hE.cell (z := a) rfl (by omega)).2 (by omega)
  obtain ⟨g1, g2⟩ := f3 _ hk.1 hk.2
  refine ⟨by rw [e1]; exact hk, ?_⟩
  rw [e2 j g2, g1]
theorem E_put (hE : ED mb md m) (hk0 : mb.2.1 0 = 0) {a : Int} {lo hi j g : Nat} (hf : fkD lo hi j g = true) (hk : lo ≤ md.2.1 a ∧ md.2.1 a ≤ hi) (hc : a = 1000 → g < 100 ∨ 122 < g ∨ czD g = 0) (v : Int) : (lo ≤ m.2.1 a ∧ m.2.1 a ≤ hi) ∧ ED mb (dst md g a 0 v) (mst m a j v) := by
  obtain ⟨f1, f2, f3⟩ := fkD_in hf
  have hc0 := hE.cell (z := a) rfl (by omega)
  obtain ⟨e1, e2⟩ := CRd_obj hc0.2 (by omega)
  obtain ⟨g1, g2⟩ := f3 _ hk.1 hk.2
  refine ⟨by rw [e1]; exact hk, ?_⟩
  refine E_upd hE hk0 a 0 ⟨Or.inl (by omega), hE.nD (by omega) (by omega), hc0.1⟩ (Or.inl rfl) (fun z hz => ⟨rfl, dst_oz hz⟩) (fun w hw _ _ => ⟨mst_o hw, rfl, rfl⟩) ⟨?_, ?_, Or.inl (hdn_obj (by rw [dst_k]; omega) (by rw [dst_k]; omega))⟩ ⟨Int.le_refl _, hE.1.2.1, Int.le_refl _, Int.le_refl _, Int.le_refl _, Int.le_refl _⟩ (fun z _ _ => rfl) (fun e q q0 q1 q2 => ?_)
  · rw [dst_k]; omega
  · refine Or.inl ⟨by rw [dst_k]; omega, by rw [dst_k]; omega, e1, fun j' hj' => ?_⟩
    rw [dst_k] at hj' ⊢
    by_cases ej : j' = j
    · rw [ej, mst_s, g1, dst_s, upd1_s]
    · rw [mst_i (by omega), dst_or (fun e => ej (rgn_inj (trk_b hj') (trk_b g2) (by rw [e, g1])))]
      exact e2 j' hj'
  · have hg : q ≠ g := by
      intro e'
      subst e'
      rcases hc e with h | h | h
      · omega
      · omega
      · exact q2 h
    rw [dst_or hg]
theorem E_ald (hE : ED mb md m) {a : Int} {g : Nat} (hg : (arD g).1 ≠ 0) (hk : md.2.1 a = g) : m.2.1 a = (arD g).1 ∧ m.2.2.1 a = (arD g).2 ∧ ∀ i, m.1 a i = md.1 g a i := by
  have hg0 : g ≠ 0 := fun e => by rw [e] at hg; exact absurd rfl hg
  exact CRd_arr (hE.cell hk hg0).2 hg
theorem E_ast (hE : ED mb md m) (hk0 : mb.2.1 0 = 0) {a : Int} {g : Nat} (hg : (arD g).1 ≠ 0) (hk : md.2.1 a = g) (i v : Int) : ED mb (dst md g a i v) (mst m a i v) := by
  have hg0 : g ≠ 0 := fun e => by rw [e] at hg; exact absurd rfl hg
  have hg6 : g ≠ 26 := fun e => by rw [e] at hg; exact absurd rfl hg
  have hg1 : ¬ g < 10000 := fun e => by rw [ar_lo e] at hg; exact absurd rfl hg
  have hc0 := hE.cell hk hg0
  obtain ⟨e1, e2, e3⟩ := CRd_arr hc0.2 hg
  refine E_upd hE hk0 a 0 ⟨Or.inl (by omega), hE.nD (by omega) (by omega), hc0.1⟩ (Or.inl rfl) (fun z hz => ⟨rfl, dst_oz hz⟩) (fun w hw _ _ => ⟨mst_o hw, rfl, rfl⟩) ⟨?_, ?_, Or.inl (hdn_arr (by rw [dst_k, hk]; exact hg))⟩ ⟨Int.le_refl _, hE.1.2.1, Int.le_refl _, Int.le_refl _, Int.le_refl _, Int.le_refl _⟩ (fun z _ _ => rfl) (fun e q q0 q1 q2 => ?_)
  · rw [dst_k]; omega
  · rw [dst_k, hk]
    refine Or.inr (Or.inl ⟨hg, e1, e2, fun i' => ?_⟩)
    by_cases ei : i' = i
    · rw [ei, mst_s, dst_s, upd1_s]
    · rw [mst_i ei, dst_s, upd1_n ei]
      exact e3 i'
  · have : q ≠ g := by omega
    rw [dst_or this]
theorem mnew_o {k : Nat} {len n b : Int} (h : b ≠ m.2.2.2.1) : (mnew m k len n).1 b = m.1 b ∧ (mnew m k len n).2.1 b = m.2.1 b ∧ (mnew m k len n).2.2.1 b = m.2.2.1 b := by
  refine ⟨?_, ?_, ?_⟩
  · funext j
    show (if b = m.2.2.2.1 then 0 else m.1 b j) = _
    rw [if_neg h]
  · show (if b = m.2.2.2.1 then k else m.2.1 b) = _
    rw [if_neg h]
  · show (if b = m.2.2.2.1 then len else m.2.2.1 b) = _
    rw [if_neg h]
theorem mnew_s {k : Nat} {len n : Int} : (∀ j, (mnew m k len n).1 m.2.2.2.1 j = 0) ∧ (mnew m k len n).2.1 m.2.2.2.1 = k ∧ (mnew m k len n).2.2.1 m.2.2.2.1 = len := by
  refine ⟨fun j => ?_, ?_, ?_⟩
  · show (if m.2.2.2.1 = m.2.2.2.1 then (0 : Int) else m.1 m.2.2.2.1 j) = _
    rw [if_pos rfl]
  · show (if m.2.2.2.1 = m.2.2.2.1 then k else m.2.1 m.2.2.2.1) = _
    rw [if_pos rfl]
  · show (if m.2.2.2.1 = m.2.2.2.1 then len else m.2.2.1 m.2.2.2.1) = _
    rw [if_pos rfl]
theorem dal_o {a : Int} {k : Nat} {c z : Int} (h : z ≠ a) : (dal md a k c).2.1 z = md.2.1 z ∧ ∀ r, (dal md a k c).1 r z = md.1 r z := by
  refine ⟨?_, fun r => ?_⟩
  · show (if z = a then k else md.2.1 z) = _
    rw [if_neg h]
  · show (if z = a then (fun _ => (0 : Int)) else md.1 r z) = _
    rw [if_neg h]
theorem dal_s {a : Int} {k : Nat} {c : Int} : (dal md a k c).2.1 a = k ∧ ∀ r i, (dal md a k c).1 r a i = 0 := by
  refine ⟨?_, fun r i => ?_⟩
  · show (if a = a then k else md.2.1 a) = _
    rw [if_pos rfl]
  · show (if a = a then (fun _ => (0 : Int)) else md.1 r a) i = _
    rw [if_pos rfl]
/-- a new cell -/
theorem E_new (hE : ED mb md m) (hk0 : mb.2.1 0 = 0) {k kr : Nat} {len n : Int} (hn : n + 4 ≤ md.2.2.2) (hn0 : 0 ≤ n) (hk : k ≠ 0) (hh : hdn (mnew m kr len n) m.2.2.2.1 k = 0) (hcr : ∀ (md' : mD) (m' : mM), (∀ j, m'.1 m.2.2.2.1 j = 0) → m'.2.1 m.2.2.2.1 = kr → m'.2.2.1 m.2.2.2.1 = len → (∀ r i, md'.1 r m.2.2.2.1 i = 0) → CRd md' m' m.2.2.2.1 k) :
    ED mb (dal md m.2.2.2.1 k (n + 4)) (mnew m kr len n) ∧ m.2.2.2.1 + 1 ≤ CXm ∧ m.2.2.2.2 + n ≤ SXm := by
  obtain ⟨b1, b2, b3, b4⟩ := hE.1
  refine ⟨?_, by omega, by omega⟩
  have e1 : (dal md m.2.2.2.1 k (n + 4)).2.2.1 = m.2.2.2.1 + 1 := rfl
  have e2 : (dal md m.2.2.2.1 k (n + 4)).2.2.2 = md.2.2.2 - (n + 4) := rfl
  have e3 : (mnew m kr len n).2.2.2.1 = m.2.2.2.1 + 1 := rfl
  have e4 : (mnew m kr len n).2.2.2.2 = m.2.2.2.2 + n := rfl
  obtain ⟨n1, n2, n3⟩ := mnew_s (m := m) (k := kr) (len := len) (n := n)
  obtain ⟨d1, d2⟩ := dal_s (md := md) (a := m.2.2.2.1) (k := k) (c := n + 4)
  refine E_upd hE hk0 m.2.2.2.1 0 ⟨Or.inr (Int.le_refl _), by unfold notD; omega, by omega⟩ (Or.inl rfl) (fun z hz => dal_o hz) (fun w hw _ _ => mnew_o hw) ⟨by rw [d1]; exact hk, by rw [d1]; exact hcr _ _ n1 n2 n3 d2, Or.inl (by rw [d1]; exact hh)⟩ ⟨by omega, by omega, by omega, by omega, by omega, by omega⟩ (fun z hz e => ?_) (fun e => by omega)
  have hz2 : z ∈ [1000, 1001, 1002, 1003, 1004, 1005, 1006, 1008, 1012, 1014, 1016, 1017, 1018, 1019, 1020, 1021, 1022, 1024, 1025] := m_has_mem hz
  have : ∀ z ∈ [1000, 1001, 1002, 1003, 1004, 1005, 1006, 1008, 1012, 1014, 1016, 1017, 1018, 1019, 1020, 1021, 1022, 1024, 1025], z < 1076 := by decide
  have := this z hz2
  omega
end
/-- the check of an array's item: region, length, name -/
def arC (g n nm rk : Nat) : Bool := Nat.beq (arD g).1 rk && (!(Nat.beq rk 0) && (decide ((arD g).2 = (n : Int)) && (Nat.beq nm 0 || (fxN nm && Nat.beq (nkD nm) g))))
def itD (it : mIt) : Bool := match it with
  | (.getfield _, _, _, [j, t, lo, hi, g, f], cz) => fkD lo hi j g && ((Nat.beq f 0 || Nat.beq t 2) && (!(Nat.beq f 1 && Nat.beq lo 1) || (Nat.ble 100 g && (Nat.ble g 122 && (!(Nat.beq (czD g) 0) && decide (cz = (czD g : Int)))))))
  | (.getfield _, _, _, [j, _, lo, hi, g], _) => fkD lo hi j g
  | (.getfield _, _, _, _, _) => false
  | (.putfield _, _, _, [j, _, lo, hi, g], _) => fkD lo hi j g && (Nat.ble 2 lo || Nat.beq (czD g) 0)
  | (.putfield _, _, _, _, _) => false
  | (.iaload, _, _, [rk, g, n, nm], _) => arC g n nm rk
  | (.iaload, _, _, _, _) => false
  | (.laload, _, _, [g, n, nm], _) => arC g n nm 106
  | (.laload, _, _, _, _) => false
  | (.baload, _, _, [lo, hi, g, n, nm], _) => arC g n nm 103 && (Nat.ble lo 103 && Nat.ble 103 hi)
  | (.baload, _, _, _, _) => false
  | (.aaload, _, _, [rk, g, n, nm], _) => arC g n nm rk
  | (.aaload, _, _, _, _) => false
  | (.iastore, _, _, [g, n, nm], _) => arC g n nm 105
  | (.iastore, _, _, _, _) => false
  | (.lastore, _, _, [g, n, nm], _) => arC g n nm 106
  | (.lastore, _, _, _, _) => false
  | (.bastore, _, _, [b, g, n, nm], _) => Nat.beq b 103 && arC g n nm 103
  | (.bastore, _, _, _, _) => false
  | (.aastore, _, _, [rk, lo, hi, g, n, nm], _) => arC g n nm rk && (Nat.ble 1 lo && Nat.ble hi 23)
  | (.aastore, _, _, _, _) => false
  | (.new _, _, _, [k, n], _) => bif Nat.beq k 24 then Nat.beq n 3 else bif Nat.beq k 25 then Nat.beq n 4 else Nat.ble 1 k && Nat.ble k 23
  | (.new _, _, _, _, _) => false
  | (.anewarray _, _, _, [rk, g, n0], _) => arC g n0 0 rk && Nat.ble n0 65536
  | (.anewarray _, _, _, _, _) => false
  | (.checkcast _, _, _, [lo, hi, od], _) => (Nat.ble 1 lo && Nat.ble hi 23) || lbeq [lo, hi, od] [26, 26, 30]
  | (.checkcast _, _, _, _, _) => false
  | (.invokedynamic _, _, _, [1, slo, shi, dk, g, gn, h, hn], _) => arC g gn 0 slo && (arC h hn 0 dk && (Nat.beq slo shi && !(Nat.beq g h)))
  | (.invokedynamic _, _, _, [4], _) => true
  | (.invokedynamic _, _, _, _, _) => false
  | _ => true
section
variable {mb : mM} {md : mD} {m : mM}
theorem E_ar (hE : ED mb md m) {g n nm rk : Nat} {a : Int} (hc : arC g n nm rk = true) (ha : isAr md g nm a) : md.2.1 a = g ∧ (arD g).1 = rk ∧ (arD g).1 ≠ 0 ∧ (arD g).2 = (n : Int) := by
  obtain ⟨c1, c2⟩ := two hc
  obtain ⟨c2, c3⟩ := two c2
  obtain ⟨c3, c4⟩ := two c3
  have e1 := Nat.eq_of_beq_eq_true c1
  have e0 : rk ≠ 0 := fun e => by rw [e] at c2; cases c2
  refine ⟨?_, e1, by rw [e1]; exact e0, of_decide_eq_true c3⟩
  cases nm with
  | zero => exact ha
  | succ q =>
    have c4 : (fxN (q + 1) && Nat.beq (nkD (q + 1)) g) = true := c4
    obtain ⟨f1, f2⟩ := two c4
    have ha : a = ((q + 1 : Nat) : Int) := ha
    rw [ha, hE.2.2.2.2.1 (q + 1) f1]
    exact Nat.eq_of_beq_eq_true f2
theorem E_ck (hE : ED mb md m) {a : Int} {lo hi : Nat} (hlo : 1 ≤ lo) (hhi : hi ≤ 23) (h : lo ≤ md.2.1 a ∧ md.2.1 a ≤ hi) : m.2.1 a = md.2.1 a := (CRd_obj (hE.cell (z := a) rfl (by omega)).2 (by omega)).1
theorem E_kn (hE : ED mb md m) {a : Int} (h : md.2.1 a ≠ 0) : m.2.1 a ≠ 0 := by
  rcases (hE.cell rfl h).2 with ⟨q0, _, q, _⟩ | ⟨q0, q, _⟩ | ⟨_, q, _⟩ | ⟨_, q, _⟩ | ⟨_, q, _⟩ | ⟨_, q, _⟩ | ⟨_, q, _⟩ | ⟨_, q, _⟩
  · omega
  · rw [q]; exact q0
  all_goals omega
theorem E_putc (hE : ED mb md m) (hk0 : mb.2.1 0 = 0) {a : Int} {lo hi j g : Nat} (hf : (fkD lo hi j g && (Nat.ble 2 lo || Nat.beq (czD g) 0)) = true) (hk : lo ≤ md.2.1 a ∧ md.2.1 a ≤ hi) (v : Int) : (lo ≤ m.2.1 a ∧ m.2.1 a ≤ hi) ∧ ED mb (dst md g a 0 v) (mst m a j v) := by
  obtain ⟨f1, f2⟩ := two hf
  refine E_put hE hk0 f1 hk (fun e => ?_) v
  rw [Bool.or_eq_true] at f2
  rcases f2 with q | q
  · have := Nat.le_of_ble_eq_true q
    have k1 : md.2.1 1000 = 1 := hE.2.2.2.2.1 1000 rfl
    rw [e] at hk
    omega
  · exact Or.inr (Or.inr (Nat.eq_of_beq_eq_true q))
theorem E_new1 (hE : ED mb md m) (hk0 : mb.2.1 0 = 0) {k n : Nat} (hk : 1 ≤ k ∧ k ≤ 23) (hn : (n : Int) + 4 ≤ md.2.2.2) : ED mb (dal md m.2.2.2.1 k ((n : Int) + 4)) (mnew m k 0 n) ∧ m.2.2.2.1 + 1 ≤ CXm ∧ m.2.2.2.2 + n ≤ SXm := by
  refine E_new hE hk0 hn (by omega) (by omega) (hdn_obj (by omega) (by omega)) (fun md' m' q1 q2 q3 q4 => Or.inl ⟨hk.1, hk.2, q2, fun j _ => ?_⟩)
  rw [q1, q4]
theorem H1D (hk0 : mb.2.1 0 = 0) {it : mIt} (hi : itD it = true) {S : List mV} {K : List mV → mD → Prop} (hE : ED mb md m) (h : oD it S md K) : hpE (ED mb) K (rO it S m) := by
  obtain ⟨ins, np, tg, au, cz⟩ := it
  have k1 : md.2.1 1000 = 1 := hE.2.2.2.2.1 1000 rfl
  unfold oD at h
  dsimp only at h
  split at h
  · -- getfield
    split at h
    · rename_i a r j t g
      obtain ⟨i1, -⟩ := two hi
      cases hb : Nat.beq a.toNat 1000 with
      | false => rw [hb] at h; exact h.elim
      | true =>
        rw [hb] at h
        have ea : a = 1000 := by have := Nat.eq_of_beq_eq_true hb; omega
        subst ea
        obtain ⟨e1, e2⟩ := E_get hE i1 (a := 1000) (by omega)
        refine ⟨e1, md, hE, ?_⟩
        rw [e2]
        match t, h with
        | 0, h => exact h
        | 1, h => exact h
        | t + 2, h => exact h
    · rename_i a r j t g
      obtain ⟨i1, i2⟩ := two hi
      obtain ⟨i2, i3⟩ := two i2
      have i2 : Nat.beq t 2 = true := i2
      have i3 : (Nat.ble 100 g && (Nat.ble g 122 && (!(Nat.beq (czD g) 0) && decide (cz = (czD g : Int))))) = true := i3
      obtain ⟨i3, i4⟩ := two i3
      obtain ⟨i4, i5⟩ := two i4
      obtain ⟨i5, i6⟩ := two i5
      cases hb : Nat.beq a.toNat 1000 with
      | false => rw [hb] at h; exact h.elim
      | true =>
        rw [hb] at h
        have ea : a = 1000 := by have := Nat.eq_of_beq_eq_true hb; omega
        subst ea
        have et := Nat.eq_of_beq_eq_true i2
        subst et
        obtain ⟨e1, e2⟩ := E_get hE i1 (a := 1000) (by omega)
        refine ⟨e1, md, hE, ?_⟩
        have e3 := hE.2.2.2.2.2.2 g (Nat.le_of_ble_eq_true i3) (Nat.le_of_ble_eq_true i4) (fun e => by rw [e] at i5; cases i5)
        rw [e2, e3, ← of_decide_eq_true i6]
        exact h
    · rename_i a r j t lo hi' g hne
      obtain ⟨i1, i2⟩ := two hi
      obtain ⟨i2, -⟩ := two i2
      have i2 : Nat.beq t 2 = true := i2
      have et := Nat.eq_of_beq_eq_true i2
      subst et
      obtain ⟨e1, e2⟩ := E_get hE i1 h.1.1
      refine ⟨e1, md, hE, ?_⟩
      rw [e2, h.1.2]
      exact h.2
    · rename_i a r j t lo hi' g
      obtain ⟨e1, e2⟩ := E_get hE (show fkD lo hi' j g = true from hi) h.1
      refine ⟨e1, md, hE, ?_⟩
      rw [e2]
      match t, h.2 with
      | 0, h => exact h
      | 1, h => exact h
      | t + 2, h => exact h
    · exact h.elim
  · -- putfield
    split at h
    · rename_i v a r j g
      cases hb : Nat.beq a.toNat 1000 with
      | false => rw [hb] at h; exact h.elim
      | true =>
        rw [hb] at h
        have ea : a = 1000 := by have := Nat.eq_of_beq_eq_true hb; omega
        subst ea
        obtain ⟨e1, e2⟩ := E_putc hE hk0 hi (a := 1000) (by omega) v
        exact ⟨e1, _, e2, h⟩
    · rename_i v a r j lo hi' g hne
      obtain ⟨e1, e2⟩ := E_putc hE hk0 hi h.1 v
      exact ⟨e1, _, e2, h.2⟩
    · rename_i v a r j lo hi' g
      obtain ⟨e1, e2⟩ := E_putc hE hk0 hi h.1 v
      exact ⟨⟨e1, h.2.1⟩, _, e2, h.2.2⟩
    · rename_i v a r j lo hi' g
      obtain ⟨e1, e2⟩ := E_putc hE hk0 hi h.1 v
      exact ⟨⟨e1, h.2.1⟩, _, e2, h.2.2⟩
    · rename_i v a r j lo hi' g
      obtain ⟨e1, e2⟩ := E_putc hE hk0 hi h.1 v
      exact ⟨e1, _, e2, h.2⟩
    · rename_i v a r j lo hi' g
      obtain ⟨e1, e2⟩ := E_putc hE hk0 hi h.1 v
      exact ⟨e1, _, e2, h.2⟩
    · exact h.elim
  · -- iaload
    split at h
    · rename_i i a r rk g n nm
      obtain ⟨q1, q2, q3, q4⟩ := E_ar hE hi h.1
      obtain ⟨e1, e2, e3⟩ := E_ald hE q3 q1
      refine ⟨⟨by rw [e1]; exact q2, h.2.1.1, by rw [e2, q4]; exact h.2.1.2⟩, md, hE, ?_⟩
      rw [e3]; exact h.2.2
    · exact h.elim
  · -- laload
    split at h
    · rename_i i a r g n nm
      obtain ⟨q1, q2, q3, q4⟩ := E_ar hE hi h.1
      obtain ⟨e1, e2, e3⟩ := E_ald hE q3 q1
      refine ⟨⟨by rw [e1]; exact q2, h.2.1.1, by rw [e2, q4]; exact h.2.1.2⟩, md, hE, ?_⟩
      rw [e3]; exact h.2.2
    · exact h.elim
  · -- baload
    split at h
    · rename_i i a r lo hi' g n nm
      obtain ⟨i1, i2⟩ := two hi
      obtain ⟨i2, i3⟩ := two i2
      obtain ⟨q1, q2, q3, q4⟩ := E_ar hE i1 h.1
      obtain ⟨e1, e2, e3⟩ := E_ald hE q3 q1
      refine ⟨⟨by rw [e1, q2]; exact ⟨Nat.le_of_ble_eq_true i2, Nat.le_of_ble_eq_true i3⟩, h.2.1.1, by rw [e2, q4]; exact h.2.1.2⟩, md, hE, ?_⟩
      rw [e3]; exact h.2.2
    · exact h.elim
  · -- aaload
    split at h
    · rename_i i a r rk g n nm
      obtain ⟨q1, q2, q3, q4⟩ := E_ar hE hi h.1
      obtain ⟨e1, e2, e3⟩ := E_ald hE q3 q1
      refine ⟨⟨by rw [e1]; exact q2, h.2.1.1, by rw [e2, q4]; exact h.2.1.2⟩, md, hE, ?_⟩
      rw [e3]; exact h.2.2
    · exact h.elim
  · -- iastore
    split at h
    · rename_i v i a r g n nm
      obtain ⟨q1, q2, q3, q4⟩ := E_ar hE hi h.1
      obtain ⟨e1, e2, e3⟩ := E_ald hE q3 q1
      exact ⟨⟨by rw [e1]; exact q2, h.2.1.1, by rw [e2, q4]; exact h.2.1.2⟩, _, E_ast hE hk0 q3 q1 i v, h.2.2⟩
    · exact h.elim
  · -- lastore
    split at h
    · rename_i v i a r g n nm
      obtain ⟨q1, q2, q3, q4⟩ := E_ar hE hi h.1
      obtain ⟨e1, e2, e3⟩ := E_ald hE q3 q1
      exact ⟨⟨by rw [e1]; exact q2, h.2.1.1, by rw [e2, q4]; exact h.2.1.2⟩, _, E_ast hE hk0 q3 q1 i v, h.2.2⟩
    · exact h.elim
  · -- bastore
    split at h
    · rename_i v i a r g n nm
      obtain ⟨q1, q2, q3, q4⟩ := E_ar hE (show arC g n nm 103 = true from hi) h.1
      obtain ⟨e1, e2, e3⟩ := E_ald hE q3 q1
      exact ⟨⟨by rw [e1]; exact q2, h.2.1.1, by rw [e2, q4]; exact h.2.1.2⟩, _, E_ast hE hk0 q3 q1 i (zi2b v), h.2.2⟩
    · exact h.elim
  · -- aastore
    split at h
    · rename_i v i a r rk lo hi' g n nm
      obtain ⟨i1, i2⟩ := two hi
      obtain ⟨i2, i3⟩ := two i2
      obtain ⟨q1, q2, q3, q4⟩ := E_ar hE i1 h.1
      obtain ⟨e1, e2, e3⟩ := E_ald hE q3 q1
      have ek := E_ck hE (Nat.le_of_ble_eq_true i2) (Nat.le_of_ble_eq_true i3) h.2.2.1
      exact ⟨⟨by rw [e1]; exact q2, ⟨h.2.1.1, by rw [e2, q4]; exact h.2.1.2⟩, Or.inr (by rw [ek]; exact h.2.2.1)⟩, _, E_ast hE hk0 q3 q1 i v, h.2.2.2⟩
    · exact h.elim
  · -- new
    split at h
    · rename_i n
      have hn : n = 3 := Nat.eq_of_beq_eq_true (show Nat.beq n 3 = true from hi)
      subst hn
      obtain ⟨e1, e2, e3⟩ := E_new hE hk0 (k := 99) (kr := 24) (len := 0) (n := 3) (by omega) (by omega) (by decide) rfl (fun md' m' q1 q2 q3 q4 => Or.inr (Or.inr (Or.inr (Or.inr (Or.inr (Or.inr (Or.inl ⟨rfl, q2, q1⟩)))))))
      exact ⟨⟨e2, e3⟩, _, e1, h.2 _ hE.1.2.1⟩
    · rename_i n
      have hn : n = 4 := Nat.eq_of_beq_eq_true (show Nat.beq n 4 = true from hi)
      subst hn
      obtain ⟨e1, e2, e3⟩ := E_new hE hk0 (k := 98) (kr := 25) (len := 0) (n := 4) (by omega) (by omega) (by decide) rfl (fun md' m' q1 q2 q3 q4 => Or.inr (Or.inr (Or.inr (Or.inr (Or.inr (Or.inr (Or.inr ⟨rfl, q2, q1⟩)))))))
      exact ⟨⟨e2, e3⟩, _, e1, h.2 _ hE.1.2.1⟩
    · rename_i k n n1 n2
      have hk : 1 ≤ k ∧ k ≤ 23 := by
        have hi : (bif Nat.beq k 24 then Nat.beq n 3 else bif Nat.beq k 25 then Nat.beq n 4 else Nat.ble 1 k && Nat.ble k 23) = true := hi
        cases b1 : Nat.beq k 24 with
        | true => exact absurd (Nat.eq_of_beq_eq_true b1) n1
        | false =>
          rw [b1] at hi
          cases b2 : Nat.beq k 25 with
          | true => exact absurd (Nat.eq_of_beq_eq_true b2) n2
          | false =>
            rw [b2] at hi
            exact ⟨Nat.le_of_ble_eq_true (two hi).1, Nat.le_of_ble_eq_true (two hi).2⟩
      obtain ⟨e1, e2, e3⟩ := E_new1 hE hk0 hk h.1
      exact ⟨⟨e2, e3⟩, _, e1, h.2 _ hE.1.2.1⟩
    · exact h.elim
  · -- a new NoSuchElementException
    cases hb : Nat.ble S.length 4 with
    | false => rw [hb] at h; exact h.elim
    | true =>
      rw [hb] at h
      have h : 10 ≤ md.2.2.2 ∧ ∀ a, md.2.2.1 ≤ a → K (mR a :: S) (dal md a 6 10) := h
      obtain ⟨e1, e2, e3⟩ := E_new1 hE hk0 (k := 6) (n := 6) (by omega) h.1
      have e0 : rO (Instr.aconst_null, np, tg, au, cz) S m = some (some (m.2.2.2.1 + 1 ≤ CXm ∧ m.2.2.2.2 + 6 ≤ SXm), mR m.2.2.2.1 :: S, mnse m) := by
        show (bif Nat.ble S.length 4 then _ else _) = _
        rw [hb]
        rfl
      rw [e0]
      refine ⟨⟨e2, e3⟩, _, ?_, h.2 _ hE.1.2.1⟩
      have pt : ∀ (m' : mM) (j v : Int), (0 ≤ j ∧ j < 6) → m'.2.1 m.2.2.2.1 = 6 → ED mb (dal md m.2.2.2.1 6 10) m' → ED mb (dal md m.2.2.2.1 6 10) (mst m' m.2.2.2.1 j v) := by
        intro m' j v hj hk hE'
        have hk' := (dal_s (md := md) (a := m.2.2.2.1) (k := 6) (c := 10)).1
        have hcl := hE'.cell hk' (by decide)
        refine E_upd hE' hk0 m.2.2.2.1 0 ⟨Or.inl (by rw [hk']; decide), hE'.nD (by rw [hk']; decide) (by rw [hk']; decide), hcl.1⟩ (Or.inl rfl) (fun z hz => ⟨rfl, fun r => rfl⟩) (fun w hw _ _ => ⟨mst_o hw, rfl, rfl⟩) ⟨by rw [hk']; decide, ?_, Or.inl (by rw [hk']; rfl)⟩ ⟨Int.le_refl _, hE'.1.2.1, Int.le_refl _, Int.le_refl _, Int.le_refl _, Int.le_refl _⟩ (fun z _ _ => rfl) (fun e q q0 q1 q2 => rfl)
        rw [hk']
        obtain ⟨c1, c2⟩ := CRd_obj hcl.2 (by omega)
        refine Or.inl ⟨by omega, by omega, c1, fun j' hj' => ?_⟩
        have : 6 ≤ j' := Nat.le_of_ble_eq_true (two hj').2
        rw [mst_i (by omega)]
        exact c2 j' hj'
      exact pt _ 2 _ (by omega) (mnew_s (m := m) (k := 6) (len := 0) (n := 6)).2.1 (pt _ 1 _ (by omega) (mnew_s (m := m) (k := 6) (len := 0) (n := 6)).2.1 (pt _ 0 _ (by omega) (mnew_s (m := m) (k := 6) (len := 0) (n := 6)).2.1 e1))
  · -- new arrays
    split at h
    · rename_i n r rk g n0
      obtain ⟨i1, i2⟩ := two hi
      obtain ⟨c1, c2⟩ := two i1
      obtain ⟨c2, c3⟩ := two c2
      obtain ⟨c3, -⟩ := two c3
      have e1 := Nat.eq_of_beq_eq_true c1
      have e0 : rk ≠ 0 := fun e => by rw [e] at c2; cases c2
      have hg : (arD g).1 ≠ 0 := by rw [e1]; exact e0
      have hl : (arD g).2 = (n0 : Int) := of_decide_eq_true c3
      have hg0 : g ≠ 0 := fun e => by rw [e] at hg; exact absurd rfl hg
      obtain ⟨h1, h2, h3⟩ := h
      subst h1
      obtain ⟨q1, q2, q3⟩ := E_new hE hk0 (k := g) (kr := rk) (len := n0) (n := n0) h2 (by omega) hg0 (hdn_arr hg) (fun md' m' q1 q2 q3 q4 => Or.inr (Or.inl ⟨hg, by rw [q2, e1], by rw [q3, hl], fun i => by rw [q1, q4]⟩))
      have := Nat.le_of_ble_eq_true i2
      exact ⟨⟨by omega, q2, q3⟩, _, q1, h3 _ hE.1.2.1⟩
    · exact h.elim
  · -- checkcast
    split at h
    · rename_i a r lo hi' ex
      rcases ex with _ | ⟨od, _ | ⟨_, _⟩⟩
      · cases hi
      · have hi : ((Nat.ble 1 lo && Nat.ble hi' 23) || lbeq [lo, hi', od] [26, 26, 30]) = true := hi
        refine ⟨?_, md, hE, h.2⟩
        rcases h.1 with q | q
        · exact Or.inl q
        · rw [Bool.or_eq_true] at hi
          rcases hi with p | p
          · have ek := E_ck hE (Nat.le_of_ble_eq_true (two p).1) (Nat.le_of_ble_eq_true (two p).2) q
            exact Or.inr (Or.inl (by rw [ek]; exact q))
          · have e := lbeq_eq p
            cases e
            have hk : md.2.1 a = 26 := by omega
            have := (CRd_int (hE.cell hk (by decide)).2).1
            refine Or.inr ?_
            omega
      · cases hi
    · exact h.elim
  · -- calls of the machine's own
    split at h
    · rename_i a r
      cases hb : Nat.ble r.length 4 with
      | false => rw [hb] at h; exact h.elim
      | true =>
        rw [hb] at h
        have h : md.2.1 a ≠ 0 ∧ K r md := h
        have e0 : ∀ ix, rO (Instr.invokedynamic ix, np, tg, [4], cz) (mR a :: r) m = some (some (m.2.1 a ≠ 0), r, m) := by
          intro ix
          show (bif Nat.ble r.length 4 then _ else _) = _
          rw [hb]
          rfl
        rw [e0]
        exact ⟨E_kn hE h.1, md, hE, h.2⟩
    · rename_i n dp ds sp sr r slo shi dk g gn hh hn
      cases hb : Nat.ble r.length 4 with
      | false => rw [hb] at h; exact h.elim
      | true =>
        rw [hb] at h
        have h : (md.2.1 sr = g ∧ md.2.1 ds = hh ∧ sp = 0 ∧ dp = 0 ∧ 0 ≤ n ∧ n ≤ gn ∧ n ≤ hn) ∧ K r (drow md hh ds (fun k => if 0 ≤ k ∧ k < n then md.1 g sr k else md.1 hh ds k)) := h
        obtain ⟨⟨h1, h2, h3, h4, h5, h6, h7⟩, h8⟩ := h
        subst h3 h4
        have hi : (arC g gn 0 slo && (arC hh hn 0 dk && (Nat.beq slo shi && !(Nat.beq g hh)))) = true := hi
        obtain ⟨i1, i2'⟩ := two hi
        obtain ⟨i2, i3'⟩ := two i2'
        obtain ⟨i3, i4⟩ := two i3'
        have es := Nat.eq_of_beq_eq_true i3
        subst es
        obtain ⟨q1, q2, q3, q4⟩ := E_ar hE i1 (a := sr) h1
        obtain ⟨p1, p2, p3, p4⟩ := E_ar hE i2 (a := ds) h2
        obtain ⟨e1, e2, e3⟩ := E_ald hE q3 q1
        obtain ⟨d1, d2, d3⟩ := E_ald hE p3 p1
        have hne : sr ≠ ds := by
          intro e
          subst e
          rw [← h1, h2, Nat.beq_refl] at i4
          cases i4
        have e0 : ∀ ix, rO (Instr.invokedynamic ix, np, tg, [1, slo, slo, dk, g, gn, hh, hn], cz) (mI n :: mI 0 :: mR ds :: mI 0 :: mR sr :: r) m = some (some ((slo ≤ m.2.1 sr ∧ m.2.1 sr ≤ slo) ∧ m.2.1 ds = dk ∧ 0 ≤ n ∧ (0 ≤ (0 : Int) ∧ 0 + n ≤ m.2.2.1 sr) ∧ (0 ≤ (0 : Int) ∧ 0 + n ≤ m.2.2.1 ds)), r, mcpy m sr 0 ds 0 n) := by
          intro ix
          show (bif Nat.ble r.length 4 then _ else _) = _
          rw [hb]
          rfl
        rw [e0]
        refine ⟨⟨by omega, by omega, h5, by omega, by omega⟩, _, ?_, h8⟩
        have hg0 : hh ≠ 0 := fun e => by rw [e] at p3; exact absurd rfl p3
        have hg6 : hh ≠ 26 := fun e => by rw [e] at p3; exact absurd rfl p3
        have hg1 : ¬ hh < 10000 := fun e => by rw [ar_lo e] at p3; exact absurd rfl p3
        have hc0 := hE.cell p1 hg0
        refine E_upd hE hk0 ds 0 ⟨Or.inl (by omega), hE.nD (by omega) (by omega), hc0.1⟩ (Or.inl rfl) (fun z hz => ⟨rfl, fun r => ?_⟩) (fun w hw _ _ => ⟨?_, rfl, rfl⟩) ⟨?_, ?_, Or.inl (hdn_arr (by show (arD (md.2.1 ds)).1 ≠ 0; rw [p1]; exact p3))⟩ ⟨Int.le_refl _, hE.1.2.1, Int.le_refl _, Int.le_refl _, Int.le_refl _, Int.le_refl _⟩ (fun z _ _ => rfl) (fun e q q0 q1 q2 => ?_)
        · show (if r = hh then (fun a' => if a' = ds then _ else md.1 hh a') else md.1 r) z = _
          by_cases er : r = hh
          · rw [if_pos er]
            show (if z = ds then _ else md.1 hh z) = _
            rw [if_neg hz, er]
          · rw [if_neg er]
        · funext j
          show (if w = ds ∧ 0 ≤ j ∧ j < 0 + n then m.1 sr (0 + (j - 0)) else m.1 w j) = _
          rw [if_neg (fun e => hw e.1)]
        · show md.2.1 ds ≠ 0
          omega
        · show CRd _ _ ds (md.2.1 ds)
          rw [p1]
          refine Or.inr (Or.inl ⟨p3, d1, d2, fun i => ?_⟩)
          show (if ds = ds ∧ 0 ≤ i ∧ i < 0 + n then m.1 sr (0 + (i - 0)) else m.1 ds i) = (if hh = hh then (fun a' => if a' = ds then _ else md.1 hh a') else md.1 hh) ds i
          rw [if_pos rfl]
          show _ = (if ds = ds then (fun k => if 0 ≤ k ∧ k < n then md.1 g sr k else md.1 hh ds k) else md.1 hh ds) i
          rw [if_pos rfl]
          by_cases hi2 : 0 ≤ i ∧ i < n
          · rw [if_pos ⟨rfl, by omega, by omega⟩, if_pos hi2, e3]
            rw [show 0 + (i - 0) = i by omega]
          · rw [if_neg (fun e => hi2 ⟨e.2.1, by omega⟩), if_neg hi2]
            exact d3 i
        · show (if q = hh then _ else md.1 q) 1000 0 = _
          rw [if_neg (by omega)]
    · exact h.elim
  · exact h.elim
end
