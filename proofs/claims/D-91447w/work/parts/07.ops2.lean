/-! references compared, switches, throwing; then the heap -/
section
variable {Γ : gT} {y pc : Nat}
theorem wsO_get {ad : Int → Nat} {m : mM} {z : Int} (h0 : NX0 ≤ z) (h1 : z < m.2.2.2.1) : (wsO Γ ad m)[(z - NX0).toNat]? = some (ad z, ent Γ ad m z) := by
  unfold wsO
  have hz : NX0 + (((z - NX0).toNat : Nat) : Int) = z := by have : (1000 : Int) ≤ z := h0; show (1000 : Int) + (((z - 1000).toNat : Nat) : Int) = z; omega
  have hl : (z - NX0).toNat < (m.2.2.2.1 - NX0).toNat := by have : (1000 : Int) ≤ z := h0; show (z - 1000).toNat < (m.2.2.2.1 - 1000).toNat; omega
  rw [List.getElem?_map, List.getElem?_range hl]
  simp only [Option.map_some, hz]
theorem AbH.inj {ad : Int → Nat} {m : mM} {H : Heap} (h : AbH Γ ad m H) {a b : Int} (ha : NX0 ≤ a) (ha1 : a < m.2.2.2.1) (hb : NX0 ≤ b) (hb1 : b < m.2.2.2.1) (e : ad a = ad b) : a = b := by
  have := h.2.1.1 _ _ _ _ (wsO_get (Γ := Γ) (ad := ad) ha ha1) (wsO_get (Γ := Γ) (ad := ad) hb hb1) e
  have h3 : (1000 : Int) ≤ a := ha
  have h4 : (1000 : Int) ≤ b := hb
  have h5 : (a - 1000).toNat = (b - 1000).toNat := this
  omega
theorem AbH.inA {ad : Int → Nat} {m : mM} {H : Heap} (h : AbH Γ ad m H) {a : Int} (ha : NX0 ≤ a) (ha1 : a < m.2.2.2.1) : gA Γ (ad a) := h.2.1.2 _ _ (wsO_get (Γ := Γ) (ad := ad) ha ha1)
/-- what is known of old cells: their addresses can't be changed -/
def gOld (Γ : gT) : Prop := ∀ s H ad, gC Γ s H ad → ∀ z, 0 < z → z < NX0 → (z < 60 ∨ 65 < z) → ¬ gA Γ (ad z)
theorem ac_ne {ad ad0 : Int → Nat} {m : mM} {H : Heap} (hab : AbH Γ ad m H) (hC : ∀ z, 0 < z → z < NX0 → (z < 60 ∨ 65 < z) → ¬ gA Γ (ad0 z)) (had : ∀ z, z < NX0 → ad z = ad0 z) {a b : Int} (ha : 0 ≤ a ∧ a < m.2.2.2.1) (hb : 0 ≤ b ∧ b < m.2.2.2.1) (hg : ((1000 ≤ a ∨ 1000 ≤ b) ∧ (a < 60 ∨ 65 < a) ∧ (b < 60 ∨ 65 < b)) ∨ a = 0 ∨ b = 0 ∨ a = b) (hne : a ≠ b) : gr ad a ≠ gr ad b := by
  unfold gr
  intro he
  by_cases h1 : a = 0
  · rw [if_pos h1] at he
    by_cases h2 : b = 0
    · omega
    · rw [if_neg h2] at he; cases he
  · rw [if_neg h1] at he
    by_cases h2 : b = 0
    · rw [if_pos h2] at he; cases he
    · rw [if_neg h2] at he
      have he := Option.some.inj he
      by_cases h3 : a < 1000
      · by_cases h4 : b < 1000
        · omega
        · have := hab.inA (a := b) (by show (1000 : Int) ≤ b; omega) hb.2
          rw [← he, had a h3] at this
          exact hC a (by omega) h3 (by omega) this
      · by_cases h4 : b < 1000
        · have := hab.inA (a := a) (by show (1000 : Int) ≤ a; omega) ha.2
          rw [he, had b h4] at this
          exact hC b (by omega) h4 (by omega) this
        · exact hne (hab.inj (by show (1000 : Int) ≤ a; omega) ha.2 (by show (1000 : Int) ≤ b; omega) hb.2 he)
theorem ss_acmp_eq (hO : gOld Γ) {off : Int} {tg : Nat} (hd : decode (gby Γ y) pc = .ok (.if_acmp .eq off, 3)) (ht : (pc : Int) + off = (tg : Int)) : SS Γ y pc (.if_acmp .eq 0, pc + 3, tg, [], 0) := by
  intro p l e R s mid args below meth c ad0 n0 s0 d ⟨hx, hb, hml, hrt, hlk, hown, hnm, hts, hnst, hao, hK, hC, hex, hA⟩ hr hn L S m
  rcases S with _ | ⟨b | b | b, _ | ⟨a | a | a, r⟩⟩ <;> first | exact True.intro | skip
  intro Qm hk ad H locs ls hab hS hl hlen hwl hws had h1 h2
  have hk : (((1000 ≤ a ∨ 1000 ≤ b) ∧ (a < 60 ∨ 65 < a) ∧ (b < 60 ∨ 65 < b)) ∨ a = 0 ∨ b = 0 ∨ a = b) ∧ if a = b then (WA Γ p l e R s mid args below meth c ad0 n0 s0 Qm (tg, L, r, m)) else (WA Γ p l e R s mid args below meth c ad0 n0 s0 Qm (pc + 3, L, r, m)) := hk
  have hne : a ≠ b → gr ad a ≠ gr ad b := ac_ne hab (hO _ _ _ hC) (fun z hz => had z (Int.lt_of_lt_of_le hz hn)) (wfs_h (wfs_t hws)) (wfs_h hws) hk.1
  refine lv_acmp_eq hx hb hd ht (fun hc => ?_) (fun hc => ?_)
  · have hk := hk.2
    rw [if_pos (by by_cases q : a = b; exact q; exact absurd hc (hne q))] at hk
    exact hk ad H locs ls hab hS hl hlen hwl (wfs_t (wfs_t hws)) had h1 h2
  · have hk := hk.2
    rw [if_neg (fun q => hc (by rw [q]))] at hk
    exact hk ad H locs ls hab hS hl hlen hwl (wfs_t (wfs_t hws)) had h1 h2
theorem ss_acmp_ne (hO : gOld Γ) {off : Int} {tg : Nat} (hd : decode (gby Γ y) pc = .ok (.if_acmp .ne off, 3)) (ht : (pc : Int) + off = (tg : Int)) : SS Γ y pc (.if_acmp .ne 0, pc + 3, tg, [], 0) := by
  intro p l e R s mid args below meth c ad0 n0 s0 d ⟨hx, hb, hml, hrt, hlk, hown, hnm, hts, hnst, hao, hK, hC, hex, hA⟩ hr hn L S m
  rcases S with _ | ⟨b | b | b, _ | ⟨a | a | a, r⟩⟩ <;> first | exact True.intro | skip
  intro Qm hk ad H locs ls hab hS hl hlen hwl hws had h1 h2
  have hk : (((1000 ≤ a ∨ 1000 ≤ b) ∧ (a < 60 ∨ 65 < a) ∧ (b < 60 ∨ 65 < b)) ∨ a = 0 ∨ b = 0 ∨ a = b) ∧ if a = b then (WA Γ p l e R s mid args below meth c ad0 n0 s0 Qm (pc + 3, L, r, m)) else (WA Γ p l e R s mid args below meth c ad0 n0 s0 Qm (tg, L, r, m)) := hk
  have hne : a ≠ b → gr ad a ≠ gr ad b := ac_ne hab (hO _ _ _ hC) (fun z hz => had z (Int.lt_of_lt_of_le hz hn)) (wfs_h (wfs_t hws)) (wfs_h hws) hk.1
  refine lv_acmp_ne hx hb hd ht (fun hc => ?_) (fun hc => ?_)
  · have hk := hk.2
    rw [if_neg (fun q => hc (by rw [q]))] at hk
    exact hk ad H locs ls hab hS hl hlen hwl (wfs_t (wfs_t hws)) had h1 h2
  · have hk := hk.2
    rw [if_pos (by by_cases q : a = b; exact q; exact absurd hc (hne q))] at hk
    exact hk ad H locs ls hab hS hl hlen hwl (wfs_t (wfs_t hws)) had h1 h2
/-- the table of a tableswitch from lo on -/
def tsw : Nat → List Nat → List Nat
  | _, [] => []
  | lo, t :: r => lo :: t :: tsw (lo + 1) r
theorem tsw_in {k : Nat → Prop} {dd : Prop} {x : Int} : ∀ (ts : List Nat) (lo : Nat), m_sw x k dd (tsw lo ts) → ((lo : Int) ≤ x ∧ x < (lo : Int) + ts.length → ∃ t, ts[(x - lo).toNat]? = some t ∧ k t) ∧ (¬ ((lo : Int) ≤ x ∧ x < (lo : Int) + ts.length) → dd)
  | [], lo, h => ⟨fun hx => by simp at hx; omega, fun _ => h⟩
  | t :: r, lo, h => by
    unfold tsw m_sw at h
    by_cases hx : x = (lo : Int)
    · rw [if_pos hx] at h
      refine ⟨fun _ => ⟨t, by rw [hx]; simp, h⟩, fun hn => absurd (by simp; omega) hn⟩
    · rw [if_neg hx] at h
      obtain ⟨h1, h2⟩ := tsw_in r (lo + 1) h
      refine ⟨fun hq => ?_, fun hq => h2 (fun hq2 => hq ?_)⟩
      · obtain ⟨t', e1, e2⟩ := h1 (by simp at hq ⊢; omega)
        refine ⟨t', ?_, e2⟩
        have : (x - (lo : Int)).toNat = (x - ((lo + 1 : Nat) : Int)).toNat + 1 := by simp at hq; omega
        rw [this, List.getElem?_cons_succ]
        exact e1
      · simp at hq2 ⊢; omega
theorem ss_tsw {dflt lo hi : Int} {offs : Array Int} {len lo' dpc : Nat} {ts : List Nat} (hd : decode (gby Γ y) pc = .ok (.tableswitch dflt lo hi offs, len)) (hlo : lo = lo') (hhi : hi = (lo' : Int) + ts.length - 1) (hof : offs.toList = ts.map (fun t : Nat => (t : Int) - (pc : Int))) (hdp : (pc : Int) + dflt = (dpc : Int)) : SS Γ y pc (.monitorenter, dpc, 0, tsw lo' ts, 0) := by
  intro p l e R s mid args below meth c ad0 n0 s0 d ⟨hx, hb, hml, hrt, hlk, hown, hnm, hts, hnst, hao, hK, hC, hex, hA⟩ hr hn L S m
  rcases S with _ | ⟨a | a | a, r⟩ <;> first | exact True.intro | skip
  intro Qm hk ad H locs ls hab hS hl hlen hwl hws had h1 h2
  obtain ⟨q1, q2⟩ := tsw_in ts lo' hk
  have ha : (Int32.ofInt a).toInt = a := o32 (wfs_h hws)
  by_cases hin : (lo' : Int) ≤ a ∧ a < (lo' : Int) + ts.length
  · obtain ⟨t, e1, e2⟩ := q1 hin
    refine lv_tableIn (off := (t : Int) - (pc : Int)) (tgt := t) hx hb hd (by rw [ha]; omega) (by rw [ha]; omega) ?_ (by omega) (e2 ad H locs ls hab hS hl hlen hwl (wfs_t hws) had h1 h2)
    rw [ha, hlo, ← Array.getElem?_toList, hof, List.getElem?_map, e1]
    rfl
  · refine lv_tableOut (tgt := dpc) hx hb hd (by rw [ha]; omega) hdp (q2 hin ad H locs ls hab hS hl hlen hwl (wfs_t hws) had h1 h2)
theorem ss_athrow (hd : decode (gby Γ y) pc = .ok (.athrow, 1)) (he : gex Γ y = []) : SS Γ y pc (.athrow, 0, 0, [], 0) := by
  intro p l e R s mid args below meth c ad0 n0 s0 d ⟨hx, hb, hml, hrt, hlk, hown, hnm, hts, hnst, hao, hK, hC, hex, hA⟩ hr hn L S m
  rcases S with _ | ⟨a | a | a, r⟩ <;> first | exact True.intro | skip
  intro hck Q hQ ad H locs ls hab hS hl hlen hwl hws had h1 h2
  intro T hT X
  have hout : ∀ x ∈ c.exceptionTable.toList, covers x (F0 mid pc ls ((mR a :: r).map (gvv ad))).pc = false := by
    rw [he] at hex
    intro x hx2
    rw [List.map_eq_nil_iff.mp hex] at hx2
    cases hx2
  have hstk : (F0 mid pc ls ((mR a :: r).map (gvv ad))).stack = .ref (ad a) :: r.map (gvv ad) := by
    show va_rf (gr ad a) :: r.map (gvv ad) = _
    rw [va_rf_gr (by omega)]
  obtain ⟨q1, q2, q3, q4, q5⟩ := X.athrowLeaves hx (g := F0 mid pc ls ((mR a :: r).map (gvv ad))) rfl rfl rfl hout hstk (by rw [hb]; exact hd) hlk
  refine ⟨_, q1, .threw (ad a), .inr a, m, ad, locs, q2, q3, q4, q5, ?_, h1, h2, had, ?_, ⟨rfl, hck, (wfs_h hws).2⟩, hQ⟩
  · show va_S (gA Γ) s.heap T.heap locs
    rw [hT]; exact hS
  · show AbH Γ ad m T.heap
    rw [hT]; exact hab
end
