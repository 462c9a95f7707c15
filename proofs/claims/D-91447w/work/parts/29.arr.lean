/-! arrays: loads, stores, lengths -/
set_option maxHeartbeats 800000
section
variable {Γ : gT} {y pc : Nat}
theorem dynK_arr {cl : List vw_C} {k : Nat} (h0 : 103 ≤ k) (h1 : k ≤ 108) : dynK cl k := Or.inr ⟨h0, h1⟩
theorem ent_arr {ad : Int → Nat} {m : mM} {z : Int} {k : Nat} (hk : m.2.1 z = k) (h : 103 ≤ k) : ent Γ ad m z = .inl (gdA Γ k, (m.2.2.1 z).toNat, acont ad k (m.1 z)) := by
  unfold ent
  rw [hk, if_neg (by omega)]
theorem acont_i {ad : Int → Nat} {k : Nat} {f : Int → Int} (h : k ≤ 105) : acont ad k f = .inl (fun j : Nat => Int32.ofInt (f j)) := by unfold acont; rw [if_pos h]
theorem acont_l {ad : Int → Nat} {f : Int → Int} : acont ad 106 f = .inr (.inl (fun j : Nat => Int64.ofInt (f j))) := by unfold acont; rw [if_neg (by omega), if_pos rfl]
theorem acont_q {ad : Int → Nat} {k : Nat} {f : Int → Int} (h : 107 ≤ k) : acont ad k f = .inr (.inr (.inr (.inr (fun j : Nat => gr ad (f j))))) := by unfold acont; rw [if_neg (by omega), if_neg (by omega)]
/-- a place of an array -/
theorem arr_at {ad : Int → Nat} {m : mM} {H : Heap} {a i : Int} {k : Nat} (hab : AbH Γ ad m H) (hk : m.2.1 a = k) (h0 : 103 ≤ k) (h1 : k ≤ 108) (hi0 : 0 ≤ i) (hi1 : i < m.2.2.1 a) :
    (NX0 ≤ a ∧ a < m.2.2.2.1) ∧ (m.2.2.1 a ≤ 65536) ∧ wfv m.2.2.2.1 (if k ≤ 105 then mI (m.1 a i) else if k = 106 then mJ (m.1 a i) else mR (m.1 a i)) ∧ (wsO Γ ad m)[(a - NX0).toNat]? = some (ad a, .inl (gdA Γ k, (m.2.2.1 a).toNat, acont ad k (m.1 a))) ∧ va_rf (gr ad a) = .ref (ad a) ∧ vp_in (Int32.ofInt i) (m.2.2.1 a).toNat ∧ (Int32.ofInt i).toNatClampNeg = i.toNat ∧ ((i.toNat : Nat) : Int) = i := by
  have hz := dyn_of hab.2.2 hk (dynK_arr h0 h1) (by omega)
  have hc := ((hab.2.2.2.2.1 a hz.1 hz.2).2).2.1 (by rw [hk]; omega)
  have h1000 : (1000 : Int) ≤ a := hz.1
  have hg := wsO_get (Γ := Γ) (ad := ad) hz.1 hz.2
  rw [ent_arr hk h0] at hg
  have hi : i32 i := ⟨by omega, by have := hc.1.2; omega⟩
  have hw := hc.2 i
  rw [hk] at hw
  exact ⟨hz, hc.1.2, hw, hg, va_rf_gr (by omega), o32_in hi hi0 (by omega), o32_cl hi hi0, by omega⟩
theorem ss_iald {ex : List Nat} (hd : decode (gby Γ y) pc = .ok (.iaload, 1)) : SS Γ y pc (.iaload, pc + 1, 0, 105 :: ex, 0) := by
  intro p l e R s mid args below meth c ad0 n0 s0 d ⟨hx, hb, hml, hrt, hlk, hown, hnm, hts, hnst, hao, hK, hC, hex, hA⟩ hr hn L S m
  rcases S with _ | ⟨i | i | i, _ | ⟨a | a | a, r⟩⟩ <;> first | exact True.intro | skip
  intro hck Qm hk ad H locs ls hab hS hl hlen hwl hws had h1 h2
  obtain ⟨hz, -, hw, hg, hrf, hin, hcl, hii⟩ := arr_at hab hck.1 (by omega) (by omega) hck.2.1 hck.2.2
  rw [if_pos (by omega)] at hw
  rw [acont_i (by omega)] at hg
  have hk := hk ad H locs ls hab hS hl hlen hwl (wfs_c hw (wfs_t (wfs_t hws))) had h1 h2
  show W p l e R s mid args below meth c H locs _ _ Qm (F0 mid pc ls (.int (Int32.ofInt i) :: va_rf (gr ad a) :: r.map (gvv ad)))
  rw [hrf]
  refine va_iald hx hb hK hab.1 _ 2 hg rfl hin hd ?_
  dsimp only
  rw [hcl, hii]
  exact hk
theorem ss_bald {lo hi : Nat} {ex : List Nat} (hb0 : (lo = 103 ∨ lo = 104) ∧ hi = lo) (hd : decode (gby Γ y) pc = .ok (.baload, 1)) : SS Γ y pc (.baload, pc + 1, 0, lo :: hi :: ex, 0) := by
  intro p l e R s mid args below meth c ad0 n0 s0 d ⟨hx, hb, hml, hrt, hlk, hown, hnm, hts, hnst, hao, hK, hC, hex, hA⟩ hr hn L S m
  rcases S with _ | ⟨i | i | i, _ | ⟨a | a | a, r⟩⟩ <;> first | exact True.intro | skip
  intro hck Qm hk ad H locs ls hab hS hl hlen hwl hws had h1 h2
  have hk3 : m.2.1 a = lo := by have := hck.1; omega
  obtain ⟨hz, -, hw, hg, hrf, hin, hcl, hii⟩ := arr_at hab hk3 (by omega) (by omega) hck.2.1 hck.2.2
  rw [if_pos (by omega)] at hw
  rw [acont_i (by omega)] at hg
  have hk := hk ad H locs ls hab hS hl hlen hwl (wfs_c hw (wfs_t (wfs_t hws))) had h1 h2
  show W p l e R s mid args below meth c H locs _ _ Qm (F0 mid pc ls (.int (Int32.ofInt i) :: va_rf (gr ad a) :: r.map (gvv ad)))
  rw [hrf]
  rcases hb0.1 with h | h
  · subst h
    refine va_bald hx hb hK hab.1 _ 0 hg rfl hin hd ?_
    dsimp only
    rw [hcl, hii]
    exact hk
  · subst h
    refine va_zald hx hb hK hab.1 _ 1 hg rfl hin hd ?_
    dsimp only
    rw [hcl, hii]
    exact hk
theorem ss_lald {ex : List Nat} (hd : decode (gby Γ y) pc = .ok (.laload, 1)) : SS Γ y pc (.laload, pc + 1, 0, ex, 0) := by
  intro p l e R s mid args below meth c ad0 n0 s0 d ⟨hx, hb, hml, hrt, hlk, hown, hnm, hts, hnst, hao, hK, hC, hex, hA⟩ hr hn L S m
  rcases S with _ | ⟨i | i | i, _ | ⟨a | a | a, r⟩⟩ <;> first | exact True.intro | skip
  intro hck Qm hk ad H locs ls hab hS hl hlen hwl hws had h1 h2
  obtain ⟨hz, -, hw, hg, hrf, hin, hcl, hii⟩ := arr_at hab hck.1 (by omega) (by omega) hck.2.1 hck.2.2
  rw [if_neg (by omega), if_pos rfl] at hw
  rw [acont_l] at hg
  have hk := hk ad H locs ls hab hS hl hlen hwl (wfs_c hw (wfs_t (wfs_t hws))) had h1 h2
  show W p l e R s mid args below meth c H locs _ _ Qm (F0 mid pc ls (.int (Int32.ofInt i) :: va_rf (gr ad a) :: r.map (gvv ad)))
  rw [hrf]
  refine va_lald hx hb hK hab.1 _ 3 hg rfl hin hd ?_
  dsimp only
  rw [hcl, hii]
  exact hk
theorem ss_aald {k : Nat} {ex : List Nat} (hk0 : k = 107 ∨ k = 108) (hd : decode (gby Γ y) pc = .ok (.aaload, 1)) : SS Γ y pc (.aaload, pc + 1, 0, k :: ex, 0) := by
  intro p l e R s mid args below meth c ad0 n0 s0 d ⟨hx, hb, hml, hrt, hlk, hown, hnm, hts, hnst, hao, hK, hC, hex, hA⟩ hr hn L S m
  rcases S with _ | ⟨i | i | i, _ | ⟨a | a | a, r⟩⟩ <;> first | exact True.intro | skip
  intro hck Qm hk ad H locs ls hab hS hl hlen hwl hws had h1 h2
  obtain ⟨hz, -, hw, hg, hrf, hin, hcl, hii⟩ := arr_at hab hck.1 (by omega) (by omega) hck.2.1 hck.2.2
  rw [if_neg (by omega), if_neg (by omega)] at hw
  rw [acont_q (by omega)] at hg
  have hk := hk ad H locs ls hab hS hl hlen hwl (wfs_c hw (wfs_t (wfs_t hws))) had h1 h2
  show W p l e R s mid args below meth c H locs _ _ Qm (F0 mid pc ls (.int (Int32.ofInt i) :: va_rf (gr ad a) :: r.map (gvv ad)))
  rw [hrf]
  rcases hk0 with h | h
  · subst h
    refine va_aldq hx hb hK hab.1 _ 4 hg rfl hin hd ?_
    dsimp only
    rw [hcl, hii]
    exact hk
  · subst h
    refine va_aldq hx hb hK hab.1 _ 5 hg rfl hin hd ?_
    dsimp only
    rw [hcl, hii]
    exact hk
/-- a store into an array: the memory after -/
theorem arr_st {ad : Int → Nat} {m : mM} {H H1 : Heap} {a i v : Int} {k : Nat} {f' : (Nat → Int32) ⊕ (Nat → Int64) ⊕ (Nat → UInt32) ⊕ (Nat → UInt64) ⊕ (Nat → Option Nat)} (hab : AbH Γ ad m H) (hk : m.2.1 a = k) (h0 : 103 ≤ k) (h1 : k ≤ 108) (hi0 : 0 ≤ i) (hi1 : i < m.2.2.1 a)
    (hf : acont ad k (fun j => if j = i then v else m.1 a j) = f') (hv : wfv m.2.2.2.1 (if k ≤ 105 then mI v else if k = 106 then mJ v else mR v)) (hby : k = 103 → -128 ≤ v ∧ v ≤ 127) (hel : k = 107 → v = 0 ∨ (1 ≤ m.2.1 v ∧ m.2.1 v ≤ 50))
    (hP : va_P (gD Γ) (gcl Γ) ((wsO Γ ad m).set (a - NX0).toNat (ad a, .inl (gdA Γ k, (m.2.2.1 a).toNat, f'))) H1) (hD : va_D (gA Γ) ((wsO Γ ad m).set (a - NX0).toNat (ad a, .inl (gdA Γ k, (m.2.2.1 a).toNat, f')))) : AbH Γ ad (mst m a i v) H1 := by
  obtain ⟨hz, hl, hw, hg, hrf, hin, hcl, hii⟩ := arr_at hab hk h0 h1 hi0 hi1
  have e1 := wsO_upd (Γ := Γ) (ad := ad) (m' := mst m a i v) hz.1 hz.2 rfl (fun z hz => ent_st_ne hz)
  have e2 : ent Γ ad (mst m a i v) a = .inl (gdA Γ k, (m.2.2.1 a).toNat, f') := by
    rw [ent_arr (m := mst m a i v) (z := a) (k := k) hk h0, ← hf]
    have e3 : (mst m a i v).1 a = fun j => if j = i then v else m.1 a j := by
      funext j
      show (if a = a ∧ j = i then v else m.1 a j) = _
      simp
    rw [e3]; rfl
  rw [e2] at e1
  refine ⟨by rw [e1]; exact hP, by rw [e1]; exact hD, wfm_st hab.2.2 hz.1 hz.2 ?_⟩
  have hc := (hab.2.2.2.2.1 a hz.1 hz.2).2
  refine ⟨fun q => ?_, fun q => ⟨(hc.2.1 q).1, fun j => ?_⟩, fun q j => ?_, fun q j => ?_⟩
  · have q : m.2.1 a ≤ 50 := q
    omega
  · show wfv m.2.2.2.1 (if m.2.1 a ≤ 105 then mI (if a = a ∧ j = i then v else m.1 a j) else if m.2.1 a = 106 then mJ (if a = a ∧ j = i then v else m.1 a j) else mR (if a = a ∧ j = i then v else m.1 a j))
    by_cases e : j = i
    · rw [if_pos (show a = a ∧ j = i from ⟨rfl, e⟩), hk]
      exact hv
    · rw [if_neg (fun hc : a = a ∧ j = i => e hc.2)]
      exact (hc.2.1 q).2 j
  · show -128 ≤ (if a = a ∧ j = i then v else m.1 a j) ∧ (if a = a ∧ j = i then v else m.1 a j) ≤ 127
    have q : m.2.1 a = 103 := q
    by_cases e : j = i
    · rw [if_pos (show a = a ∧ j = i from ⟨rfl, e⟩)]
      exact hby (by omega)
    · rw [if_neg (fun hc : a = a ∧ j = i => e hc.2)]
      exact hc.2.2.1 q j
  · show (if a = a ∧ j = i then v else m.1 a j) = 0 ∨ (1 ≤ m.2.1 (if a = a ∧ j = i then v else m.1 a j) ∧ m.2.1 (if a = a ∧ j = i then v else m.1 a j) ≤ 50)
    have q : m.2.1 a = 107 := q
    by_cases e : j = i
    · rw [if_pos (show a = a ∧ j = i from ⟨rfl, e⟩)]
      exact hel (by omega)
    · rw [if_neg (fun hc : a = a ∧ j = i => e hc.2)]
      exact hc.2.2.2 q j
theorem upd_i {m : mM} {a i v : Int} (hi0 : 0 ≤ i) : upd (fun j : Nat => Int32.ofInt (m.1 a j)) i.toNat (Int32.ofInt v) = fun j : Nat => Int32.ofInt (if (j : Int) = i then v else m.1 a j) := by
  funext j
  unfold upd
  by_cases e : j = i.toNat
  · have : (j : Int) = i := by omega
    rw [if_pos e, if_pos this]
  · have : ¬ (j : Int) = i := by omega
    rw [if_neg e, if_neg this]
theorem ss_iast {ex : List Nat} (hd : decode (gby Γ y) pc = .ok (.iastore, 1)) : SS Γ y pc (.iastore, pc + 1, 0, ex, 0) := by
  intro p l e R s mid args below meth c ad0 n0 s0 d ⟨hx, hb, hml, hrt, hlk, hown, hnm, hts, hnst, hao, hK, hC, hex, hA⟩ hr hn L S m
  rcases S with _ | ⟨v | v | v, _ | ⟨i | i | i, _ | ⟨a | a | a, r⟩⟩⟩ <;> first | exact True.intro | skip
  intro hck Qm hk ad H locs ls hab hS hl hlen hwl hws had h1 h2
  obtain ⟨hz, -, hw, hg, hrf, hin, hcl, hii⟩ := arr_at hab hck.1 (by omega) (by omega) hck.2.1 hck.2.2
  rw [acont_i (by omega)] at hg
  show W p l e R s mid args below meth c H locs _ _ Qm (F0 mid pc ls (.int (Int32.ofInt v) :: .int (Int32.ofInt i) :: va_rf (gr ad a) :: r.map (gvv ad)))
  rw [hrf]
  refine va_iast hx hb hK hab.1 hab.2.1 hS _ 2 hg rfl hin hd (fun H1 locs1 hP hD hS1 => ?_)
  rw [hcl, upd_i hck.2.1] at hP hD
  exact hk ad H1 locs1 ls (arr_st hab hck.1 (by omega) (by omega) hck.2.1 hck.2.2 (acont_i (by omega)) (by rw [if_pos (by omega)]; exact wfs_h hws) (fun h => by omega) (fun h => by omega) hP hD) hS1 hl hlen hwl (wfs_t (wfs_t (wfs_t hws))) had h1 h2
theorem upd_l {m : mM} {a i v : Int} (hi0 : 0 ≤ i) : vp_updL (fun j : Nat => Int64.ofInt (m.1 a j)) i.toNat (Int64.ofInt v) = fun j : Nat => Int64.ofInt (if (j : Int) = i then v else m.1 a j) := by
  funext j
  unfold vp_updL
  by_cases e : j = i.toNat
  · have : (j : Int) = i := by omega
    rw [if_pos e, if_pos this]
  · have : ¬ (j : Int) = i := by omega
    rw [if_neg e, if_neg this]
theorem ss_last {ex : List Nat} (hd : decode (gby Γ y) pc = .ok (.lastore, 1)) : SS Γ y pc (.lastore, pc + 1, 0, ex, 0) := by
  intro p l e R s mid args below meth c ad0 n0 s0 d ⟨hx, hb, hml, hrt, hlk, hown, hnm, hts, hnst, hao, hK, hC, hex, hA⟩ hr hn L S m
  rcases S with _ | ⟨v | v | v, _ | ⟨i | i | i, _ | ⟨a | a | a, r⟩⟩⟩ <;> first | exact True.intro | skip
  intro hck Qm hk ad H locs ls hab hS hl hlen hwl hws had h1 h2
  obtain ⟨hz, -, hw, hg, hrf, hin, hcl, hii⟩ := arr_at hab hck.1 (by omega) (by omega) hck.2.1 hck.2.2
  rw [acont_l] at hg
  show W p l e R s mid args below meth c H locs _ _ Qm (F0 mid pc ls (.long (Int64.ofInt v) :: .int (Int32.ofInt i) :: va_rf (gr ad a) :: r.map (gvv ad)))
  rw [hrf]
  refine va_last hx hb hK hab.1 hab.2.1 hS _ 3 hg rfl hin hd (fun H1 locs1 hP hD hS1 => ?_)
  rw [hcl, upd_l hck.2.1] at hP hD
  exact hk ad H1 locs1 ls (arr_st hab hck.1 (by omega) (by omega) hck.2.1 hck.2.2 acont_l (by rw [if_neg (by omega), if_pos rfl]; exact wfs_h hws) (fun h => by omega) (fun h => by omega) hP hD) hS1 hl hlen hwl (wfs_t (wfs_t (wfs_t hws))) had h1 h2
theorem ss_alen {lo hi : Nat} {ex : List Nat} (h0 : 103 ≤ lo) (h8 : hi ≤ 108) (hd : decode (gby Γ y) pc = .ok (.arraylength, 1)) : SS Γ y pc (.arraylength, pc + 1, 0, lo :: hi :: ex, 0) := by
  intro p l e R s mid args below meth c ad0 n0 s0 d ⟨hx, hb, hml, hrt, hlk, hown, hnm, hts, hnst, hao, hK, hC, hex, hA⟩ hr hn L S m
  rcases S with _ | ⟨a | a | a, r⟩ <;> first | exact True.intro | skip
  intro hck Qm hk ad H locs ls hab hS hl hlen hwl hws had h1 h2
  dsimp only at hab hwl hws h1 h2
  have hk0 : 103 ≤ m.2.1 a ∧ m.2.1 a ≤ 108 := ⟨Nat.le_trans h0 hck.1, Nat.le_trans hck.2 h8⟩
  have hz := dyn_of (k := m.2.1 a) hab.2.2 rfl (dynK_arr hk0.1 hk0.2) (by omega)
  have hc := ((hab.2.2.2.2.1 a hz.1 hz.2).2).2.1 (by omega)
  have h1000 : (1000 : Int) ≤ a := hz.1
  have hg := wsO_get (Γ := Γ) (ad := ad) hz.1 hz.2
  rw [ent_arr rfl hk0.1] at hg
  have hk := hk ad H locs ls hab hS hl hlen hwl (wfs_c (v := mI (m.2.2.1 a)) ⟨by have := hc.1.1; omega, by have := hc.1.2; omega⟩ (wfs_t hws)) had h1 h2
  show W p l e R s mid args below meth c H locs _ _ Qm (F0 mid pc ls (va_rf (gr ad a) :: r.map (gvv ad)))
  rw [va_rf_gr (by omega)]
  have hv : Int32.ofNat (m.2.2.1 a).toNat = Int32.ofInt (m.2.2.1 a) := by
    rw [← Int32.ofInt_eq_ofNat]
    congr 1
    have := hc.1.1
    omega
  have hty : ∃ (t0 : Nat) (ty : FieldType), (gtys Γ)[t0]? = some (gdA Γ (m.2.1 a), ty) := by
    have : m.2.1 a = 103 ∨ m.2.1 a = 104 ∨ m.2.1 a = 105 ∨ m.2.1 a = 106 ∨ m.2.1 a = 107 ∨ m.2.1 a = 108 := by omega
    rcases this with h | h | h | h | h | h <;> rw [h]
    · exact ⟨0, _, rfl⟩
    · exact ⟨1, _, rfl⟩
    · exact ⟨2, _, rfl⟩
    · exact ⟨3, _, rfl⟩
    · exact ⟨4, _, rfl⟩
    · exact ⟨5, _, rfl⟩
  obtain ⟨t0, ty, ht⟩ := hty
  exact va_alen hx hb hK hab.1 _ t0 hg ht hv hd hk
end
