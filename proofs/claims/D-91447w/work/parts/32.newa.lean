/-! new arrays; stores of bytes and references -/
set_option maxHeartbeats 800000
section
variable {Γ : gT} {y pc : Nat}
theorem ent_new {ad : Int → Nat} {m : mM} {k : Nat} {len n : Int} (hk : 103 ≤ k) : ent Γ ad (mnew m k len n) m.2.2.2.1 = .inl (gdA Γ k, len.toNat, acont ad k (fun _ => 0)) := by
  obtain ⟨e1, e2, e3⟩ := mnew_eq (m := m) (k := k) (len := len) (n := n)
  rw [ent_arr (k := k) e2 hk, e1, e3]
theorem ra_eq {s : State} {cA cB : ClassId} {ty : FieldType} (h1 : va_RA s cA ty) (h2 : va_RA s cB ty) : cA = cB := by
  cases ty with
  | object C =>
    obtain ⟨_, _, _, _, _, h3⟩ := h1
    obtain ⟨_, _, _, _, _, h4⟩ := h2
    exact Option.some.inj (h3.symm.trans h4)
  | _ => exact Option.some.inj (Eq.trans (Eq.symm h1) h2)
theorem ss_newa {atype : ArrayType} {k t0 : Nat} {ty : FieldType} {ex : List Nat} {cz : Int} (hty : newarray.typeOf atype = ty) (harr : Cond.arrayClass ty ∈ lw_all) (ht0 : (gtys Γ)[t0]? = some (gdA Γ k, ty)) (hk0 : 103 ≤ k ∧ k ≤ 106)
    (hcell : ∀ (ad : Int → Nat) (N : Nat) (cA : ClassId), vp_cell cA (N, acont ad k (fun _ => 0)) = arrV cA N (fun _ => defaultValue ty)) (hcb : componentBytes ty ≤ 8) (hd : decode (gby Γ y) pc = .ok (.newarray atype, 2)) : SS Γ y pc (.anewarray 0, pc + 2, 0, k :: ex, cz) := by
  intro p l e R s mid args below meth c ad0 n0 s0 d ⟨hx, hb, hml, hrt, hlk, hown, hnm, hts, hnst, hao, hK, hC, hex, hA⟩ hr hn L S m
  rcases S with _ | ⟨n | n | n, r⟩ <;> first | exact True.intro | skip
  intro hck Qm hk ad H locs ls hab hS hl hlen hwl hws had h1 h2
  dsimp only at hab hl hlen hwl hws h1 h2
  obtain ⟨hr1, hr2, hr3, hr4, hr5⟩ := hr
  obtain ⟨⟨hn0, hn1⟩, hck⟩ := hck
  obtain ⟨N, rfl⟩ := Int.eq_ofNat_of_zero_le hn0
  have hi : i32 (N : Int) := ⟨by omega, by omega⟩
  refine va_newa hx hb (by rw [hty]; exact hts _ harr) hty hK hab.1 hab.2.1 hS hA (N' := N) (a0 := (N, acont ad k (fun _ => 0))) (hcell ad N) ?_ ?_ ?_ ?_ ?_ hd (fun q cA H1 hK1 hP hD hS1 => ?_)
  · rw [← o32_0, o32_lt hi o32_i]; omega
  · rw [o32_cl hi hn0]; omega
  · have := Nat.mul_le_mul (show N ≤ 65536 by omega) hcb
    omega
  · show (m.2.2.2.1 - n0).toNat + 1 ≤ R.cells
    have := hck.1; have := h1.1
    omega
  · show (m.2.2.2.2 - s0).toNat + N ≤ R.slots
    have := hck.2; have := h2.1
    omega
  · have hcA : cA = gdA Γ k := ra_eq (hK1.2 6 (cA, ty) rfl).2 (hK.2 t0 _ ht0).2
    subst hcA
    refine new_on (n := N) hn hk hck (AbH_push (len := (N : Int)) (n := (N : Int)) hab ?_ hP hD (dynK_arr hk0.1 (by omega)) (fun _ => ⟨by omega, by omega⟩)) hS1 hl hlen hwl (wfs_t hws) had h1 h2
    rw [ent_new hk0.1]
    have e : acont (adn ad m.2.2.2.1 q) k (fun _ => 0) = acont ad k (fun _ => 0) := by
      unfold acont
      by_cases h5 : k ≤ 105
      · rw [if_pos h5, if_pos h5]
      · rw [if_neg h5, if_neg h5, if_pos (by omega), if_pos (by omega)]
    rw [e, Int.toNat_natCast]
theorem cell_i {ty : FieldType} (h : defaultValue ty = .int 0) {k : Nat} (hk : k ≤ 105) (ad : Int → Nat) (N : Nat) (cA : ClassId) : vp_cell cA (N, acont ad k (fun _ => 0)) = arrV cA N (fun _ => defaultValue ty) := by
  rw [acont_i hk, h]
  show arrV cA N (fun _ => .int (Int32.ofInt 0)) = _
  rw [o32_0]
theorem cell_l (ad : Int → Nat) (N : Nat) (cA : ClassId) : vp_cell cA (N, acont ad 106 (fun _ => 0)) = arrV cA N (fun _ => defaultValue .long) := by
  rw [acont_l]
  show arrV cA N (fun _ => .long (Int64.ofInt 0)) = arrV cA N (fun _ => .long 0)
  have : Int64.ofInt 0 = 0 := by decide
  rw [this]
theorem ss_newa_i {ex : List Nat} {cz : Int} (harr : Cond.arrayClass .int ∈ lw_all) (hd : decode (gby Γ y) pc = .ok (.newarray .int, 2)) : SS Γ y pc (.anewarray 0, pc + 2, 0, 105 :: ex, cz) := ss_newa (ty := .int) (t0 := 2) rfl harr rfl ⟨by omega, by omega⟩ (cell_i rfl (by omega)) (by decide) hd
theorem ss_newa_b {ex : List Nat} {cz : Int} (harr : Cond.arrayClass .byte ∈ lw_all) (hd : decode (gby Γ y) pc = .ok (.newarray .byte, 2)) : SS Γ y pc (.anewarray 0, pc + 2, 0, 103 :: ex, cz) := ss_newa (ty := .byte) (t0 := 0) rfl harr rfl ⟨by omega, by omega⟩ (cell_i rfl (by omega)) (by decide) hd
theorem ss_newa_z {ex : List Nat} {cz : Int} (harr : Cond.arrayClass .boolean ∈ lw_all) (hd : decode (gby Γ y) pc = .ok (.newarray .boolean, 2)) : SS Γ y pc (.anewarray 0, pc + 2, 0, 104 :: ex, cz) := ss_newa (ty := .boolean) (t0 := 1) rfl harr rfl ⟨by omega, by omega⟩ (cell_i rfl (by omega)) (by decide) hd
theorem ss_newa_l {ex : List Nat} {cz : Int} (harr : Cond.arrayClass .long ∈ lw_all) (hd : decode (gby Γ y) pc = .ok (.newarray .long, 2)) : SS Γ y pc (.anewarray 0, pc + 2, 0, 106 :: ex, cz) := ss_newa (ty := .long) (t0 := 3) rfl harr rfl ⟨by omega, by omega⟩ cell_l (by decide) hd
theorem ss_newq {idx k t0 : Nat} {C : String} {ex : List Nat} {cz : Int} (hli : Cond.classLink (gnm Γ y).cls idx C ∈ lw_all) (hC0 : (k = 107 ∧ t0 = 4 ∧ C = "java/lang/Object") ∨ (k = 108 ∧ t0 = 5 ∧ C = "TrustDesk$Fund")) (hd : decode (gby Γ y) pc = .ok (.anewarray idx, 3)) : SS Γ y pc (.anewarray 0, pc + 3, 0, k :: ex, cz) := by
  intro p l e R s mid args below meth c ad0 n0 s0 d ⟨hx, hb, hml, hrt, hlk, hown, hnm, hts, hnst, hao, hK, hC, hex, hA⟩ hr hn L S m
  rcases S with _ | ⟨n | n | n, r⟩ <;> first | exact True.intro | skip
  intro hck Qm hk ad H locs ls hab hS hl hlen hwl hws had h1 h2
  dsimp only at hab hl hlen hwl hws h1 h2
  obtain ⟨hr1, hr2, hr3, hr4, hr5⟩ := hr
  obtain ⟨⟨hn0, hn1⟩, hck⟩ := hck
  obtain ⟨N, rfl⟩ := Int.eq_ofNat_of_zero_le hn0
  have hi : i32 (N : Int) := ⟨by omega, by omega⟩
  have hov : va_AO C s ∧ (gtys Γ)[t0]? = some (gdA Γ k, .object C) ∧ 107 ≤ k ∧ k ≤ 108 := by
    rcases hC0 with ⟨rfl, rfl, rfl⟩ | ⟨rfl, rfl, rfl⟩
    · exact ⟨hao.1, rfl, by omega, by omega⟩
    · exact ⟨hao.2, rfl, by omega, by omega⟩
  obtain ⟨hov, ht0, hk7, hk8⟩ := hov
  refine va_newq hx hb hown (hts _ hli) hov hK hab.1 hab.2.1 hS hA (N' := N) ?_ ?_ ?_ ?_ ?_ hd (fun q cA H1 hK1 hP hD hS1 => ?_)
  · rw [← o32_0, o32_lt hi o32_i]; omega
  · rw [o32_cl hi hn0]; omega
  · omega
  · show (m.2.2.2.1 - n0).toNat + 1 ≤ R.cells
    have := hck.1; have := h1.1
    omega
  · show (m.2.2.2.2 - s0).toNat + N ≤ R.slots
    have := hck.2; have := h2.1
    omega
  · have hcA : cA = gdA Γ k := ra_eq (hK1.2 6 (cA, .object C) rfl).2 (hK.2 t0 _ ht0).2
    subst hcA
    refine new_on (n := N) hn hk hck (AbH_push (len := (N : Int)) (n := (N : Int)) hab ?_ hP hD (dynK_arr (by omega) (by omega)) (fun _ => ⟨by omega, by omega⟩)) hS1 hl hlen hwl (wfs_t hws) had h1 h2
    rw [ent_new (by omega), acont_q hk7, Int.toNat_natCast]
    rfl
theorem vnar_b (v : Int) : vp_nar .byte (Int32.ofInt v) = Int32.ofInt (zi2b v) := by
  rw [← o32_i2b]
  rfl
theorem vnar_z {v : Int} (h0 : 0 ≤ v) (h1 : v ≤ 1) : vp_nar .boolean (Int32.ofInt v) = Int32.ofInt v := by
  have h : v = 0 ∨ v = 1 := by omega
  rcases h with h | h <;> subst h <;> decide
theorem ss_bast {ex : List Nat} {cz : Int} (hd : decode (gby Γ y) pc = .ok (.bastore, 1)) : SS Γ y pc (.bastore, pc + 1, 0, 103 :: ex, cz) := by
  intro p l e R s mid args below meth c ad0 n0 s0 d ⟨hx, hb, hml, hrt, hlk, hown, hnm, hts, hnst, hao, hK, hC, hex, hA⟩ hr hn L S m
  rcases S with _ | ⟨v | v | v, _ | ⟨i | i | i, _ | ⟨a | a | a, r⟩⟩⟩ <;> first | exact True.intro | skip
  intro hck Qm hk ad H locs ls hab hS hl hlen hwl hws had h1 h2
  obtain ⟨hz, -, hw, hg, hrf, hin, hcl, hii⟩ := arr_at hab hck.1 (by omega) (by omega) hck.2.1 hck.2.2
  rw [acont_i (by omega)] at hg
  show W p l e R s mid args below meth c H locs _ _ Qm (F0 mid pc ls (.int (Int32.ofInt v) :: .int (Int32.ofInt i) :: va_rf (gr ad a) :: r.map (gvv ad)))
  rw [hrf]
  refine va_bast hx hb hK hab.1 hab.2.1 hS _ 0 hg rfl hin hd (fun H1 locs1 hP hD hS1 => ?_)
  rw [hcl, vnar_b, upd_i hck.2.1] at hP hD
  exact hk ad H1 locs1 ls (arr_st hab hck.1 (by omega) (by omega) hck.2.1 hck.2.2 (acont_i (by omega)) (by rw [if_pos (by omega)]; exact zi2b_b v) (fun _ => by unfold zi2b; omega) (fun h => by omega) hP hD) hS1 hl hlen hwl (wfs_t (wfs_t (wfs_t hws))) had h1 h2
theorem ss_zast {ex : List Nat} {cz : Int} (hd : decode (gby Γ y) pc = .ok (.bastore, 1)) : SS Γ y pc (.bastore, pc + 1, 0, 104 :: ex, cz) := by
  intro p l e R s mid args below meth c ad0 n0 s0 d ⟨hx, hb, hml, hrt, hlk, hown, hnm, hts, hnst, hao, hK, hC, hex, hA⟩ hr hn L S m
  rcases S with _ | ⟨v | v | v, _ | ⟨i | i | i, _ | ⟨a | a | a, r⟩⟩⟩ <;> first | exact True.intro | skip
  intro hck Qm hk ad H locs ls hab hS hl hlen hwl hws had h1 h2
  obtain ⟨hz, -, hw, hg, hrf, hin, hcl, hii⟩ := arr_at hab hck.1 (by omega) (by omega) hck.2.1.1 hck.2.1.2
  rw [acont_i (by omega)] at hg
  show W p l e R s mid args below meth c H locs _ _ Qm (F0 mid pc ls (.int (Int32.ofInt v) :: .int (Int32.ofInt i) :: va_rf (gr ad a) :: r.map (gvv ad)))
  rw [hrf]
  refine va_zast hx hb hK hab.1 hab.2.1 hS _ 1 hg rfl hin hd (fun H1 locs1 hP hD hS1 => ?_)
  rw [hcl, vnar_z hck.2.2.1 hck.2.2.2, upd_i hck.2.1.1] at hP hD
  exact hk ad H1 locs1 ls (arr_st hab hck.1 (by omega) (by omega) hck.2.1.1 hck.2.1.2 (acont_i (by omega)) (by rw [if_pos (by omega)]; exact wfs_h hws) (fun h => by omega) (fun h => by omega) hP hD) hS1 hl hlen hwl (wfs_t (wfs_t (wfs_t hws))) had h1 h2
theorem upd_q {ad : Int → Nat} {m : mM} {a i v : Int} (hi0 : 0 ≤ i) : va_up (fun j : Nat => gr ad (m.1 a j)) i.toNat (gr ad v) = fun j : Nat => gr ad (if (j : Int) = i then v else m.1 a j) := by
  funext j
  unfold va_up
  by_cases e : j = i.toNat
  · have : (j : Int) = i := by omega
    rw [if_pos e, if_pos this]
  · have : ¬ (j : Int) = i := by omega
    rw [if_neg e, if_neg this]
/-- a cell of kind k may lie in an array of E -/
def anyOk (Γ : gT) (k : Nat) (E : String) : Prop := ∃ C, isC Γ k C ∧ (Cond.castable C E ∈ lw_tbl ∨ (C = E ∧ ∃ (ci : Nat) (T : u_T) (N : Nat), (gcl Γ)[ci]? = some (E, T, N)))
theorem any_at {k : Nat} {E : String} (hc : anyOk Γ k E) {s : State} (hK : va_K (gD Γ) (gcl Γ) (gtys Γ) s) (hnst : ∀ w ∈ lw_tbl, nstW w = true → va_Nw w s) {ad0 ad : Int → Nat} (hC : gC Γ s s.heap ad0) {m : mM} {H : Heap} {locs : List Loc} (hab : AbH Γ ad m H) (hS : va_S (gA Γ) s.heap H locs) (had : ∀ z, z < NX0 → ad z = ad0 z) {a : Int} (hk : m.2.1 a = k) : 0 < a ∧ va_Any E s H (ad a) := by
  obtain ⟨C, hisC, hca⟩ := hc
  obtain ⟨hz, cell, h1, h2, h3⟩ := recv_at hisC hK hC hab hS had hk
  obtain ⟨kC, hkC, -⟩ := Vm.findClass_spec h3
  refine ⟨hz.1, cell, h1, h2, ⟨kC, hkC⟩, fun comp hcomp => ?_⟩
  rcases hca with h | ⟨h, ci, T, N, hci⟩
  · obtain ⟨c0, t0, f1, f2, f3⟩ := Cond.castable_spec (va_Nw.use (A := #[]) rfl (hnst _ h rfl))
    cases h3.symm.trans f1
    cases hcomp.symm.trans f2
    exact f3
  · subst h
    obtain ⟨cC, hcC⟩ := classAt_K hK hci
    cases hcomp.symm.trans h3
    cases hcC.1.symm.trans h3
    exact va_assign hcC
theorem ss_aast {k lo hi t0 : Nat} {E : String} {ex : List Nat} {cz : Int} (hC0 : (k = 107 ∧ t0 = 4 ∧ E = "java/lang/Object") ∨ (k = 108 ∧ t0 = 5 ∧ E = "TrustDesk$Fund")) (hlo : 1 ≤ lo ∧ hi ≤ 50) (hc : ∀ q, lo ≤ q → q ≤ hi → anyOk Γ q E) (hd : decode (gby Γ y) pc = .ok (.aastore, 1)) : SS Γ y pc (.aastore, pc + 1, 0, k :: lo :: hi :: ex, cz) := by
  intro p l e R s mid args below meth c ad0 n0 s0 d ⟨hx, hb, hml, hrt, hlk, hown, hnm, hts, hnst, hao, hK, hC, hex, hA⟩ hr hn L S m
  rcases S with _ | ⟨v | v | v, _ | ⟨i | i | i, _ | ⟨a | a | a, r⟩⟩⟩ <;> first | exact True.intro | skip
  intro hck Qm hk ad H locs ls hab hS hl hlen hwl hws had h1 h2
  have hov : (gtys Γ)[t0]? = some (gdA Γ k, .object E) ∧ 107 ≤ k ∧ k ≤ 108 := by
    rcases hC0 with ⟨rfl, rfl, rfl⟩ | ⟨rfl, rfl, rfl⟩
    · exact ⟨rfl, by omega, by omega⟩
    · exact ⟨rfl, by omega, by omega⟩
  obtain ⟨ht0, hk7, hk8⟩ := hov
  obtain ⟨hck1, ⟨hi0, hi1⟩, hck3⟩ := hck
  obtain ⟨hz, -, hw, hg, hrf, hin, hcl, hii⟩ := arr_at hab hck1 (by omega) (by omega) hi0 hi1
  rw [acont_q hk7] at hg
  have hfin : ∀ (H1 : Heap) (locs1 : List Loc), va_P (gD Γ) (gcl Γ) ((wsO Γ ad m).set (a - NX0).toNat (ad a, .inl (gdA Γ k, (m.2.2.1 a).toNat, .inr (.inr (.inr (.inr (va_up (fun j : Nat => gr ad (m.1 a j)) (Int32.ofInt i).toNatClampNeg (gr ad v)))))))) H1 → va_D (gA Γ) ((wsO Γ ad m).set (a - NX0).toNat (ad a, .inl (gdA Γ k, (m.2.2.1 a).toNat, .inr (.inr (.inr (.inr (va_up (fun j : Nat => gr ad (m.1 a j)) (Int32.ofInt i).toNatClampNeg (gr ad v)))))))) → va_S (gA Γ) s.heap H1 locs1 → W p l e R s mid args below meth c H1 locs1 (m.2.2.2.1 - n0).toNat (m.2.2.2.2 - s0).toNat Qm (F0 mid (pc + 1) ls (r.map (gvv ad))) := by
    intro H1 locs1 hP hD hS1
    rw [hcl, upd_q hi0] at hP hD
    exact hk ad H1 locs1 ls (arr_st hab hck1 (by omega) (by omega) hi0 hi1 (acont_q hk7) (by rw [if_neg (by omega), if_neg (by omega)]; exact wfs_h hws) (fun h => by omega) (fun _ => hck3.imp id (fun h => ⟨Nat.le_trans hlo.1 h.1, Nat.le_trans h.2 hlo.2⟩)) hP hD) hS1 hl hlen hwl (wfs_t (wfs_t (wfs_t hws))) had h1 h2
  show W p l e R s mid args below meth c H locs _ _ Qm (F0 mid pc ls (va_rf (gr ad v) :: .int (Int32.ofInt i) :: va_rf (gr ad a) :: r.map (gvv ad)))
  rw [hrf]
  by_cases h0 : v = 0
  · subst h0
    exact va_astqN hx hb hK hab.1 hab.2.1 hS _ t0 hg ht0 hin hd hfin
  · obtain ⟨hv0, hany⟩ := any_at (hc (m.2.1 v) (hck3.resolve_left h0).1 (hck3.resolve_left h0).2) hK hnst hC hab hS (fun z hz => had z (Int.lt_of_lt_of_le hz hn)) (a := v) rfl
    rw [va_rf_gr h0]
    have hgv : gr ad v = some (ad v) := by unfold gr; rw [if_neg h0]
    rw [hgv] at hfin
    exact va_astqM hx hb hK hab.1 hab.2.1 hS _ t0 hg ht0 hany hin hd hfin
end
