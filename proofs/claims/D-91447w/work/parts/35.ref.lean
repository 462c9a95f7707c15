/-! copies of references, static fields, constants -/
set_option maxHeartbeats 800000
section
variable {Γ : gT} {y pc : Nat}
theorem ss_cpq {idx : Nat} {ex : List Nat} {cz : Int} (hc : ∀ q, 1 ≤ q → q ≤ 50 → anyOk Γ q "java/lang/Object") (hW : cpW Γ y idx) (hd : decode (gby Γ y) pc = .ok (.invokestatic idx, 3)) : SS Γ y pc (.invokedynamic 0, pc + 3, 0, 1 :: 107 :: 107 :: 107 :: ex, cz) := by
  intro p l e R s mid args below meth c ad0 n0 s0 d ⟨hx, hb, hml, hrt, hlk, hown, hnm, hts, hnst, hao, hK, hC, hex, hA⟩ hr hn L S m
  rcases S with _ | ⟨n | n | n, _ | ⟨dp | dp | dp, _ | ⟨dst | dst | dst, _ | ⟨sp | sp | sp, _ | ⟨src | src | src, r⟩⟩⟩⟩⟩ <;> first | exact True.intro | skip
  rw [stp_1]
  cases h4 : Nat.ble r.length 4 with
  | false => exact True.intro
  | true =>
    intro hck Qm hk
    obtain ⟨hsk, hdk, hn0, hs, hd'⟩ := hck
    have h4 := Nat.le_of_ble_eq_true h4
    have hsk : m.2.1 src = 107 := by omega
    intro ad H locs ls hab hS hl hlen hwl hws had h1 h2
    dsimp only at hab hl hlen hwl hws h1 h2
    obtain ⟨hzs, hls, hcs, hgs, hrs⟩ := arr_en hab hsk (by omega) (by omega)
    obtain ⟨hzd, hld, hcd, hgd, hrd⟩ := arr_en hab hdk (by omega) (by omega)
    rw [acont_q (by omega)] at hgs hgd
    have hs1 := hs.2
    have hd1 := hd'.2
    have in_ : i32 n := ⟨by omega, by omega⟩
    have isp : i32 sp := ⟨by have := hs.1; omega, by omega⟩
    have idp : i32 dp := ⟨by have := hd'.1; omega, by omega⟩
    show W p l e R s mid args below meth c H locs _ _ Qm (F0 mid pc ls (.int (Int32.ofInt n) :: .int (Int32.ofInt dp) :: va_rf (gr ad dst) :: .int (Int32.ofInt sp) :: va_rf (gr ad src) :: r.map (gvv ad)))
    rw [hrs, hrd]
    have hsum := cat_sum ad r
    have hl2 : 60 * d + 60 ≤ R.locals := by have := hr.2.1; omega
    have hnf := nfw
    have hsv := (hcs.2.1 (by omega)).2
    refine va_copyM hx hb (by rw [hl.1, hlen]) hown (hts _ hW.1) (hts _ hW.2.1) (hts _ hW.2.2.1) (hts _ hW.2.2.2) hK hab.1 hab.2.1 hS _ _ 4 4 hgs hgd rfl rfl (o32_nn isp hs.1) (o32_nn idp hd'.1) (o32_nn in_ hn0) ?_ ?_ (fun i hi q hq => ?_) (by have := hr.1; omega) (by omega) hd (fun H1 locs1 hP hD hS1 => ?_)
    · rw [o32_cl isp hs.1, o32_cl in_ hn0]; have := hs.1; omega
    · rw [o32_cl idp hd'.1, o32_cl in_ hn0]; have := hd'.1; omega
    · replace hq : gr ad (m.1 src (((Int32.ofInt sp).toNatClampNeg + i : Nat) : Int)) = some q := hq
      generalize hw : m.1 src (((Int32.ofInt sp).toNatClampNeg + i : Nat) : Int) = w at hq
      have hkw := hcs.2.2.2 hsk (((Int32.ofInt sp).toNatClampNeg + i : Nat) : Int)
      rw [hw] at hkw
      by_cases h0 : w = 0
      · rw [h0] at hq
        cases hq
      · have hkw := hkw.resolve_left h0
        have ha := (any_at (hc (m.2.1 w) hkw.1 hkw.2) hK hnst hC hab hS (fun z hz => had z (Int.lt_of_lt_of_le hz hn)) (a := w) rfl).2
        unfold gr at hq
        rw [if_neg h0] at hq
        cases hq
        exact ha
    · rw [o32_cl isp hs.1, o32_cl in_ hn0, o32_cl idp hd'.1, cpy_eq (gr ad) m src dst sp dp n hs.1 hd'.1 hn0] at hP hD
      refine hk ad H1 locs1 ls (arr_cp hab hdk (by omega) (by omega) (acont_q (by omega)) (fun j hj0 hj1 => ⟨?_, fun h => by omega, fun _ => hcs.2.2.2 hsk _⟩) hP hD) hS1 hl hlen hwl (wfs_t (wfs_t (wfs_t (wfs_t (wfs_t hws))))) had h1 h2
      have hj := hsv (sp + (j - dp))
      rw [if_neg (by omega), if_neg (by omega)] at hj
      rw [if_neg (by omega), if_neg (by omega)]
      exact hj
/-- the Integer cache -/
theorem ss_aald_old {ex : List Nat} {cz : Int} {C : String} (ho : oT Γ 109 (.object C) (fun ad x => va_rf (gr ad x)) (fun x => 0 ≤ x ∧ x < NX0)) (hd : decode (gby Γ y) pc = .ok (.aaload, 1)) : SS Γ y pc (.aaload, pc + 1, 0, 109 :: ex, cz) := by
  intro p l e R s mid args below meth c ad0 n0 s0 d ⟨hx, hb, hml, hrt, hlk, hown, hnm, hts, hnst, hao, hK, hC, hex, hA⟩ hr hn L S m
  rcases S with _ | ⟨i | i | i, _ | ⟨a | a | a, r⟩⟩ <;> first | exact True.intro | skip
  intro hck Qm hk ad H locs ls hab hS hl hlen hwl hws had h1 h2
  dsimp only at hab hl hlen hwl hws h1 h2
  obtain ⟨hz, e1, e2, e3⟩ := old_of hab.2.2 hck.1 ho.1 ho.2.1
  obtain ⟨hT, hlen0, hwf⟩ := ho.2.2 s ad0 hC a e1
  obtain ⟨-, hi0, hi1⟩ := hck
  rw [e3] at hi1
  have hi : i32 i := ⟨by omega, by omega⟩
  have hn3 : NX0 ≤ m.2.2.2.1 := hab.2.2.1
  have hw := hwf i hi0 hi1
  have hk := hk ad H locs ls hab hS hl hlen hwl (wfs_c (v := mR (m.1 a i)) (by rw [e2]; exact ⟨hw.1, Int.lt_of_lt_of_le hw.2 hn3⟩) (wfs_t (wfs_t hws))) had h1 h2
  show W p l e R s mid args below meth c H locs _ _ Qm (F0 mid pc ls (.int (Int32.ofInt i) :: va_rf (gr ad a) :: r.map (gvv ad)))
  rw [va_rf_gr (show a ≠ 0 by omega), had a (Int.lt_of_lt_of_le hz.2 hn)]
  have hv : va_rf (gr ad (m.1 a i)) = va_rf (gr ad0 ((gM Γ).1 a i)) := by
    rw [e2, gr_same (nx := NX0) (fun z hz => had z (Int.lt_of_lt_of_le hz hn)) hw.2]
  obtain ⟨cell, q1, q2, q3, q4, q5, q6, q7⟩ := hT
  have hlt : (Int32.ofInt i).toNatClampNeg < ((gM Γ).2.2 a).toNat := by rw [o32_cl hi hi0]; omega
  have hin' : ¬ (Int32.ofInt i < 0 ∨ cell.slots.size ≤ (Int32.ofInt i).toNatClampNeg) := by
    intro q
    rcases q with q | q
    · exact o32_nn hi hi0 q
    · omega
  refine W.aald (v := va_rf (gr ad0 ((gM Γ).1 a i))) (ty := .object C) hx hb (by rw [hS.2.1 (ad0 a) (Array.getElem?_eq_some_iff.mp q1).1 q7]; exact q1) q2 rfl q3 hin' ?_ rfl rfl hd ?_
  · rw [q6 _ hlt]
    dsimp only
    rw [o32_cl hi hi0, show ((i.toNat : Nat) : Int) = i from by omega]
  · rw [← hv]
    exact hk
/-- a static field that holds an old reference -/
theorem ss_gets {idx k : Nat} {C n dsc ref : String} {ex : List Nat} {cz : Int} (ho : ∀ s ad, gC Γ s s.heap ad → va_Z C n dsc (va_rf (gr ad ((gM Γ).1 (-1) k))) (gA Γ) s s.heap ∧ 0 ≤ (gM Γ).1 (-1) k ∧ (gM Γ).1 (-1) k < NX0) (hli : Cond.fieldLink (gnm Γ y).cls idx ref n dsc ∈ lw_all) (hsa : ref = C ∨ Cond.sameField ref C n dsc ∈ lw_all) (hd : decode (gby Γ y) pc = .ok (.getstatic idx, 3)) : SS Γ y pc (.putstatic 0, pc + 3, 0, k :: ex, cz) := by
  intro p l e R s mid args below meth c ad0 n0 s0 d ⟨hx, hb, hml, hrt, hlk, hown, hnm, hts, hnst, hao, hK, hC, hex, hA⟩ hr hn L S m
  intro Qm hk ad H locs ls hab hS hl hlen hwl hws had h1 h2
  dsimp only at hab hl hlen hwl hws h1 h2
  obtain ⟨hZ, hw0, hw1⟩ := ho s ad0 hC
  have hn3 : NX0 ≤ m.2.2.2.1 := hab.2.2.1
  have e2 := (hab.2.2.2.2.2 (-1) (by show (-1 : Int) < 1000; decide)).2.1
  have hk := hk ad H locs ls hab hS hl hlen hwl (wfs_c (v := mR (m.1 (-1) k)) (by rw [e2]; exact ⟨hw0, Int.lt_of_lt_of_le hw1 hn3⟩) hws) had h1 h2
  have hv : gvv ad (mR (m.1 (-1) k)) = va_rf (gr ad0 ((gM Γ).1 (-1) k)) := by
    show va_rf (gr ad (m.1 (-1) k)) = _
    rw [e2, gr_same (nx := NX0) (fun z hz => had z (Int.lt_of_lt_of_le hz hn)) hw1]
  refine va_gets hx hb hZ hS hown (hts _ hli) (same_of hts hsa) hd ?_
  rw [← hv]
  exact hk
/-- a static int -/
theorem ss_getsI {idx : Nat} {C n dsc ref : String} {z : Int} (hi : i32 z) (ho : ∀ s ad, gC Γ s s.heap ad → va_Z C n dsc (.int (Int32.ofInt z)) (gA Γ) s s.heap) (hli : Cond.fieldLink (gnm Γ y).cls idx ref n dsc ∈ lw_all) (hsa : ref = C ∨ Cond.sameField ref C n dsc ∈ lw_all) (hd : decode (gby Γ y) pc = .ok (.getstatic idx, 3)) : SS Γ y pc (.ldc 0, pc + 3, 0, [0], z) := by
  intro p l e R s mid args below meth c ad0 n0 s0 d ⟨hx, hb, hml, hrt, hlk, hown, hnm, hts, hnst, hao, hK, hC, hex, hA⟩ hr hn L S m
  intro Qm hk ad H locs ls hab hS hl hlen hwl hws had h1 h2
  have hk := hk ad H locs ls hab hS hl hlen hwl (wfs_c (v := mI z) hi hws) had h1 h2
  exact va_gets hx hb (ho s ad0 hC) hS hown (hts _ hli) (same_of hts hsa) hd hk
/-- a String constant -/
theorem ss_ldcS {idx : Nat} {tx : String} {z : Int} (h0 : 0 < z) (h1000 : z < NX0) (ho : ∀ s ad, gC Γ s s.heap ad → vk_R (gnm Γ y).cls idx tx (ad z) s) (hd : decode (gby Γ y) pc = .ok (.ldc idx, 2)) : SS Γ y pc (.ldc 0, pc + 2, 0, [2], z) := by
  intro p l e R s mid args below meth c ad0 n0 s0 d ⟨hx, hb, hml, hrt, hlk, hown, hnm, hts, hnst, hao, hK, hC, hex, hA⟩ hr hn L S m
  intro Qm hk ad H locs ls hab hS hl hlen hwl hws had h1 h2
  have hn3 : NX0 ≤ m.2.2.2.1 := hab.2.2.1
  have hk := hk ad H locs ls hab hS hl hlen hwl (wfs_c (v := mR z) ⟨Int.le_of_lt h0, Int.lt_of_lt_of_le h1000 hn3⟩ hws) had h1 h2
  replace hk : W p l e R s mid args below meth c H locs _ _ Qm (F0 mid (pc + 2) ls (va_rf (gr ad z) :: S.map (gvv ad))) := hk
  rw [va_rf_gr (by omega), had z (Int.lt_of_lt_of_le h1000 hn)] at hk
  exact va_ldcS hx hb hown (ho s ad0 hC) hd hk
/-- a class constant -/
theorem ss_ldcM {idx : Nat} {C : String} {z : Int} (h0 : 0 < z) (h1000 : z < NX0) (ho : ∀ s ad, gC Γ s s.heap ad → va_Mi C (ad z) s) (hli : Cond.classLink (gnm Γ y).cls idx C ∈ lw_all) (hd : decode (gby Γ y) pc = .ok (.ldc idx, 2)) : SS Γ y pc (.ldc 0, pc + 2, 0, [2], z) := by
  intro p l e R s mid args below meth c ad0 n0 s0 d ⟨hx, hb, hml, hrt, hlk, hown, hnm, hts, hnst, hao, hK, hC, hex, hA⟩ hr hn L S m
  intro Qm hk ad H locs ls hab hS hl hlen hwl hws had h1 h2
  have hn3 : NX0 ≤ m.2.2.2.1 := hab.2.2.1
  have hk := hk ad H locs ls hab hS hl hlen hwl (wfs_c (v := mR z) ⟨Int.le_of_lt h0, Int.lt_of_lt_of_le h1000 hn3⟩ hws) had h1 h2
  replace hk : W p l e R s mid args below meth c H locs _ _ Qm (F0 mid (pc + 2) ls (va_rf (gr ad z) :: S.map (gvv ad))) := hk
  rw [va_rf_gr (by omega), had z (Int.lt_of_lt_of_le h1000 hn)] at hk
  exact va_ldcM hx hb hown (hts _ hli) (ho s ad0 hC) hd hk
end
