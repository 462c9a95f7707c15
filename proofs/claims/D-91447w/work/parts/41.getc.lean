/-! getClass of an Object array -/
set_option maxHeartbeats 800000
section
variable {Γ : gT} {y pc : Nat}
theorem stp_2 {np k c : Nat} {ex : List Nat} {cz : Int} {L : mL} {a : Int} {r : List mV} {m : mM} : stp rO (.invokedynamic 0, np, 0, 2 :: k :: c :: ex, cz) L (mR a :: r) m = bif Nat.ble r.length 4 then r_ck (m.2.1 a = k) (np, L, mR c :: r, m) else none := by
  have e : rO (.invokedynamic 0, np, 0, 2 :: k :: c :: ex, cz) (mR a :: r) m = bif Nat.ble r.length 4 then some (some (m.2.1 a = k), mR c :: r, m) else none := rfl
  unfold stp
  dsimp only
  rw [e]
  cases Nat.ble r.length 4 <;> rfl
abbrev gcN : MethodName := ⟨"java/lang/Object", "getClass", "()Ljava/lang/Class;"⟩
theorem arr_cell {ad : Int → Nat} {m : mM} {H : Heap} {s : State} {a : Int} (hK : va_K (gD Γ) (gcl Γ) (gtys Γ) s) (hab : AbH Γ ad m H) (hk : m.2.1 a = 107) : ∃ cell : Cell, H[ad a]? = some cell ∧ cell.vm.isStatics = false ∧ s.vm.findClass "[Ljava/lang/Object;" = some cell.cls := by
  obtain ⟨hz, hl, hc, hg, hrf⟩ := arr_en hab hk (by omega) (by omega)
  have h1 : H[ad a]? = some (vp_cell (gdA Γ 107) ((m.2.2.1 a).toNat, acont ad 107 (m.1 a))) := hab.1 _ _ hg
  rw [acont_q (by omega)] at h1
  obtain ⟨kA, comp, -, -, -, h2⟩ := (hK.2 4 (gdA Γ 107, .object "java/lang/Object") rfl).2
  have e : "[" ++ (FieldType.object "java/lang/Object").toString = "[Ljava/lang/Object;" := by decide +kernel
  rw [e] at h2
  exact ⟨_, h1, rfl, h2⟩
theorem ss_getC {idx z : Nat} {ex : List Nat} {cz : Int} (h0 : 0 < z) (h1000 : z < 1000) (ho : ∀ s ad, gC Γ s s.heap ad → va_Mi "[Ljava/lang/Object;" (ad z) s) (hli : Cond.methodLink (gnm Γ y).cls idx gcN ∈ lw_all) (hde : Cond.declares gcN ∈ lw_tbl) (hse : Cond.selects "[Ljava/lang/Object;" gcN gcN ∈ lw_all) (hin : Cond.instanceMethod gcN ∈ lw_all) (hna : Cond.native gcN ∈ lw_all) (hd : decode (gby Γ y) pc = .ok (.invokevirtual idx, 3)) : SS Γ y pc (.invokedynamic 0, pc + 3, 0, 2 :: 107 :: z :: ex, cz) := by
  intro p l e R s mid args below meth c ad0 n0 s0 d ⟨hx, hb, hml, hrt, hlk, hown, hnm, hts, hnst, hao, hK, hC, hex, hA⟩ hr hn L S m
  rcases S with _ | ⟨a | a | a, r⟩ <;> first | exact True.intro | (rcases r with _ | ⟨_ | _ | _, _ | ⟨_ | _ | _, _ | ⟨_ | _ | _, _ | ⟨_ | _ | _, _⟩⟩⟩⟩ <;> exact True.intro) | skip
  rw [stp_2]
  cases h4 : Nat.ble r.length 4 with
  | false => exact True.intro
  | true =>
    have h4 := Nat.le_of_ble_eq_true h4
    intro hck Qm hk ad H locs ls hab hS hl hlen hwl hws had h1 h2
    dsimp only at hab hl hlen hwl hws h1 h2
    have hn3 : (1000 : Int) ≤ m.2.2.2.1 := hab.2.2.1
    have hk := hk ad H locs ls hab hS hl hlen hwl (wfs_c (v := mR (z : Int)) ⟨by omega, (show (z : Int) < m.2.2.2.1 by omega)⟩ (wfs_t hws)) had h1 h2
    replace hk : W p l e R s mid args below meth c H locs _ _ Qm (F0 mid (pc + 3) ls (va_rf (gr ad (z : Int)) :: r.map (gvv ad))) := hk
    have hn' : (1000 : Int) ≤ n0 := hn
    rw [va_rf_gr (by omega), had z (by omega)] at hk
    obtain ⟨hz, -, -, -, hrf⟩ := arr_en hab hck (by omega) (by omega)
    show W p l e R s mid args below meth c H locs _ _ Qm (F0 mid pc ls (va_rf (gr ad a) :: r.map (gvv ad)))
    rw [hrf]
    have hsum := cat_sum ad r
    have hl2 : 60 * d + 60 ≤ R.locals := by have := hr.2.1; omega
    exact va_getC hx hb (by rw [hl.1, hlen]) hown (hts _ hli) (va_Nw.use rfl (hnst _ hde rfl)) (hts _ hse) (hts _ hin) (hts _ hna) (ho s ad0 hC) (arr_cell hK hab hck) (by have := hr.1; omega) (by omega) hd hk
end
