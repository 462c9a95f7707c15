/-! clone of a byte array -/
set_option maxHeartbeats 800000
section
variable {Γ : gT} {y pc : Nat}
theorem stp_3 {np : Nat} {ex : List Nat} {cz : Int} {L : mL} {a : Int} {r : List mV} {m : mM} : stp rO (.invokedynamic 0, np, 0, 3 :: ex, cz) L (mR a :: r) m = bif Nat.ble r.length 4 then r_ck (m.2.1 a = 103 ∧ m.2.2.2.1 + 1 ≤ CXm ∧ m.2.2.2.2 + m.2.2.1 a ≤ SXm) (np, L, mR m.2.2.2.1 :: r, mclo m a) else none := by
  have e : rO (.invokedynamic 0, np, 0, 3 :: ex, cz) (mR a :: r) m = bif Nat.ble r.length 4 then some (some (m.2.1 a = 103 ∧ m.2.2.2.1 + 1 ≤ CXm ∧ m.2.2.2.2 + m.2.2.1 a ≤ SXm), mR m.2.2.2.1 :: r, mclo m a) else none := rfl
  unfold stp
  dsimp only
  rw [e]
  cases Nat.ble r.length 4 <;> rfl
theorem AbH_pushG {ad : Int → Nat} {m m' : mM} {H H1 : Heap} {q : Nat} {e : va_E} (hab : AbH Γ ad m H) (hn' : m'.2.2.2.1 = m.2.2.2.1 + 1) (hne : ∀ z, z ≠ m.2.2.2.1 → m'.1 z = m.1 z ∧ m'.2.1 z = m.2.1 z ∧ m'.2.2.1 z = m.2.2.1 z) (he : ent Γ (adn ad m.2.2.2.1 q) m' m.2.2.2.1 = e) (hP : va_P (gD Γ) (gcl Γ) (wsO Γ ad m ++ [(q, e)]) H1) (hD : va_D (gA Γ) (wsO Γ ad m ++ [(q, e)])) (hk : dynK (gcl Γ) (m'.2.1 m.2.2.2.1)) (hc : wfc Γ m' m.2.2.2.1) :
    AbH Γ (adn ad m.2.2.2.1 q) m' H1 := by
  have hw := hab.2.2
  have hn : (1000 : Int) ≤ m.2.2.2.1 := hw.1
  have ep : wsO Γ (adn ad m.2.2.2.1 q) m' = wsO Γ ad m ++ [(q, e)] := by
    unfold wsO
    have e0 : (m'.2.2.2.1 - NX0).toNat = (m.2.2.2.1 - NX0).toNat + 1 := by
      rw [hn']
      show (m.2.2.2.1 + 1 - 1000).toNat = (m.2.2.2.1 - 1000).toNat + 1
      omega
    rw [e0, List.range_succ, List.map_append]
    congr 1
    · refine List.map_congr_left (fun i hi => ?_)
      have hi : i < (m.2.2.2.1 - 1000).toNat := List.mem_range.mp hi
      have hlt : NX0 + (i : Int) < m.2.2.2.1 := by show (1000 : Int) + (i : Int) < _; omega
      obtain ⟨hd, hc⟩ := hw.2.2.1 (NX0 + (i : Int)) (by show (1000 : Int) ≤ 1000 + (i : Int); omega) hlt
      obtain ⟨e1, e2, e3⟩ := hne (NX0 + (i : Int)) (by omega)
      rw [adn_ne hlt, ent_same (fun z hz => adn_ne hz) hc e1 e2 e3]
    · have e2 : NX0 + (((m.2.2.2.1 - NX0).toNat : Nat) : Int) = m.2.2.2.1 := by show (1000 : Int) + (((m.2.2.2.1 - 1000).toNat : Nat) : Int) = _; omega
      simp only [List.map_cons, List.map_nil, e2, adn_eq, he]
  refine ⟨by rw [ep]; exact hP, by rw [ep]; exact hD, ?_, ?_, ?_, ?_⟩
  · show (1000 : Int) ≤ m'.2.2.2.1
    omega
  · intro z hz
    rw [hn']
    by_cases h : z = m.2.2.2.1
    · omega
    · rw [(hne z h).2.1] at hz
      have := hw.2.1 z hz
      omega
  · intro z hz0 hz1
    rw [hn'] at hz1
    by_cases h : z = m.2.2.2.1
    · rw [h]
      exact ⟨hk, hc⟩
    · obtain ⟨e1, e2, e3⟩ := hne z h
      obtain ⟨hd, hc⟩ := hw.2.2.1 z hz0 (by omega)
      have hup : m.2.2.2.1 ≤ m'.2.2.2.1 := by omega
      refine ⟨by rw [e2]; exact hd, ?_, ?_, by rw [e1, e2]; exact hc.2.2.1, ?_⟩
      · rw [e1, e2]
        exact fun h5 j hj => wfv_up hup (hc.1 h5 j hj)
      · rw [e1, e2, e3]
        exact fun h5 => ⟨(hc.2.1 h5).1, fun j => wfv_up hup ((hc.2.1 h5).2 j)⟩
      · rw [e1, e2]
        intro h7 j
        have hj := (hc.2.1 (by omega)).2 j
        rw [if_neg (by omega), if_neg (by omega)] at hj
        rw [(hne (m.1 z j) (by have := hj.2; omega)).2.1]
        exact hc.2.2.2 h7 j
  · intro z hz
    have hz' : z < (1000 : Int) := hz
    obtain ⟨e1, e2, e3⟩ := hne z (by omega)
    rw [e1, e2, e3]
    exact hw.2.2.2 z hz
theorem new_onG {p : Program} {l : Launch} {e : Env} {R : Room} {s : State} {mid : MethodId} {args : Array Value} {below : List Frame} {meth : Method} {c : Code} {ad0 : Int → Nat} {n0 s0 : Int} {Qm : State → Prop} {np : Nat} {L : mL} {S : List mV} {m m' : mM} {n : Nat} (f1 : m'.2.2.2.1 = m.2.2.2.1 + 1) (f2 : m'.2.2.2.2 = m.2.2.2.2 + n) (hn : NX0 ≤ n0)
    (hk : WA Γ p l e R s mid args below meth c ad0 n0 s0 Qm (np, L, mR m.2.2.2.1 :: S, m')) (hck : m.2.2.2.1 + 1 ≤ CXm ∧ m.2.2.2.2 + n ≤ SXm) {ad : Int → Nat} {H1 : Heap} {locs : List Loc} {ls : Array Slot} {q : Nat} (hab : AbH Γ (adn ad m.2.2.2.1 q) m' H1) (hS : va_S (gA Γ) s.heap H1 locs) (hl : LH ad ls L) (hlen : c.maxLocals = L.length) (hwl : wfL m.2.2.2.1 L) (hws : ∀ v ∈ S, wfv m.2.2.2.1 v)
    (had : ∀ z, z < n0 → ad z = ad0 z) (h1 : n0 ≤ m.2.2.2.1 ∧ m.2.2.2.1 ≤ CXm) (h2 : s0 ≤ m.2.2.2.2 ∧ m.2.2.2.2 ≤ SXm) : W p l e R s mid args below meth c H1 locs ((m.2.2.2.1 - n0).toNat + 1) ((m.2.2.2.2 - s0).toNat + n) Qm (F0 mid np ls (.ref q :: S.map (gvv ad))) := by
  have hn' : (1000 : Int) ≤ n0 := hn
  have hup : m.2.2.2.1 ≤ m'.2.2.2.1 := by omega
  have hk := hk (adn ad m.2.2.2.1 q) H1 locs ls hab hS (LH_same (fun z hz => adn_ne hz) hwl hl) hlen (wfL_up hup hwl) (wfs_c (v := mR m.2.2.2.1) ⟨by have := h1.1; omega, by show m.2.2.2.1 < m'.2.2.2.1; omega⟩ (fun v hv => wfv_up hup (hws v hv))) (fun z hz => (adn_ne (Int.lt_of_lt_of_le hz h1.1)).trans (had z hz))
    ⟨Int.le_trans h1.1 hup, by show m'.2.2.2.1 ≤ CXm; rw [f1]; exact hck.1⟩ ⟨by show s0 ≤ m'.2.2.2.2; have := h2.1; omega, by show m'.2.2.2.2 ≤ SXm; rw [f2]; exact hck.2⟩
  have e1 : (m'.2.2.2.1 - n0).toNat = (m.2.2.2.1 - n0).toNat + 1 := by have := h1.1; omega
  have e2 : (m'.2.2.2.2 - s0).toNat = (m.2.2.2.2 - s0).toNat + n := by have := h2.1; omega
  have e3 : (mR m.2.2.2.1 :: S).map (gvv (adn ad m.2.2.2.1 q)) = .ref q :: S.map (gvv ad) := by
    rw [List.map_cons, map_same (fun z hz => adn_ne hz) S hws]
    show va_rf (gr (adn ad m.2.2.2.1 q) m.2.2.2.1) :: _ = _
    rw [va_rf_gr (by have := h1.1; omega), adn_eq]
  dsimp only at hk
  rw [e1, e2, e3] at hk
  exact hk
abbrev clA : MethodName := ⟨"[B", "clone", "()Ljava/lang/Object;"⟩
abbrev clO : MethodName := ⟨"java/lang/Object", "clone", "()Ljava/lang/Object;"⟩
theorem ss_clone {idx : Nat} {ex : List Nat} {cz : Int} (w1 : Cond.methodLink (gnm Γ y).cls idx clA ∈ lw_all) (w2 : Cond.sameMethod "[B" "java/lang/Object" "clone" "()Ljava/lang/Object;" ∈ lw_all) (w3 : Cond.native clO ∈ lw_all) (w4 : Cond.instanceMethod clO ∈ lw_all) (w5 : Cond.selects "[B" clA clO ∈ lw_all) (w6 : Cond.castable "[B" "java/lang/Cloneable" ∈ lw_tbl) (hd : decode (gby Γ y) pc = .ok (.invokevirtual idx, 3)) : SS Γ y pc (.invokedynamic 0, pc + 3, 0, 3 :: ex, cz) := by
  intro p l e R s mid args below meth c ad0 n0 s0 d ⟨hx, hb, hml, hrt, hlk, hown, hnm, hts, hnst, hao, hK, hC, hex, hA⟩ hr hn L S m
  rcases S with _ | ⟨a | a | a, r⟩ <;> first | exact True.intro | (rcases r with _ | ⟨_ | _ | _, _ | ⟨_ | _ | _, _ | ⟨_ | _ | _, _ | ⟨_ | _ | _, _⟩⟩⟩⟩ <;> exact True.intro) | skip
  rw [stp_3]
  cases h4 : Nat.ble r.length 4 with
  | false => exact True.intro
  | true =>
    have h4 := Nat.le_of_ble_eq_true h4
    intro hck Qm hk ad H locs ls hab hS hl hlen hwl hws had h1 h2
    dsimp only at hab hl hlen hwl hws h1 h2
    obtain ⟨hk3, hc1, hc2⟩ := hck
    obtain ⟨hz, hla, hca, hg, hrf⟩ := arr_en hab hk3 (by omega) (by omega)
    rw [acont_i (by omega)] at hg
    obtain ⟨hr1, hr2, hr3, hr4, hr5⟩ := hr
    have hsum := cat_sum ad r
    have hN : ((m.2.2.1 a).toNat : Int) = m.2.2.1 a := by omega
    show W p l e R s mid args below meth c H locs _ _ Qm (F0 mid pc ls (va_rf (gr ad a) :: r.map (gvv ad)))
    rw [hrf]
    refine va_clone hx hb (by rw [hl.1, hlen]) hown (hts _ w1) (hts _ w2) (hts _ w3) (hts _ w4) (hts _ w5) (hnst _ w6 rfl) hK hab.1 hab.2.1 hS hA _ 0 hg rfl (va_nm_byte (hK.2 0 (gdA Γ 103, .byte) rfl).2) (fun i v hv => ?_) (by omega) (by omega) ?_ ?_ hd (fun q H1 hK1 hP hD hS1 => ?_)
    · by_cases hi : i < (m.2.2.1 a).toNat
      · rw [show (vp_cell (gdA Γ 103) ((m.2.2.1 a).toNat, .inl fun j : Nat => Int32.ofInt (m.1 a j))).slots[i]? = _ from arrV_read _ _ hi] at hv
        cases hv
        have := hca.2.2.1 hk3 (i : Int)
        exact o32_fb this.1 this.2
      · have hsz : (vp_cell (gdA Γ 103) ((m.2.2.1 a).toNat, .inl fun j : Nat => Int32.ofInt (m.1 a j))).slots.size = (m.2.2.1 a).toNat := arrV_size _ _ _
        rw [Array.getElem?_eq_none (by omega)] at hv
        cases hv
    · show (m.2.2.2.1 - n0).toNat + 1 ≤ R.cells
      have := h1.1
      omega
    · show (m.2.2.2.2 - s0).toNat + (m.2.2.1 a).toNat ≤ R.slots
      have := h2.1
      omega
    · have hh1 : (1000 : Int) ≤ a := hz.1
      have c0 : (mclo m a).1 m.2.2.2.1 = m.1 a := by
        funext j
        show (if m.2.2.2.1 = m.2.2.2.1 then m.1 a j else m.1 m.2.2.2.1 j) = m.1 a j
        rw [if_pos rfl]
      obtain ⟨-, c1, c2⟩ := mnew_eq (m := m) (k := 103) (len := m.2.2.1 a) (n := m.2.2.1 a)
      have c1 : (mclo m a).2.1 m.2.2.2.1 = 103 := c1
      have c2 : (mclo m a).2.2.1 m.2.2.2.1 = m.2.2.1 a := c2
      refine new_onG (m' := mclo m a) (n := (m.2.2.1 a).toNat) rfl (by show m.2.2.2.2 + m.2.2.1 a = _; omega) hn hk ⟨hc1, by omega⟩ (AbH_pushG hab rfl (fun z hz => ⟨?_, (mnew_ne hz).2.1, (mnew_ne hz).2.2⟩) ?_ hP hD (by rw [c1]; exact dynK_arr (by omega) (by omega)) ⟨fun h => ?_, fun _ => ⟨by rw [c2]; exact hla, fun j => ?_⟩, fun _ j => ?_, fun h => ?_⟩) hS1 hl hlen hwl (wfs_t hws) had h1 h2
      · funext j
        show (if z = m.2.2.2.1 then m.1 a j else m.1 z j) = m.1 z j
        rw [if_neg hz]
      · rw [ent_arr (k := 103) c1 (by omega), c0, c2, acont_i (by omega)]
      · rw [c1] at h; omega
      · rw [c0, c1]
        have hj := (hca.2.1 (by omega)).2 j
        rw [if_pos (by omega)] at hj
        rw [if_pos (by omega)]
        exact hj
      · rw [c0]; exact hca.2.2.1 hk3 j
      · rw [c1] at h; omega
end
