/-! new cells -/
set_option maxHeartbeats 800000
section
variable {Γ : gT} {y pc : Nat}
def adn (ad : Int → Nat) (x : Int) (q : Nat) : Int → Nat := fun z => if z = x then q else ad z
theorem adn_ne {ad : Int → Nat} {x : Int} {q : Nat} {z : Int} (h : z < x) : adn ad x q z = ad z := by
  unfold adn
  rw [if_neg (by omega)]
theorem adn_eq {ad : Int → Nat} {x : Int} {q : Nat} : adn ad x q x = q := by
  unfold adn
  rw [if_pos rfl]
theorem gr_same {ad ad' : Int → Nat} {nx : Int} (h : ∀ z, z < nx → ad' z = ad z) {z : Int} (hz : z < nx) : gr ad' z = gr ad z := by
  unfold gr
  rw [h z hz]
/-- a cell whose contents are old has the same entry -/
theorem ent_same {ad ad' : Int → Nat} {m m' : mM} {z : Int} (h : ∀ z, z < m.2.2.2.1 → ad' z = ad z) (hw : wfc Γ m z) (e1 : m'.1 z = m.1 z) (e2 : m'.2.1 z = m.2.1 z) (e3 : m'.2.2.1 z = m.2.2.1 z) : ent Γ ad' m' z = ent Γ ad m z := by
  unfold ent
  rw [e1, e2, e3]
  by_cases hk : m.2.1 z ≤ 50
  · rw [if_pos hk, if_pos hk]
    congr 2
    refine List.map_congr_left (fun j hj => ?_)
    exact gvv_same h (hw.1 hk j (List.mem_range.mp hj))
  · rw [if_neg hk, if_neg hk]
    have hv := (hw.2.1 (by omega)).2
    unfold acont
    by_cases h5 : m.2.1 z ≤ 105
    · rw [if_pos h5, if_pos h5]
    · by_cases h6 : m.2.1 z = 106
      · rw [if_neg h5, if_neg h5, if_pos h6, if_pos h6]
      · rw [if_neg h5, if_neg h5, if_neg h6, if_neg h6]
        have e : (fun j : Nat => gr ad' (m.1 z j)) = fun j : Nat => gr ad (m.1 z j) := by
          funext j
          have hj := hv (j : Int)
          rw [if_neg h5, if_neg h6] at hj
          exact gr_same h hj.2
        rw [e]
theorem mnew_ne {m : mM} {k : Nat} {len n : Int} {z : Int} (h : z ≠ m.2.2.2.1) : (mnew m k len n).1 z = m.1 z ∧ (mnew m k len n).2.1 z = m.2.1 z ∧ (mnew m k len n).2.2.1 z = m.2.2.1 z := by
  refine ⟨?_, ?_, ?_⟩
  · funext j
    show (if z = m.2.2.2.1 then 0 else m.1 z j) = m.1 z j
    rw [if_neg h]
  · show (if z = m.2.2.2.1 then k else m.2.1 z) = m.2.1 z
    rw [if_neg h]
  · show (if z = m.2.2.2.1 then len else m.2.2.1 z) = m.2.2.1 z
    rw [if_neg h]
theorem mnew_eq {m : mM} {k : Nat} {len n : Int} : (mnew m k len n).1 m.2.2.2.1 = (fun _ => 0) ∧ (mnew m k len n).2.1 m.2.2.2.1 = k ∧ (mnew m k len n).2.2.1 m.2.2.2.1 = len := by
  refine ⟨?_, ?_, ?_⟩
  · funext j
    show (if m.2.2.2.1 = m.2.2.2.1 then 0 else m.1 _ j) = 0
    rw [if_pos rfl]
  · show (if m.2.2.2.1 = m.2.2.2.1 then k else m.2.1 _) = k
    rw [if_pos rfl]
  · show (if m.2.2.2.1 = m.2.2.2.1 then len else m.2.2.1 _) = len
    rw [if_pos rfl]
theorem wsO_push {ad : Int → Nat} {m : mM} {k : Nat} {len n : Int} {q : Nat} (hw : wfm Γ m) : wsO Γ (adn ad m.2.2.2.1 q) (mnew m k len n) = wsO Γ ad m ++ [(q, ent Γ (adn ad m.2.2.2.1 q) (mnew m k len n) m.2.2.2.1)] := by
  unfold wsO
  have hn : (1000 : Int) ≤ m.2.2.2.1 := hw.1
  have e : ((mnew m k len n).2.2.2.1 - NX0).toNat = (m.2.2.2.1 - NX0).toNat + 1 := by
    show (m.2.2.2.1 + 1 - 1000).toNat = (m.2.2.2.1 - 1000).toNat + 1
    omega
  rw [e, List.range_succ, List.map_append]
  congr 1
  · refine List.map_congr_left (fun i hi => ?_)
    have hi : i < (m.2.2.2.1 - 1000).toNat := List.mem_range.mp hi
    have hlt : NX0 + (i : Int) < m.2.2.2.1 := by show (1000 : Int) + (i : Int) < _; omega
    obtain ⟨hd, hc⟩ := hw.2.2.1 (NX0 + (i : Int)) (by show (1000 : Int) ≤ 1000 + (i : Int); omega) hlt
    obtain ⟨e1, e2, e3⟩ := mnew_ne (m := m) (k := k) (len := len) (n := n) (z := NX0 + (i : Int)) (by omega)
    rw [adn_ne hlt, ent_same (fun z hz => adn_ne hz) hc e1 e2 e3]
  · have e2 : NX0 + (((m.2.2.2.1 - NX0).toNat : Nat) : Int) = m.2.2.2.1 := by show (1000 : Int) + (((m.2.2.2.1 - 1000).toNat : Nat) : Int) = _; omega
    simp only [List.map_cons, List.map_nil, e2, adn_eq]
theorem wfv_0 {nx : Int} (h : 0 < nx) (t : Nat) : wfv nx (mtag t 0) := by
  unfold mtag
  split
  · exact ⟨by omega, by omega⟩
  · exact ⟨by omega, by omega⟩
  · exact ⟨Int.le_refl 0, h⟩
theorem AbH_push {ad : Int → Nat} {m : mM} {H H1 : Heap} {k : Nat} {len n : Int} {q : Nat} {e : va_E} (hab : AbH Γ ad m H) (he : ent Γ (adn ad m.2.2.2.1 q) (mnew m k len n) m.2.2.2.1 = e) (hP : va_P (gD Γ) (gcl Γ) (wsO Γ ad m ++ [(q, e)]) H1) (hD : va_D (gA Γ) (wsO Γ ad m ++ [(q, e)])) (hk : dynK (gcl Γ) k) (hlen : 50 < k → 0 ≤ len ∧ len ≤ 65536) :
    AbH Γ (adn ad m.2.2.2.1 q) (mnew m k len n) H1 := by
  have hw := hab.2.2
  have hn : (1000 : Int) ≤ m.2.2.2.1 := hw.1
  have ep := wsO_push (ad := ad) (k := k) (len := len) (n := n) (q := q) hw
  rw [he] at ep
  refine ⟨by rw [ep]; exact hP, by rw [ep]; exact hD, ?_, ?_, ?_, ?_⟩
  · show (1000 : Int) ≤ m.2.2.2.1 + 1
    omega
  · intro z hz
    show 0 < z ∧ z < m.2.2.2.1 + 1
    by_cases h : z = m.2.2.2.1
    · omega
    · rw [(mnew_ne h).2.1] at hz
      have := hw.2.1 z hz
      omega
  · intro z hz0 hz1
    have hz1 : z < m.2.2.2.1 + 1 := hz1
    by_cases h : z = m.2.2.2.1
    · rw [h]
      obtain ⟨e1, e2, e3⟩ := mnew_eq (m := m) (k := k) (len := len) (n := n)
      refine ⟨by rw [e2]; exact hk, ?_, ?_, fun _ j => by rw [e1]; exact (show (-128 : Int) ≤ 0 ∧ (0 : Int) ≤ 127 by decide), fun _ j => Or.inl (by rw [e1])⟩
      · intro hk5 j hj
        rw [e1]
        exact wfv_0 (by show 0 < m.2.2.2.1 + 1; omega) _
      · intro hk5
        rw [e2] at hk5
        refine ⟨by rw [e3]; exact hlen hk5, fun j => ?_⟩
        rw [e1, e2]
        have hp : (0 : Int) < m.2.2.2.1 + 1 := by omega
        split
        · exact wfv_0 (nx := m.2.2.2.1 + 1) hp 0
        · split
          · exact wfv_0 (nx := m.2.2.2.1 + 1) hp 1
          · exact wfv_0 (nx := m.2.2.2.1 + 1) hp 2
    · obtain ⟨e1, e2, e3⟩ := mnew_ne (m := m) (k := k) (len := len) (n := n) h
      obtain ⟨hd, hc⟩ := hw.2.2.1 z hz0 (by omega)
      have hup : m.2.2.2.1 ≤ (mnew m k len n).2.2.2.1 := by show m.2.2.2.1 ≤ m.2.2.2.1 + 1; omega
      refine ⟨by rw [e2]; exact hd, ?_, ?_, by rw [e1, e2]; exact hc.2.2.1, ?_⟩
      · rw [e1, e2]
        exact fun h5 j hj => wfv_up hup (hc.1 h5 j hj)
      · rw [e1, e2, e3]
        exact fun h5 => ⟨(hc.2.1 h5).1, fun j => wfv_up hup ((hc.2.1 h5).2 j)⟩
      · rw [e1, e2]
        intro h7 j
        have hj := (hc.2.1 (by omega)).2 j
        rw [if_neg (by omega), if_neg (by omega)] at hj
        rw [(mnew_ne (m := m) (k := k) (len := len) (n := n) (z := m.1 z j) (by have := hj.2; omega)).2.1]
        exact hc.2.2.2 h7 j
  · intro z hz
    have hz' : z < (1000 : Int) := hz
    obtain ⟨e1, e2, e3⟩ := mnew_ne (m := m) (k := k) (len := len) (n := n) (z := z) (by omega)
    rw [e1, e2, e3]
    exact hw.2.2.2 z hz
/-- on with the new cell -/
theorem new_on {p : Program} {l : Launch} {e : Env} {R : Room} {s : State} {mid : MethodId} {args : Array Value} {below : List Frame} {meth : Method} {c : Code} {ad0 : Int → Nat} {n0 s0 : Int} {Qm : State → Prop} {np : Nat} {L : mL} {S : List mV} {m : mM} {k : Nat} {len : Int} {n : Nat} (hn : NX0 ≤ n0)
    (hk : WA Γ p l e R s mid args below meth c ad0 n0 s0 Qm (np, L, mR m.2.2.2.1 :: S, mnew m k len n)) (hck : m.2.2.2.1 + 1 ≤ CXm ∧ m.2.2.2.2 + n ≤ SXm) {ad : Int → Nat} {H1 : Heap} {locs : List Loc} {ls : Array Slot} {q : Nat} (hab : AbH Γ (adn ad m.2.2.2.1 q) (mnew m k len n) H1) (hS : va_S (gA Γ) s.heap H1 locs) (hl : LH ad ls L) (hlen : c.maxLocals = L.length) (hwl : wfL m.2.2.2.1 L) (hws : ∀ v ∈ S, wfv m.2.2.2.1 v)
    (had : ∀ z, z < n0 → ad z = ad0 z) (h1 : n0 ≤ m.2.2.2.1 ∧ m.2.2.2.1 ≤ CXm) (h2 : s0 ≤ m.2.2.2.2 ∧ m.2.2.2.2 ≤ SXm) : W p l e R s mid args below meth c H1 locs ((m.2.2.2.1 - n0).toNat + 1) ((m.2.2.2.2 - s0).toNat + n) Qm (F0 mid np ls (.ref q :: S.map (gvv ad))) := by
  have hn' : (1000 : Int) ≤ n0 := hn
  have hup : m.2.2.2.1 ≤ (mnew m k len n).2.2.2.1 := by show m.2.2.2.1 ≤ m.2.2.2.1 + 1; omega
  have hk := hk (adn ad m.2.2.2.1 q) H1 locs ls hab hS (LH_same (fun z hz => adn_ne hz) hwl hl) hlen (wfL_up hup hwl) (wfs_c (v := mR m.2.2.2.1) ⟨by have := h1.1; omega, by show m.2.2.2.1 < m.2.2.2.1 + 1; omega⟩ (fun v hv => wfv_up hup (hws v hv))) (fun z hz => (adn_ne (Int.lt_of_lt_of_le hz h1.1)).trans (had z hz))
    ⟨Int.le_trans h1.1 hup, hck.1⟩ ⟨by show s0 ≤ m.2.2.2.2 + n; have := h2.1; omega, hck.2⟩
  have e1 : ((mnew m k len n).2.2.2.1 - n0).toNat = (m.2.2.2.1 - n0).toNat + 1 := by show (m.2.2.2.1 + 1 - n0).toNat = _; have := h1.1; omega
  have e2 : ((mnew m k len n).2.2.2.2 - s0).toNat = (m.2.2.2.2 - s0).toNat + n := by show (m.2.2.2.2 + n - s0).toNat = _; have := h2.1; omega
  have e3 : (mR m.2.2.2.1 :: S).map (gvv (adn ad m.2.2.2.1 q)) = .ref q :: S.map (gvv ad) := by
    rw [List.map_cons, map_same (fun z hz => adn_ne hz) S hws]
    show va_rf (gr (adn ad m.2.2.2.1 q) m.2.2.2.1) :: _ = _
    rw [va_rf_gr (by have := h1.1; omega), adn_eq]
  dsimp only at hk
  rw [e1, e2, e3] at hk
  exact hk
theorem ss_new {idx k n : Nat} {ex : List Nat} {cz : Int} {C : String} {T : u_T} {ty : Nat → FieldType} (hcl : clOk Γ k C T n ty) (hdf : ∀ j, j < n → defaultValue (ty j) = gvv (fun _ => 0) (mtag (tgOf (ty j)) 0)) (hli : Cond.classLink (gnm Γ y).cls idx C ∈ lw_all) (hin : Cond.instantiable C n ∈ lw_all) (hini : Cond.initialized C ∈ lw_all) (hd : decode (gby Γ y) pc = .ok (.new idx, 3)) :
    SS Γ y pc (.new 0, pc + 3, 0, k :: n :: ex, cz) := by
  intro p l e R s mid args below meth c ad0 n0 s0 d ⟨hx, hb, hml, hrt, hlk, hown, hnm, hts, hnst, hao, hK, hC, hex, hA⟩ hr hn L S m
  intro hck Qm hk ad H locs ls hab hS hl hlen hwl hws had h1 h2
  dsimp only at hab hl hlen hwl hws h1 h2
  obtain ⟨hr1, hr2, hr3, hr4, hr5⟩ := hr
  refine va_new hx hb hts hcl.2.2.1 ty hcl.2.2.2.1 hown (hts _ hli) (hts _ hin) (hts _ hini) hK hab.1 hab.2.1 hS hA hcl.1 (fs := (List.range n).map (fun j => gvv (fun _ => 0) (mtag (tgOf (ty j)) 0))) (fun j hj => ?_) ?_ ?_ hd (fun q H1 hP hD hS1 => ?_)
  · rw [hdf j hj]
    simp [vp_V, hj]
  · show (m.2.2.2.1 - n0).toNat + 1 ≤ R.cells
    have := hck.1; have := h1.1
    omega
  · show (m.2.2.2.2 - s0).toNat + n ≤ R.slots
    have := hck.2; have := h2.1
    omega
  · refine new_on hn hk hck (AbH_push hab ?_ hP hD (dynK_obj hcl) (fun h => by have := hcl.2.2.2.2.2.2; omega)) hS1 hl hlen hwl hws had h1 h2
    obtain ⟨e1, e2, e3⟩ := mnew_eq (m := m) (k := k) (len := 0) (n := n)
    rw [ent_obj (k := k) e2 hcl, e1]
    congr 2
    refine List.map_congr_left (fun j hj => ?_)
    cases htg : tgOf (ty j) with
    | zero => rfl
    | succ t =>
      cases t with
      | zero => rfl
      | succ t => rfl
end
