/-! native calls: Object's constructor, arraycopy, clone -/
set_option maxHeartbeats 800000
section
variable {Γ : gT} {y pc : Nat}
theorem stp_4 {np : Nat} {ex : List Nat} {cz : Int} {L : mL} {a : Int} {r : List mV} {m : mM} : stp rO (.invokedynamic 0, np, 0, 4 :: ex, cz) L (mR a :: r) m = bif Nat.ble r.length 4 then r_ck (m.2.1 a ≠ 0) (np, L, r, m) else none := by
  have e : rO (.invokedynamic 0, np, 0, 4 :: ex, cz) (mR a :: r) m = bif Nat.ble r.length 4 then some (some (m.2.1 a ≠ 0), r, m) else none := rfl
  unfold stp
  dsimp only
  rw [e]
  cases Nat.ble r.length 4 <;> rfl
theorem ss_oinit {idx : Nat} {ex : List Nat} {cz : Int} (hli : Cond.methodLink (gnm Γ y).cls idx Lib.objectInit ∈ lw_all) (hin : Cond.instanceMethod Lib.objectInit ∈ lw_all) (hco : Cond.code Lib.objectInit ⟨#[0xb1]⟩ 1 none ∈ lw_all) (hd : decode (gby Γ y) pc = .ok (.invokespecial idx, 3)) : SS Γ y pc (.invokedynamic 0, pc + 3, 0, 4 :: ex, cz) := by
  intro p l e R s mid args below meth c ad0 n0 s0 d ⟨hx, hb, hml, hrt, hlk, hown, hnm, hts, hnst, hao, hK, hC, hex, hA⟩ hr hn L S m
  rcases S with _ | ⟨a | a | a, r⟩ <;> first | exact True.intro | (rcases r with _ | ⟨_ | _ | _, _ | ⟨_ | _ | _, _ | ⟨_ | _ | _, _ | ⟨_ | _ | _, _⟩⟩⟩⟩ <;> exact True.intro) | skip
  rw [stp_4]
  cases h4 : Nat.ble r.length 4 with
  | false => exact True.intro
  | true =>
    have h4 := Nat.le_of_ble_eq_true h4
    intro hck Qm hk ad H locs ls hab hS hl hlen hwl hws had h1 h2
    dsimp only at hab hl hlen hwl hws h1 h2
    have hk := hk ad H locs ls hab hS hl hlen hwl (wfs_t hws) had h1 h2
    have ha := hab.2.2.2.1 a hck
    show W p l e R s mid args below meth c H locs _ _ Qm (F0 mid pc ls (va_rf (gr ad a) :: r.map (gvv ad)))
    rw [va_rf_gr (by omega)]
    have hs := cat_sum ad r
    have hl2 : 60 * d + 60 ≤ R.locals := by have := hr.2.1; omega
    refine W.objInit hx hb hown (hts _ hli) (hts _ hin) (hts _ hco) rfl (show ls.size = c.maxLocals by rw [hl.1, hlen]) rfl hd (by have := hr.1; omega) ?_ hk
    show 2 * 0 + ((r.map (gvv ad)).map fun v => v.category).sum + 12 ≤ R.locals
    omega
/-- a copy into an array: the memory after -/
theorem arr_cp {ad : Int → Nat} {m : mM} {H H1 : Heap} {src dst sp dp n : Int} {k : Nat} {f' : (Nat → Int32) ⊕ (Nat → Int64) ⊕ (Nat → UInt32) ⊕ (Nat → UInt64) ⊕ (Nat → Option Nat)} (hab : AbH Γ ad m H) (hk : m.2.1 dst = k) (h0 : 103 ≤ k) (h1 : k ≤ 108)
    (hf : acont ad k (fun j => if dp ≤ j ∧ j < dp + n then m.1 src (sp + (j - dp)) else m.1 dst j) = f') (hv : ∀ j, dp ≤ j → j < dp + n → wfv m.2.2.2.1 (if k ≤ 105 then mI (m.1 src (sp + (j - dp))) else if k = 106 then mJ (m.1 src (sp + (j - dp))) else mR (m.1 src (sp + (j - dp)))) ∧ (k = 103 → -128 ≤ m.1 src (sp + (j - dp)) ∧ m.1 src (sp + (j - dp)) ≤ 127) ∧ (k = 107 → m.1 src (sp + (j - dp)) = 0 ∨ (1 ≤ m.2.1 (m.1 src (sp + (j - dp))) ∧ m.2.1 (m.1 src (sp + (j - dp))) ≤ 50)))
    (hP : va_P (gD Γ) (gcl Γ) ((wsO Γ ad m).set (dst - NX0).toNat (ad dst, .inl (gdA Γ k, (m.2.2.1 dst).toNat, f'))) H1) (hD : va_D (gA Γ) ((wsO Γ ad m).set (dst - NX0).toNat (ad dst, .inl (gdA Γ k, (m.2.2.1 dst).toNat, f')))) : AbH Γ ad (mcpy m src sp dst dp n) H1 := by
  have hw := hab.2.2
  have hz := dyn_of hab.2.2 hk (dynK_arr h0 h1) (by omega)
  have h0' : (1000 : Int) ≤ dst := hz.1
  have c1 : ∀ z, z ≠ dst → (mcpy m src sp dst dp n).1 z = m.1 z := by
    intro z hz
    funext j
    show (if z = dst ∧ dp ≤ j ∧ j < dp + n then m.1 src (sp + (j - dp)) else m.1 z j) = m.1 z j
    rw [if_neg (fun h => hz h.1)]
  have c2 : (mcpy m src sp dst dp n).1 dst = fun j => if dp ≤ j ∧ j < dp + n then m.1 src (sp + (j - dp)) else m.1 dst j := by
    funext j
    show (if dst = dst ∧ dp ≤ j ∧ j < dp + n then m.1 src (sp + (j - dp)) else m.1 dst j) = _
    simp
  have e1 := wsO_upd (Γ := Γ) (ad := ad) (m' := mcpy m src sp dst dp n) hz.1 hz.2 rfl (fun z hz => by
    unfold ent
    rw [c1 z hz]
    rfl)
  have e2 : ent Γ ad (mcpy m src sp dst dp n) dst = .inl (gdA Γ k, (m.2.2.1 dst).toNat, f') := by
    rw [ent_arr (m := mcpy m src sp dst dp n) (z := dst) (k := k) hk h0, ← hf, c2]
    rfl
  rw [e2] at e1
  refine ⟨by rw [e1]; exact hP, by rw [e1]; exact hD, hw.1, hw.2.1, fun z hz0 hz1 => ⟨(hw.2.2.1 z hz0 hz1).1, ?_⟩, fun z hz0 => ⟨(hw.2.2.2 z hz0).1, ?_, (hw.2.2.2 z hz0).2.2⟩⟩
  · have hc := (hw.2.2.1 z hz0 hz1).2
    by_cases e : z = dst
    · subst e
      refine ⟨fun q => ?_, fun q => ⟨(hc.2.1 q).1, fun j => ?_⟩, fun q j => ?_, fun q j => ?_⟩
      · have q : m.2.1 z ≤ 50 := q
        omega
      · rw [c2]
        show wfv m.2.2.2.1 (if m.2.1 z ≤ 105 then mI (if dp ≤ j ∧ j < dp + n then m.1 src (sp + (j - dp)) else m.1 z j) else if m.2.1 z = 106 then mJ (if dp ≤ j ∧ j < dp + n then m.1 src (sp + (j - dp)) else m.1 z j) else mR (if dp ≤ j ∧ j < dp + n then m.1 src (sp + (j - dp)) else m.1 z j))
        by_cases hj : dp ≤ j ∧ j < dp + n
        · rw [if_pos hj, hk]
          exact (hv j hj.1 hj.2).1
        · rw [if_neg hj]
          exact (hc.2.1 q).2 j
      · have q : m.2.1 z = 103 := q
        rw [c2]
        show -128 ≤ (if dp ≤ j ∧ j < dp + n then m.1 src (sp + (j - dp)) else m.1 z j) ∧ (if dp ≤ j ∧ j < dp + n then m.1 src (sp + (j - dp)) else m.1 z j) ≤ 127
        by_cases hj : dp ≤ j ∧ j < dp + n
        · rw [if_pos hj]
          exact (hv j hj.1 hj.2).2.1 (by omega)
        · rw [if_neg hj]
          exact hc.2.2.1 q j
      · have q : m.2.1 z = 107 := q
        rw [c2]
        show (if dp ≤ j ∧ j < dp + n then m.1 src (sp + (j - dp)) else m.1 z j) = 0 ∨ (1 ≤ m.2.1 (if dp ≤ j ∧ j < dp + n then m.1 src (sp + (j - dp)) else m.1 z j) ∧ m.2.1 (if dp ≤ j ∧ j < dp + n then m.1 src (sp + (j - dp)) else m.1 z j) ≤ 50)
        by_cases hj : dp ≤ j ∧ j < dp + n
        · rw [if_pos hj]
          exact (hv j hj.1 hj.2).2.2 (by omega)
        · rw [if_neg hj]
          exact hc.2.2.2 q j
    · refine ⟨?_, ?_, ?_, ?_⟩
      · rw [c1 z e]; exact hc.1
      · rw [c1 z e]; exact hc.2.1
      · rw [c1 z e]; exact hc.2.2.1
      · rw [c1 z e]; exact hc.2.2.2
  · have hz' : z < (1000 : Int) := hz0
    rw [c1 z (by omega)]
    exact (hw.2.2.2 z hz0).2.1
theorem cpy_eq {α : Type} (F : Int → α) (m : mM) (src dst sp dp n : Int) (h0 : 0 ≤ sp) (h1 : 0 ≤ dp) (h2 : 0 ≤ n) : va_cpy (fun j : Nat => F (m.1 src j)) (fun j : Nat => F (m.1 dst j)) sp.toNat dp.toNat n.toNat = fun j : Nat => F (if dp ≤ (j : Int) ∧ (j : Int) < dp + n then m.1 src (sp + ((j : Int) - dp)) else m.1 dst j) := by
  funext j
  unfold va_cpy
  by_cases h : dp.toNat ≤ j ∧ j < dp.toNat + n.toNat
  · have h' : dp ≤ (j : Int) ∧ (j : Int) < dp + n := ⟨by omega, by omega⟩
    rw [if_pos h, if_pos h']
    have e : ((sp.toNat + (j - dp.toNat) : Nat) : Int) = sp + ((j : Int) - dp) := by omega
    show F (m.1 src ((sp.toNat + (j - dp.toNat) : Nat) : Int)) = _
    rw [e]
  · have h' : ¬ (dp ≤ (j : Int) ∧ (j : Int) < dp + n) := fun q => h ⟨by omega, by omega⟩
    rw [if_neg h, if_neg h']
end
