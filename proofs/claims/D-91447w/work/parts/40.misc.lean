/-! a switch with an offset; casts that may meet null -/
set_option maxHeartbeats 800000
section
variable {Γ : gT} {y pc : Nat}
theorem ss_tsx {dflt lo hi : Int} {offs : Array Int} {len dpc : Nat} {ts : List Nat} {cz : Int} (hd : decode (gby Γ y) pc = .ok (.tableswitch dflt lo hi offs, len)) (hlo : lo = cz) (hhi : hi = cz + ts.length - 1) (hof : offs.toList = ts.map (fun t : Nat => (t : Int) - (pc : Int))) (hdp : (pc : Int) + dflt = (dpc : Int)) : SS Γ y pc (.monitorexit, dpc, 0, tsw 0 ts, cz) := by
  intro p l e R s mid args below meth c ad0 n0 s0 d ⟨hx, hb, hml, hrt, hlk, hown, hnm, hts, hnst, hao, hK, hC, hex, hA⟩ hr hn L S m
  rcases S with _ | ⟨a | a | a, r⟩ <;> first | exact True.intro | skip
  intro Qm hk ad H locs ls hab hS hl hlen hwl hws had h1 h2
  obtain ⟨q1, q2⟩ := tsw_in ts 0 hk
  have ha : (Int32.ofInt a).toInt = a := o32 (wfs_h hws)
  by_cases hin : ((0 : Nat) : Int) ≤ a - cz ∧ a - cz < ((0 : Nat) : Int) + ts.length
  · obtain ⟨t, e1, e2⟩ := q1 hin
    refine lv_tableIn (off := (t : Int) - (pc : Int)) (tgt := t) hx hb hd (by rw [ha]; omega) (by rw [ha]; omega) ?_ (by omega) (e2 ad H locs ls hab hS hl hlen hwl (wfs_t hws) had h1 h2)
    have e3 : (a - cz - ((0 : Nat) : Int)).toNat = (a - cz).toNat := by omega
    rw [e3] at e1
    rw [ha, hlo, ← Array.getElem?_toList, hof, List.getElem?_map, e1]
    rfl
  · refine lv_tableOut (tgt := dpc) hx hb hd (by rw [ha]; omega) hdp (q2 hin ad H locs ls hab hS hl hlen hwl (wfs_t hws) had h1 h2)
theorem ss_castC {idx lo hi od : Nat} {nm : String} {ex : List Nat} {cz : Int} (hc : ∀ k, (lo ≤ k ∧ k ≤ hi) ∨ k = od → castOk Γ k nm) (hli : Cond.classLink (gnm Γ y).cls idx nm ∈ lw_all) (hd : decode (gby Γ y) pc = .ok (.checkcast idx, 3)) : SS Γ y pc (.checkcast 0, pc + 3, 0, lo :: hi :: od :: ex, cz) :=
  ss_cast hc hli (fun p l e R s mid args below meth c ad0 H locs cells slots Q ls rest hcx hk => lv_castN hcx.1 hcx.2.1 hd hk) hd
end
