/-! arraycopy -/
set_option maxHeartbeats 800000
section
variable {Γ : gT} {y pc : Nat}
theorem stp_1 {np slo shi dk : Nat} {ex : List Nat} {cz : Int} {L : mL} {n dp dst sp src : Int} {r : List mV} {m : mM} : stp rO (.invokedynamic 0, np, 0, 1 :: slo :: shi :: dk :: ex, cz) L (mI n :: mI dp :: mR dst :: mI sp :: mR src :: r) m = bif Nat.ble r.length 4 then r_ck ((slo ≤ m.2.1 src ∧ m.2.1 src ≤ shi) ∧ m.2.1 dst = dk ∧ 0 ≤ n ∧ (0 ≤ sp ∧ sp + n ≤ m.2.2.1 src) ∧ (0 ≤ dp ∧ dp + n ≤ m.2.2.1 dst)) (np, L, r, mcpy m src sp dst dp n) else none := by
  have e : rO (.invokedynamic 0, np, 0, 1 :: slo :: shi :: dk :: ex, cz) (mI n :: mI dp :: mR dst :: mI sp :: mR src :: r) m = bif Nat.ble r.length 4 then some (some ((slo ≤ m.2.1 src ∧ m.2.1 src ≤ shi) ∧ m.2.1 dst = dk ∧ 0 ≤ n ∧ (0 ≤ sp ∧ sp + n ≤ m.2.2.1 src) ∧ (0 ≤ dp ∧ dp + n ≤ m.2.2.1 dst)), r, mcpy m src sp dst dp n) else none := rfl
  unfold stp
  dsimp only
  rw [e]
  cases Nat.ble r.length 4 <;> rfl
theorem arr_en {ad : Int → Nat} {m : mM} {H : Heap} {a : Int} {k : Nat} (hab : AbH Γ ad m H) (hk : m.2.1 a = k) (h0 : 103 ≤ k) (h1 : k ≤ 108) :
    (NX0 ≤ a ∧ a < m.2.2.2.1) ∧ (0 ≤ m.2.2.1 a ∧ m.2.2.1 a ≤ 65536) ∧ wfc Γ m a ∧ (wsO Γ ad m)[(a - NX0).toNat]? = some (ad a, .inl (gdA Γ k, (m.2.2.1 a).toNat, acont ad k (m.1 a))) ∧ va_rf (gr ad a) = .ref (ad a) := by
  have hz := dyn_of hab.2.2 hk (dynK_arr h0 h1) (by omega)
  have hc := (hab.2.2.2.2.1 a hz.1 hz.2).2
  have h1000 : (1000 : Int) ≤ a := hz.1
  have hg := wsO_get (Γ := Γ) (ad := ad) hz.1 hz.2
  rw [ent_arr hk h0] at hg
  exact ⟨hz, (hc.2.1 (by omega)).1, hc, hg, va_rf_gr (by omega)⟩
theorem o32_nn {x : Int} (h : i32 x) (h0 : 0 ≤ x) : ¬ Int32.ofInt x < 0 := by
  rw [← o32_0, o32_lt h o32_i]
  omega
/-- the four words of arraycopy -/
def cpW (Γ : gT) (y idx : Nat) : Prop := Cond.methodLink (gnm Γ y).cls idx arraycopyName ∈ lw_all ∧ Cond.native arraycopyName ∈ lw_all ∧ Cond.static arraycopyName ∈ lw_all ∧ Cond.initialized "java/lang/System" ∈ lw_all
theorem nfw : nativeFrameWords "java/lang/System" "arraycopy" 5 ≤ 30 := by decide +kernel
theorem cp_prim {k t : Nat} {ty : FieldType} {idx : Nat} (hk0 : 103 ≤ k) (hk1 : k ≤ 105) (ht : (gtys Γ)[t]? = some (gdA Γ k, ty)) (hprim : refKind ty = false) (hfit : ∀ z : Int, i32 z → (k = 103 → -128 ≤ z ∧ z ≤ 127) → fits ty (.int (Int32.ofInt z)) = true) (hW : cpW Γ y idx) (hd : decode (gby Γ y) pc = .ok (.invokestatic idx, 3))
    {p : Program} {l : Launch} {e : Env} {R : Room} {s : State} {mid : MethodId} {args : Array Value} {below : List Frame} {meth : Method} {c : Code} {ad0 : Int → Nat} {n0 s0 : Int} {d : Nat} (hcx : Cx Γ y p s mid args meth c ad0) (hr : Rm l R d n0 s0) {L : mL} {r : List mV} {m : mM} {n dp dst sp src : Int} (h4 : r.length ≤ 4)
    (hsk : m.2.1 src = k) (hdk : m.2.1 dst = k) (hn0 : 0 ≤ n) (hs0 : 0 ≤ sp) (hs1 : sp + n ≤ m.2.2.1 src) (hd0 : 0 ≤ dp) (hd1 : dp + n ≤ m.2.2.1 dst) {Qm : State → Prop}
    (hk : WA Γ p l e R s mid args below meth c ad0 n0 s0 Qm (pc + 3, L, r, mcpy m src sp dst dp n)) : WA Γ p l e R s mid args below meth c ad0 n0 s0 Qm (pc, L, mI n :: mI dp :: mR dst :: mI sp :: mR src :: r, m) := by
  obtain ⟨hx, hb, hml, hrt, hlk, hown, hnm, hts, hnst, hao, hK, hC, hex, hA⟩ := hcx
  intro ad H locs ls hab hS hl hlen hwl hws had h1 h2
  dsimp only at hab hl hlen hwl hws h1 h2
  obtain ⟨hzs, hls, hcs, hgs, hrs⟩ := arr_en hab hsk (by omega) (by omega)
  obtain ⟨hzd, hld, hcd, hgd, hrd⟩ := arr_en hab hdk (by omega) (by omega)
  rw [acont_i hk1] at hgs hgd
  have in_ : i32 n := ⟨by omega, by omega⟩
  have isp : i32 sp := ⟨by omega, by omega⟩
  have idp : i32 dp := ⟨by omega, by omega⟩
  show W p l e R s mid args below meth c H locs _ _ Qm (F0 mid pc ls (.int (Int32.ofInt n) :: .int (Int32.ofInt dp) :: va_rf (gr ad dst) :: .int (Int32.ofInt sp) :: va_rf (gr ad src) :: r.map (gvv ad)))
  rw [hrs, hrd]
  have hsum := cat_sum ad r
  have hl2 : 60 * d + 60 ≤ R.locals := by have := hr.2.1; omega
  have hnf := nfw
  have hsv := (hcs.2.1 (by omega)).2
  refine va_copyi hx hb (by rw [hl.1, hlen]) hown (hts _ hW.1) (hts _ hW.2.1) (hts _ hW.2.2.1) (hts _ hW.2.2.2) hK hab.1 hab.2.1 hS _ _ t t hgs hgd ht ht hprim (o32_nn isp hs0) (o32_nn idp hd0) (o32_nn in_ hn0) ?_ ?_ (fun i hi => ?_) (by have := hr.1; omega) (by omega) hd (fun H1 locs1 hP hD hS1 => ?_)
  · rw [o32_cl isp hs0, o32_cl in_ hn0]; omega
  · rw [o32_cl idp hd0, o32_cl in_ hn0]; omega
  · have hj := hsv (((Int32.ofInt sp).toNatClampNeg + i : Nat) : Int)
    rw [if_pos (by omega)] at hj
    exact hfit _ hj (fun h => hcs.2.2.1 (by omega) _)
  · rw [o32_cl isp hs0, o32_cl in_ hn0, o32_cl idp hd0, cpy_eq Int32.ofInt m src dst sp dp n hs0 hd0 hn0] at hP hD
    refine hk ad H1 locs1 ls (arr_cp hab hdk (by omega) (by omega) (acont_i hk1) (fun j hj0 hj1 => ⟨?_, fun h => hcs.2.2.1 (by omega) _, fun h => by omega⟩) hP hD) hS1 hl hlen hwl (wfs_t (wfs_t (wfs_t (wfs_t (wfs_t hws))))) had h1 h2
    have hj := hsv (sp + (j - dp))
    rw [if_pos (by omega)] at hj
    rw [if_pos hk1]
    exact hj
theorem ss_cpi {idx : Nat} {ex : List Nat} {cz : Int} (hW : cpW Γ y idx) (hd : decode (gby Γ y) pc = .ok (.invokestatic idx, 3)) : SS Γ y pc (.invokedynamic 0, pc + 3, 0, 1 :: 105 :: 105 :: 105 :: ex, cz) := by
  intro p l e R s mid args below meth c ad0 n0 s0 d hcx hr hn L S m
  rcases S with _ | ⟨n | n | n, _ | ⟨dp | dp | dp, _ | ⟨dst | dst | dst, _ | ⟨sp | sp | sp, _ | ⟨src | src | src, r⟩⟩⟩⟩⟩ <;> first | exact True.intro | skip
  rw [stp_1]
  cases h4 : Nat.ble r.length 4 with
  | false => exact True.intro
  | true =>
    intro hck Qm hk
    obtain ⟨hsk, hdk, hn0, hs, hd'⟩ := hck
    exact cp_prim (k := 105) (t := 2) (ty := .int) (by omega) (by omega) rfl rfl (fun _ _ _ => rfl) hW hd hcx hr (Nat.le_of_ble_eq_true h4) (by omega) hdk hn0 hs.1 hs.2 hd'.1 hd'.2 hk
theorem ss_cpb {idx : Nat} {ex : List Nat} {cz : Int} (ho : oT Γ 102 .byte (fun _ x => .int (Int32.ofInt x)) (fun x => -128 ≤ x ∧ x ≤ 127)) (hW : cpW Γ y idx) (hd : decode (gby Γ y) pc = .ok (.invokestatic idx, 3)) : SS Γ y pc (.invokedynamic 0, pc + 3, 0, 1 :: 102 :: 103 :: 103 :: ex, cz) := by
  intro p l e R s mid args below meth c ad0 n0 s0 d hcx hr hn L S m
  rcases S with _ | ⟨n | n | n, _ | ⟨dp | dp | dp, _ | ⟨dst | dst | dst, _ | ⟨sp | sp | sp, _ | ⟨src | src | src, r⟩⟩⟩⟩⟩ <;> first | exact True.intro | skip
  rw [stp_1]
  cases h4 : Nat.ble r.length 4 with
  | false => exact True.intro
  | true =>
    intro hck Qm hk
    obtain ⟨hsk, hdk, hn0, hs, hd'⟩ := hck
    have h4 := Nat.le_of_ble_eq_true h4
    by_cases h3 : m.2.1 src = 103
    · exact cp_prim (k := 103) (t := 0) (ty := .byte) (by omega) (by omega) rfl rfl (fun z _ hz => o32_fb (hz rfl).1 (hz rfl).2) hW hd hcx hr h4 h3 hdk hn0 hs.1 hs.2 hd'.1 hd'.2 hk
    obtain ⟨hx, hb, hml, hrt, hlk, hown, hnm, hts, hnst, hao, hK, hC, hex, hA⟩ := hcx
    intro ad H locs ls hab hS hl hlen hwl hws had h1 h2
    dsimp only at hab hl hlen hwl hws h1 h2
    obtain ⟨hz, e1, e2, e3⟩ := old_of (k := 102) (z := src) hab.2.2 (by omega) ho.1 ho.2.1
    obtain ⟨hT, hlen0, hwf⟩ := ho.2.2 s ad0 hC src e1
    obtain ⟨hzd, hld, hcd, hgd, hrd⟩ := arr_en hab hdk (by omega) (by omega)
    rw [acont_i (by omega)] at hgd
    have hs1 := hs.2
    rw [e3] at hs1
    have in_ : i32 n := ⟨by omega, by omega⟩
    have isp : i32 sp := ⟨by omega, by omega⟩
    have idp : i32 dp := ⟨by omega, by omega⟩
    show W p l e R s mid args below meth c H locs _ _ Qm (F0 mid pc ls (.int (Int32.ofInt n) :: .int (Int32.ofInt dp) :: va_rf (gr ad dst) :: .int (Int32.ofInt sp) :: va_rf (gr ad src) :: r.map (gvv ad)))
    rw [hrd, va_rf_gr (show src ≠ 0 by omega), had src (Int.lt_of_lt_of_le hz.2 hn)]
    have hsum := cat_sum ad r
    have hl2 : 60 * d + 60 ≤ R.locals := by have := hr.2.1; omega
    have hnf := nfw
    refine vk_copyt hx hb (by rw [hl.1, hlen]) hown (hts _ hW.1) (hts _ hW.2.1) (hts _ hW.2.2.1) (hts _ hW.2.2.2) hK hab.1 hab.2.1 hS (f := fun j : Nat => Int32.ofInt (m.1 src j)) (by rw [e2]; exact hT) _ 0 hgd rfl (o32_nn isp hs.1) (o32_nn idp hd'.1) (o32_nn in_ hn0) ?_ ?_ (fun i hi => ?_) (by have := hr.1; omega) (by omega) hd (fun H1 locs1 hP hD hS1 => ?_)
    · rw [o32_cl isp hs.1, o32_cl in_ hn0]; omega
    · rw [o32_cl idp hd'.1, o32_cl in_ hn0]; have := hd'.2; omega
    · rw [o32_cl in_ hn0] at hi
      rw [o32_cl isp hs.1, e2]
      have := hwf ((sp.toNat + i : Nat) : Int) (by omega) (by omega)
      exact o32_fb this.1 this.2
    · rw [o32_cl isp hs.1, o32_cl in_ hn0, o32_cl idp hd'.1, cpy_eq Int32.ofInt m src dst sp dp n hs.1 hd'.1 hn0] at hP hD
      refine hk ad H1 locs1 ls (arr_cp hab hdk (by omega) (by omega) (acont_i (by omega)) (fun j hj0 hj1 => ?_) hP hD) hS1 hl hlen hwl (wfs_t (wfs_t (wfs_t (wfs_t (wfs_t hws))))) had h1 h2
      have := hwf (sp + (j - dp)) (by omega) (by omega)
      rw [e2]
      refine ⟨?_, fun _ => this, fun h => by omega⟩
      rw [if_pos (by omega)]
      exact ⟨by omega, by omega⟩
end
