/-! constants by a wide index -/
set_option maxHeartbeats 800000
section
variable {Γ : gT} {y pc : Nat}
theorem ss_ldcwI {z : Int} {v : Int32} {i : Nat} (hd : decode (gby Γ y) pc = .ok (.ldc_w i, 3)) (hw : Jvm.Cond.constant (gnm Γ y).cls i v ∈ lw_all) (hz : i32 z ∧ v = Int32.ofInt z) : SS Γ y pc (.ldc 0, pc + 3, 0, [0], z) := by
  intro p l e R s mid args below meth c ad0 n0 s0 d ⟨hx, hb, hml, hrt, hlk, hown, hnm, hts, hnst, hao, hK, hC, hex, hA⟩ hr hn L S m
  intro Qm hk ad H locs ls hab hS hl hlen hwl hws had h1 h2
  have hk := hk ad H locs ls hab hS hl hlen hwl (wfs_c (v := mI (z)) hz.1 hws) had h1 h2
  exact lv_ldcw hx hb hown (by rw [← hz.2]; exact hts _ hw) hd hk
theorem ldcw_str {p : Program} {l : Launch} {e : Env} {R : Room} {s : State} {m : MethodId} {args : Array Value} {below : List Frame} {meth : Method} {c : Code} {T : State} {locs : List Loc} {cells slots : Nat}
    (X : Stand p l e R s m args below meth c T locs cells slots) (hexec : p.tables.exec = Jvm.exec) {own text : String} {index : Nat} {a : Addr} (hown : s.vm.findClass own = some m.cls)
    (hconst : (Cond.stringRef own index text).before #[] s = true) (hev : (Term.string own index).eval #[] s none [] s = some (.ref a)) {g : JFrame} (hg : g.method = m) (hdg : decode c.code g.pc = .ok (.ldc_w index, 3)) :
    ∀ target, Steps p.tables e below (T.setTop { g with pc := g.pc + 3, stack := .ref a :: g.stack }) target → Steps p.tables e below (T.setTop g) target := by
  obtain ⟨k, cf, i, a', hk, hcf, hcp, -, hr, hev'⟩ := Cond.stringRef_spec hown hconst
  cases hev.symm.trans hev'
  obtain ⟨k', hk', he⟩ := X.warmed.alike.2.2 _ _ hk
  have hr' : k'.resolved[index]? = some (some (.string a)) := by
    rcases X.warmed.entry hk hk' index with h | ⟨h, -⟩
    · rw [h]; exact hr
    · rw [hr] at h; cases h
  intro target hrest
  subst hg
  jvm_step X.here [hexec, hdg, ldc_w.wp_string (e := e) (s := T) (f := g) X.here.top hk' (by rw [he]; exact hcf) hcp hr']
  exact hrest
theorem ss_ldcwS {idx : Nat} {tx : String} {z : Int} (h0 : 0 < z) (h1000 : z < NX0) (ho : ∀ s ad, gC Γ s s.heap ad → vk_R (gnm Γ y).cls idx tx (ad z) s) (hd : decode (gby Γ y) pc = .ok (.ldc_w idx, 3)) : SS Γ y pc (.ldc 0, pc + 3, 0, [2], z) := by
  intro p l e R s mid args below meth c ad0 n0 s0 d ⟨hx, hb, hml, hrt, hlk, hown, hnm, hts, hnst, hao, hK, hC, hex, hA⟩ hr hn L S m
  intro Qm hk ad H locs ls hab hS hl hlen hwl hws had h1 h2
  have hn3 : NX0 ≤ m.2.2.2.1 := hab.2.2.1
  have hk := hk ad H locs ls hab hS hl hlen hwl (wfs_c (v := mR z) ⟨Int.le_of_lt h0, Int.lt_of_lt_of_le h1000 hn3⟩ hws) had h1 h2
  replace hk : W p l e R s mid args below meth c H locs _ _ Qm (F0 mid (pc + 3) ls (va_rf (gr ad z) :: S.map (gvv ad))) := hk
  rw [va_rf_gr (by omega), had z (Int.lt_of_lt_of_le h1000 hn)] at hk
  intro T hT X
  obtain ⟨t, a1, b1⟩ := hk T hT X
  have hZ := ho s ad0 hC
  exact ⟨t, ldcw_str X hx hown (text := tx) (a := ad0 z) hZ.1 hZ.2 (g := F0 mid pc ls (S.map (gvv ad))) rfl (by rw [hb]; exact hd) t a1, b1⟩
end
/-! a cast of a byte array -/
section
variable {Γ : gT} {y pc : Nat}
theorem ss_castB {idx : Nat} {ex : List Nat} {cz : Int} (hli : Cond.classLink (gnm Γ y).cls idx "[B" ∈ lw_all) (hd : decode (gby Γ y) pc = .ok (.checkcast idx, 3)) : SS Γ y pc (.checkcast 0, pc + 3, 0, 103 :: 103 :: 103 :: ex, cz) := by
  intro p l e R s mid args below meth c ad0 n0 s0 d hcx hr hn L S m
  have hcx' := hcx
  obtain ⟨hx, hb, hml, hrt, hlk, hown, hnm, hts, hnst, hao, hK, hC, hex, hA⟩ := hcx'
  rcases S with _ | ⟨a | a | a, r⟩ <;> first | exact True.intro | skip
  intro hck Qm hk ad H locs ls hab hS hl hlen hwl hws had h1 h2
  have hk := hk ad H locs ls hab hS hl hlen hwl hws had h1 h2
  show W p l e R s mid args below meth c H locs _ _ Qm (F0 mid pc ls (va_rf (gr ad a) :: r.map (gvv ad)))
  replace hk : W p l e R s mid args below meth c H locs _ _ Qm (F0 mid (pc + 3) ls (va_rf (gr ad a) :: r.map (gvv ad))) := hk
  by_cases h0 : a = 0
  · subst h0
    exact lv_castN hx hb hd hk
  · have h103 : m.2.1 a = 103 := by rcases hck.resolve_left h0 with h | h <;> omega
    obtain ⟨hz, hl0, hc0, hg, hrf⟩ := arr_en hab h103 (by omega) (by omega)
    rw [hrf] at hk ⊢
    have hra := (hK.2 0 (gdA Γ 103, .byte) rfl).2
    have hfc : s.vm.findClass "[B" = some (gdA Γ 103) := by
      have e : "[" ++ FieldType.byte.toString = "[B" := by decide +kernel
      rw [← e]
      exact hra
    exact va_castA hx hb hown (hts _ hli) hab.1 _ hg hfc hd hk
end
/-! Math.max, Math.min -/
section
variable {Γ : gT} {y pc : Nat}
theorem stp_m0 {np : Nat} {ex : List Nat} {cz : Int} {L : mL} {a b : Int} {r : List mV} {m : mM} : stp rO (.swap, np, 0, 0 :: ex, cz) L (mI b :: mI a :: r) m = bif Nat.ble r.length 4 then r_go (np, L, mI (max a b) :: r, m) else none := by
  have e : rO (.swap, np, 0, 0 :: ex, cz) (mI b :: mI a :: r) m = bif Nat.ble r.length 4 then some (none, mI (max a b) :: r, m) else none := rfl
  unfold stp; dsimp only; rw [e]
  cases Nat.ble r.length 4 <;> rfl
theorem stp_m1 {np : Nat} {ex : List Nat} {cz : Int} {L : mL} {a b : Int} {r : List mV} {m : mM} : stp rO (.swap, np, 0, 1 :: ex, cz) L (mI b :: mI a :: r) m = bif Nat.ble r.length 4 then r_go (np, L, mI (min a b) :: r, m) else none := by
  have e : rO (.swap, np, 0, 1 :: ex, cz) (mI b :: mI a :: r) m = bif Nat.ble r.length 4 then some (none, mI (min a b) :: r, m) else none := rfl
  unfold stp; dsimp only; rw [e]
  cases Nat.ble r.length 4 <;> rfl
theorem stp_m2 {np : Nat} {ex : List Nat} {cz : Int} {L : mL} {a b : Int} {r : List mV} {m : mM} : stp rO (.swap, np, 0, 2 :: ex, cz) L (mJ b :: mJ a :: r) m = bif Nat.ble r.length 4 then r_go (np, L, mJ (max a b) :: r, m) else none := by
  have e : rO (.swap, np, 0, 2 :: ex, cz) (mJ b :: mJ a :: r) m = bif Nat.ble r.length 4 then some (none, mJ (max a b) :: r, m) else none := rfl
  unfold stp; dsimp only; rw [e]
  cases Nat.ble r.length 4 <;> rfl
theorem stp_m3 {np : Nat} {ex : List Nat} {cz : Int} {L : mL} {a b : Int} {r : List mV} {m : mM} : stp rO (.swap, np, 0, 3 :: ex, cz) L (mJ b :: mJ a :: r) m = bif Nat.ble r.length 4 then r_go (np, L, mJ (min a b) :: r, m) else none := by
  have e : rO (.swap, np, 0, 3 :: ex, cz) (mJ b :: mJ a :: r) m = bif Nat.ble r.length 4 then some (none, mJ (min a b) :: r, m) else none := rfl
  unfold stp; dsimp only; rw [e]
  cases Nat.ble r.length 4 <;> rfl
theorem ss_mm0 {idx : Nat} {ex : List Nat} {cz : Int} (hli : Cond.methodLink (gnm Γ y).cls idx Lib.Math.max.name ∈ lw_all) (hw : Cond.static Lib.Math.max.name ∈ lw_all ∧ Cond.initialized "java/lang/Math" ∈ lw_all ∧ Cond.code Lib.Math.max.name Lib.Math.max.code 2 (some .int) ∈ lw_all) (hd : decode (gby Γ y) pc = .ok (.invokestatic idx, 3)) : SS Γ y pc (.swap, pc + 3, 0, 0 :: ex, cz) := by
  intro p l e R s mid args below meth c ad0 n0 s0 d ⟨hx, hb, hml, hrt, hlk, hown, hnm, hts, hnst, hao, hK, hC, hex, hA⟩ hr hn L S m
  rcases S with _ | ⟨b | b | b, _ | ⟨a | a | a, r⟩⟩ <;> first | exact True.intro | skip
  rw [stp_m0]
  cases h4 : Nat.ble r.length 4 with
  | false => exact True.intro
  | true =>
    have h4 := Nat.le_of_ble_eq_true h4
    intro Qm hk ad H locs ls hab hS hl hlen hwl hws had h1 h2
    dsimp only at hab hl hlen hwl hws h1 h2
    have ib : i32 b := wfs_h hws
    have ia : i32 a := wfs_h (wfs_t hws)
    have im : i32 (max a b) := by rcases Int.le_total a b with h | h <;> (first | rw [Int.max_eq_right h] | rw [Int.max_eq_left h] | rw [Int.min_eq_left h] | rw [Int.min_eq_right h]) <;> assumption
    have hk := hk ad H locs ls hab hS hl hlen hwl (wfs_c (v := mI (max a b)) im (wfs_t (wfs_t hws))) had h1 h2
    have hsum := cat_sum ad r
    obtain ⟨hr1, hr2, hr3, hr4, hr5⟩ := hr
    refine va_mmax hx hb (by rw [hl.1, hlen]) hown (hts _ hli) (hts _ hw.1) (hts _ hw.2.1) (hts _ hw.2.2) (by omega) (by omega) (show (m.2.2.2.1 - n0).toNat ≤ R.cells by have := h1.1; have := h1.2; omega) (show (m.2.2.2.2 - s0).toNat ≤ R.slots by have := h2.1; have := h2.2; omega) hd ?_
    have ev : (if Int32.ofInt a < Int32.ofInt b then Int32.ofInt b else Int32.ofInt a) = Int32.ofInt (max a b) := by
      by_cases h : a < b
      · rw [if_pos ((o32_lt ia ib).mpr h)]
        congr 1; omega
      · rw [if_neg (fun q => h ((o32_lt ia ib).mp q))]
        congr 1; omega
    rw [ev]
    exact hk
theorem ss_mm1 {idx : Nat} {ex : List Nat} {cz : Int} (hli : Cond.methodLink (gnm Γ y).cls idx Lib.Math.min.name ∈ lw_all) (hw : Cond.static Lib.Math.min.name ∈ lw_all ∧ Cond.initialized "java/lang/Math" ∈ lw_all ∧ Cond.code Lib.Math.min.name Lib.Math.min.code 2 (some .int) ∈ lw_all) (hd : decode (gby Γ y) pc = .ok (.invokestatic idx, 3)) : SS Γ y pc (.swap, pc + 3, 0, 1 :: ex, cz) := by
  intro p l e R s mid args below meth c ad0 n0 s0 d ⟨hx, hb, hml, hrt, hlk, hown, hnm, hts, hnst, hao, hK, hC, hex, hA⟩ hr hn L S m
  rcases S with _ | ⟨b | b | b, _ | ⟨a | a | a, r⟩⟩ <;> first | exact True.intro | skip
  rw [stp_m1]
  cases h4 : Nat.ble r.length 4 with
  | false => exact True.intro
  | true =>
    have h4 := Nat.le_of_ble_eq_true h4
    intro Qm hk ad H locs ls hab hS hl hlen hwl hws had h1 h2
    dsimp only at hab hl hlen hwl hws h1 h2
    have ib : i32 b := wfs_h hws
    have ia : i32 a := wfs_h (wfs_t hws)
    have im : i32 (min a b) := by rcases Int.le_total a b with h | h <;> (first | rw [Int.max_eq_right h] | rw [Int.max_eq_left h] | rw [Int.min_eq_left h] | rw [Int.min_eq_right h]) <;> assumption
    have hk := hk ad H locs ls hab hS hl hlen hwl (wfs_c (v := mI (min a b)) im (wfs_t (wfs_t hws))) had h1 h2
    have hsum := cat_sum ad r
    obtain ⟨hr1, hr2, hr3, hr4, hr5⟩ := hr
    refine va_mmin hx hb (by rw [hl.1, hlen]) hown (hts _ hli) (hts _ hw.1) (hts _ hw.2.1) (hts _ hw.2.2) (by omega) (by omega) (show (m.2.2.2.1 - n0).toNat ≤ R.cells by have := h1.1; have := h1.2; omega) (show (m.2.2.2.2 - s0).toNat ≤ R.slots by have := h2.1; have := h2.2; omega) hd ?_
    have ev : (if Int32.ofInt b < Int32.ofInt a then Int32.ofInt b else Int32.ofInt a) = Int32.ofInt (min a b) := by
      by_cases h : b < a
      · rw [if_pos ((o32_lt ib ia).mpr h)]
        congr 1; omega
      · rw [if_neg (fun q => h ((o32_lt ib ia).mp q))]
        congr 1; omega
    rw [ev]
    exact hk
theorem ss_mm2 {idx : Nat} {ex : List Nat} {cz : Int} (hli : Cond.methodLink (gnm Γ y).cls idx Lib.MathLoose.max_long.x ∈ lw_all) (hw : Cond.static Lib.MathLoose.max_long.x ∈ lw_all ∧ Cond.initialized "java/lang/Math" ∈ lw_all ∧ Cond.code Lib.MathLoose.max_long.x Lib.MathLoose.max_long.code 4 (some .long) ∈ lw_all) (hd : decode (gby Γ y) pc = .ok (.invokestatic idx, 3)) : SS Γ y pc (.swap, pc + 3, 0, 2 :: ex, cz) := by
  intro p l e R s mid args below meth c ad0 n0 s0 d ⟨hx, hb, hml, hrt, hlk, hown, hnm, hts, hnst, hao, hK, hC, hex, hA⟩ hr hn L S m
  rcases S with _ | ⟨b | b | b, _ | ⟨a | a | a, r⟩⟩ <;> first | exact True.intro | skip
  rw [stp_m2]
  cases h4 : Nat.ble r.length 4 with
  | false => exact True.intro
  | true =>
    have h4 := Nat.le_of_ble_eq_true h4
    intro Qm hk ad H locs ls hab hS hl hlen hwl hws had h1 h2
    dsimp only at hab hl hlen hwl hws h1 h2
    have ib : i64 b := wfs_h hws
    have ia : i64 a := wfs_h (wfs_t hws)
    have im : i64 (max a b) := by rcases Int.le_total a b with h | h <;> (first | rw [Int.max_eq_right h] | rw [Int.max_eq_left h] | rw [Int.min_eq_left h] | rw [Int.min_eq_right h]) <;> assumption
    have hk := hk ad H locs ls hab hS hl hlen hwl (wfs_c (v := mJ (max a b)) im (wfs_t (wfs_t hws))) had h1 h2
    have hsum := cat_sum ad r
    obtain ⟨hr1, hr2, hr3, hr4, hr5⟩ := hr
    refine va_mmax_long hx hb (by rw [hl.1, hlen]) hown (hts _ hli) (hts _ hw.1) (hts _ hw.2.1) (hts _ hw.2.2) (by omega) (by omega) (show (m.2.2.2.1 - n0).toNat ≤ R.cells by have := h1.1; have := h1.2; omega) (show (m.2.2.2.2 - s0).toNat ≤ R.slots by have := h2.1; have := h2.2; omega) hd ?_
    have ev : (if Int64.ofInt b < Int64.ofInt a then Int64.ofInt a else Int64.ofInt b) = Int64.ofInt (max a b) := by
      by_cases h : b < a
      · rw [if_pos ((o64_lt ib ia).mpr h)]
        congr 1; omega
      · rw [if_neg (fun q => h ((o64_lt ib ia).mp q))]
        congr 1; omega
    rw [ev]
    exact hk
theorem ss_mm3 {idx : Nat} {ex : List Nat} {cz : Int} (hli : Cond.methodLink (gnm Γ y).cls idx Lib.MathLoose.min_long.x ∈ lw_all) (hw : Cond.static Lib.MathLoose.min_long.x ∈ lw_all ∧ Cond.initialized "java/lang/Math" ∈ lw_all ∧ Cond.code Lib.MathLoose.min_long.x Lib.MathLoose.min_long.code 4 (some .long) ∈ lw_all) (hd : decode (gby Γ y) pc = .ok (.invokestatic idx, 3)) : SS Γ y pc (.swap, pc + 3, 0, 3 :: ex, cz) := by
  intro p l e R s mid args below meth c ad0 n0 s0 d ⟨hx, hb, hml, hrt, hlk, hown, hnm, hts, hnst, hao, hK, hC, hex, hA⟩ hr hn L S m
  rcases S with _ | ⟨b | b | b, _ | ⟨a | a | a, r⟩⟩ <;> first | exact True.intro | skip
  rw [stp_m3]
  cases h4 : Nat.ble r.length 4 with
  | false => exact True.intro
  | true =>
    have h4 := Nat.le_of_ble_eq_true h4
    intro Qm hk ad H locs ls hab hS hl hlen hwl hws had h1 h2
    dsimp only at hab hl hlen hwl hws h1 h2
    have ib : i64 b := wfs_h hws
    have ia : i64 a := wfs_h (wfs_t hws)
    have im : i64 (min a b) := by rcases Int.le_total a b with h | h <;> (first | rw [Int.max_eq_right h] | rw [Int.max_eq_left h] | rw [Int.min_eq_left h] | rw [Int.min_eq_right h]) <;> assumption
    have hk := hk ad H locs ls hab hS hl hlen hwl (wfs_c (v := mJ (min a b)) im (wfs_t (wfs_t hws))) had h1 h2
    have hsum := cat_sum ad r
    obtain ⟨hr1, hr2, hr3, hr4, hr5⟩ := hr
    refine va_mmin_long hx hb (by rw [hl.1, hlen]) hown (hts _ hli) (hts _ hw.1) (hts _ hw.2.1) (hts _ hw.2.2) (by omega) (by omega) (show (m.2.2.2.1 - n0).toNat ≤ R.cells by have := h1.1; have := h1.2; omega) (show (m.2.2.2.2 - s0).toNat ≤ R.slots by have := h2.1; have := h2.2; omega) hd ?_
    have ev : (if Int64.ofInt b < Int64.ofInt a then Int64.ofInt b else Int64.ofInt a) = Int64.ofInt (min a b) := by
      by_cases h : b < a
      · rw [if_pos ((o64_lt ib ia).mpr h)]
        congr 1; omega
      · rw [if_neg (fun q => h ((o64_lt ib ia).mp q))]
        congr 1; omega
    rw [ev]
    exact hk
end
