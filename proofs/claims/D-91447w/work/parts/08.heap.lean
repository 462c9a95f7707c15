/-! fields: slots apart also where two classes of a chain give one name to two final fields; stores by them -/
theorem ap_slots {s : State} {args : Array Value} {D : va_G} {cl : List vw_C} {tys : List (ClassId × FieldType)} {C : String} {T : u_T} {N ci : Nat} {Ts : List Cond} (hts : ∀ w ∈ Ts, w.before args s = true) (hin : ∀ w ∈ u_ws C T N, w ∈ Ts) (ty : Nat → FieldType) (hty : ∀ k, k < N → parseFieldDescriptor (T k).2.2.1 = some (ty k))
    (hnm : ∀ a, a < N → ∀ b, b < N → a ≠ b → (T a).2.1 ≠ (T b).2.1 ∨ ((T a).2.2.2 = true ∧ (T b).2.2.2 = true ∧ (T a).1 ≠ (T b).1)) (hK : va_K D cl tys s) (hc : cl[ci]? = some (C, T, N)) : ∀ x y, x < N → y < N → x ≠ y → (D.2 ci) x ≠ (D.2 ci) y := by
  intro x y hx hy hne
  obtain ⟨hS, -⟩ := hK.1 ci _ hc
  obtain ⟨ca, ka, ia, fa, hia, ea⟩ := hS x hx
  obtain ⟨cb, kb, ib, fb, hib, eb⟩ := hS y hy
  rw [← ea, ← eb]
  rcases hnm x hx y hy hne with h | ⟨fx, fy, ho⟩
  · refine u_apart (u_lays hts hin hx) (u_lays hts hin hy) hia hib ?_
    rw [(State.fieldFound?_type hia (hty x hx)).1, (State.fieldFound?_type hib (hty y hy)).1]
    exact h
  · have lx := hts _ (hin _ (u_in_lay hx))
    have ly := hts _ (hin _ (u_in_lay hy))
    unfold u_lay at lx ly
    rw [if_pos fx] at lx
    rw [if_pos fy] at ly
    obtain ⟨c1, k1, c1', k1', i1, f1, r1, -, hf1, -, -, -, ho1, -, d1, hd1, hn1, -⟩ := Cond.laysFinal_spec lx
    obtain ⟨c2, k2, c2', k2', i2, f2, r2, -, hf2, -, -, -, ho2, -, d2, hd2, hn2, -⟩ := Cond.laysFinal_spec ly
    cases hia.symm.trans hf1
    cases hib.symm.trans hf2
    cases r1.symm.trans r2
    intro hs
    rw [hs] at hd1
    cases hd1.symm.trans hd2
    obtain ⟨ka1, hka1, na1⟩ := Vm.findClass_spec ho1
    obtain ⟨kb1, hkb1, nb1⟩ := Vm.findClass_spec ho2
    cases hka1.symm.trans (State.fieldFound?_spec hia).1
    cases hkb1.symm.trans (State.fieldFound?_spec hib).1
    exact ho (na1.symm.trans (hn1.symm.trans (hn2.trans nb1)))
section
variable {p : Program} {l : Launch} {e : Env} {R : Room} {s : State} {m : MethodId} {args : Array Value} {below : List Frame} {meth : Method} {c : Code} {H : Heap} {locs : List Loc} {cells slots : Nat} {Q : State → Prop}
variable {cc : ByteArray} {pc : Nat} {ls : Array Slot} {rest : List Value} {D : va_G} {cl : List vw_C} {A : Nat → Prop} {a : Nat} {tys : List (ClassId × FieldType)} {ws : va_W} {H0 : Heap}
/-- a store into a field: by an own link (final: in the constructor), or a nest mate's -/
theorem hp_put (hexec : p.tables.exec = Jvm.exec) (hb : c.code = cc) {own ref C : String} {T : u_T} {N ci index : Nat} {Ts : List Cond} (hts : ∀ w ∈ Ts, w.before args s = true) (hin : ∀ w ∈ u_ws C T N, w ∈ Ts) (ty0 : Nat → FieldType) (hty : ∀ k, k < N → parseFieldDescriptor (T k).2.2.1 = some (ty0 k))
    (hnm : ∀ a, a < N → ∀ b, b < N → a ≠ b → (T a).2.1 ≠ (T b).2.1 ∨ ((T a).2.2.2 = true ∧ (T b).2.2.2 = true ∧ (T a).1 ≠ (T b).1)) (hown : s.vm.findClass own = some m.cls) (hK : va_K D cl tys s) (hP : va_P D cl ws H) (hD : va_D A ws) (hS0 : va_S A H0 H locs) (q0 : Nat) {fs : List Value} (he : ws[q0]? = some (a, .inr (ci, fs))) (hc : cl[ci]? = some (C, T, N)) (k : Nat) (hk : k < N)
    (hlink : ((Cond.fieldLink own index ref (T k).2.1 (T k).2.2.1).before args s = true ∧ ((T k).2.2.2 = false ∨ (meth.name = "<init>" ∧ (T k).1 = own))) ∨ (∃ host, (Cond.fieldLinkNest own index ref (T k).2.1 (T k).2.2.1 host).before args s = true ∧ (T k).2.2.2 = false))
    (hsame : ∀ x, s.fieldFound? (T k).1 (T k).2.1 (T k).2.2.1 = some x → s.fieldFound? ref (T k).2.1 (T k).2.2.1 = some x) {v : Value} (hn : narrow (ty0 k) v = v) (hfit : fits (ty0 k) v = true) (hl : k < fs.length) (hdg : decode cc pc = .ok (.putfield index, 3))
    (kk : ∀ (H1 : Heap) (locs1 : List Loc), va_P D cl (ws.set q0 (a, .inr (ci, fs.set k v))) H1 → va_D A (ws.set q0 (a, .inr (ci, fs.set k v))) → va_S A H0 H1 locs1 → W p l e R s m args below meth c H1 locs1 cells slots Q (F0 m (pc + 3) ls rest)) : W p l e R s m args below meth c H locs cells slots Q (F0 m pc ls (v :: .ref a :: rest)) := by
  have hap := ap_slots hts hin ty0 hty hnm hK hc
  have hd := hty k hk
  obtain ⟨r, h1, cell, q1, q2, q3, q4⟩ := hP q0 _ he
  have hr : r = (C, T, N) := Option.some.inj (h1.symm.trans hc)
  subst hr
  obtain ⟨hS, hfc, kC, hkC, hkind⟩ := hK.1 ci _ hc
  obtain ⟨cf, kf, fi, f, hi, hsl⟩ := hS k hk
  have hst := (u_facts hfc hkC (u_lays hts hin hk) hi).1
  have hfin2 : ∀ H', H'[a]? = some (cell.setSlot f.slot v) → H'.size = H.size → (∀ q, q ≠ a → H'[q]? = H[q]?) → W p l e R s m args below meth c H' (locs ++ [⟨a, f.slot⟩]) cells slots Q (F0 m (pc + 3) ls rest) := by
    intro H' e1 e2 e3
    rw [hsl] at e1 ⊢
    exact kk H' _ (hP.set hD he ⟨_, hc, t_OB.to (V := updV (vp_V fs) k v) ⟨_, e1, q2, q3, t_set q4 hap hk v⟩ (fun j _ => vp_updV_set hl v j)⟩ e3) (hD.set he) (hS0.put e2 e3 (hD.2 q0 _ he))
  have hlay := hts _ (hin _ (u_in_lay hk))
  unfold u_lay at hlay
  by_cases hf : (T k).2.2.2 = true
  · rw [if_pos hf] at hlay
    rcases hlink with ⟨hlink, h3⟩ | ⟨host, hlink, h3⟩
    · rcases h3 with h3 | ⟨hin2, hdecl⟩
      · rw [hf] at h3; cases h3
      · have hcf : m.cls = cf := by
          obtain ⟨_, _, c', _, _, _, -, -, hf', -, -, -, hown2, -⟩ := Cond.laysFinal_spec hlay
          have e1 : c' = cf := by have := hi.symm.trans hf'; simp at this; exact this.1.symm
          rw [hdecl] at hown2
          rw [← e1]; exact Option.some.inj (hown.symm.trans hown2)
        have h6 := u_fits hfc hkC hkind (Or.inr hlay) hi hd hn hfit
        exact W.putFinK hexec hb hown hlink (hsame _ hi) hst hcf hin2 (by rw [q2]; exact h6) q1 q3 (by rw [hsl]; exact k2_hasslot (q4 k hk)) rfl rfl hdg hfin2
    · rw [hf] at h3; cases h3
  · rw [if_neg hf] at hlay
    have h6 := u_store hfc hkC hkind hlay hi hd hn hfit
    rcases hlink with ⟨hlink, -⟩ | ⟨host, hlink, -⟩
    · exact W.putK hexec hb (f := f) ⟨hown, hlink, ⟨_, _, _, hsame _ hi⟩, hst⟩ (by rw [q2]; exact h6) q1 q3 (by rw [hsl]; exact k2_hasslot (q4 k hk)) rfl rfl hdg hfin2
    · exact va_WputK hexec hb (f := f) hown hlink (hsame _ hi) hst (by rw [q2]; exact h6) q1 q3 (by rw [hsl]; exact k2_hasslot (q4 k hk)) rfl rfl hdg hfin2
theorem hp_get (hexec : p.tables.exec = Jvm.exec) (hb : c.code = cc) {own ref C : String} {T : u_T} {N ci index : Nat} {Ts : List Cond} (hts : ∀ w ∈ Ts, w.before args s = true) (hin : ∀ w ∈ u_ws C T N, w ∈ Ts) (hown : s.vm.findClass own = some m.cls) (hK : va_K D cl tys s) (hP : va_P D cl ws H) (q0 : Nat) {fs : List Value} (he : ws[q0]? = some (a, .inr (ci, fs))) (hc : cl[ci]? = some (C, T, N)) (k : Nat) (hk : k < N)
    (hlink : (Cond.fieldLink own index ref (T k).2.1 (T k).2.2.1).before args s = true ∨ (∃ host, (Cond.fieldLinkNest own index ref (T k).2.1 (T k).2.2.1 host).before args s = true))
    (hsame : ∀ x, s.fieldFound? (T k).1 (T k).2.1 (T k).2.2.1 = some x → s.fieldFound? ref (T k).2.1 (T k).2.2.1 = some x) {v : Value} (hv : fs[k]? = some v) (hdg : decode cc pc = .ok (.getfield index, 3))
    (kk : W p l e R s m args below meth c H locs cells slots Q (F0 m (pc + 3) ls (v :: rest))) : W p l e R s m args below meth c H locs cells slots Q (F0 m pc ls (.ref a :: rest)) := by
  rcases hlink with h | ⟨host, h⟩
  · exact va_get hexec hb hts hin hown hK hP q0 he hc k hk h hsame hv hdg kk
  · exact va_getN hexec hb hts hin hown hK hP q0 he hc k hk h hsame hv hdg kk
end
section
variable {Γ : gT} {y pc : Nat}
/-- a class of the tables, by its kind -/
def clOk (Γ : gT) (k : Nat) (C : String) (T : u_T) (N : Nat) (ty : Nat → FieldType) : Prop := (gcl Γ)[k - 1]? = some (C, T, N) ∧ (gty Γ)[k - 1]? = some ty ∧ (∀ w ∈ u_ws C T N, w ∈ lw_all) ∧ (∀ j, j < N → parseFieldDescriptor (T j).2.2.1 = some (ty j)) ∧
  (∀ a, a < N → ∀ b, b < N → a ≠ b → (T a).2.1 ≠ (T b).2.1 ∨ ((T a).2.2.2 = true ∧ (T b).2.2.2 = true ∧ (T a).1 ≠ (T b).1)) ∧ 1 ≤ k ∧ k ≤ 50
/-- a field of a kind, by a constant pool entry -/
def fdOk (Γ : gT) (own : String) (idx j t k : Nat) : Prop := ∃ (C : String) (T : u_T) (N : Nat) (ty : Nat → FieldType) (ref : String), clOk Γ k C T N ty ∧ j < N ∧ tgOf (ty j) = t ∧
  (Cond.fieldLink own idx ref (T j).2.1 (T j).2.2.1 ∈ lw_all ∨ ∃ host, Cond.fieldLinkNest own idx ref (T j).2.1 (T j).2.2.1 host ∈ lw_tbl) ∧ (ref = (T j).1 ∨ Cond.sameField ref (T j).1 (T j).2.1 (T j).2.2.1 ∈ lw_all)
/-- the sorts of a stored value: 0 int, 1 long, 2 reference, 3 boolean, 4 byte, 5 char -/
def tyIs (ty : FieldType) (t : Nat) : Prop := match t with
  | 0 => ty = .int
  | 1 => ty = .long
  | 2 => (∃ n, ty = .object n) ∨ ∃ t, ty = .array t
  | 3 => ty = .boolean
  | 4 => ty = .byte
  | 5 => ty = .char
  | _ => False
def fdOkP (Γ : gT) (own mname : String) (idx j t k : Nat) : Prop := ∃ (C : String) (T : u_T) (N : Nat) (ty : Nat → FieldType) (ref : String), clOk Γ k C T N ty ∧ j < N ∧ tyIs (ty j) t ∧
  ((Cond.fieldLink own idx ref (T j).2.1 (T j).2.2.1 ∈ lw_all ∧ ((T j).2.2.2 = false ∨ (mname = "<init>" ∧ (T j).1 = own))) ∨ (∃ host, Cond.fieldLinkNest own idx ref (T j).2.1 (T j).2.2.1 host ∈ lw_tbl ∧ (T j).2.2.2 = false)) ∧ (ref = (T j).1 ∨ Cond.sameField ref (T j).1 (T j).2.1 (T j).2.2.1 ∈ lw_all)
theorem nfl_of {k : Nat} {C : String} {T : u_T} {N : Nat} {ty : Nat → FieldType} (h : clOk Γ k C T N ty) : nfl (gcl Γ) k = N := by
  unfold nfl; rw [h.1]
theorem ftg_of {k : Nat} {C : String} {T : u_T} {N : Nat} {ty : Nat → FieldType} (h : clOk Γ k C T N ty) (j : Nat) : ftg (gty Γ) k j = tgOf (ty j) := by
  unfold ftg; rw [h.2.1]
theorem same_of {s : State} {args : Array Value} {ref own n dsc : String} (hts : ∀ w ∈ lw_all, w.before args s = true) (h : ref = own ∨ Cond.sameField ref own n dsc ∈ lw_all) : ∀ x, s.fieldFound? own n dsc = some x → s.fieldFound? ref n dsc = some x := by
  rcases h with h | h
  · rw [h]; exact fun _ q => q
  · exact fun x q => u_same (hts _ h) x q
theorem link_of {s : State} {args : Array Value} {own ref n dsc : String} {idx : Nat} (hts : ∀ w ∈ lw_all, w.before args s = true) (hnst : ∀ w ∈ lw_tbl, nstW w = true → va_Nw w s) (h : Cond.fieldLink own idx ref n dsc ∈ lw_all ∨ ∃ host, Cond.fieldLinkNest own idx ref n dsc host ∈ lw_tbl) :
    (Cond.fieldLink own idx ref n dsc).before args s = true ∨ (∃ host, (Cond.fieldLinkNest own idx ref n dsc host).before args s = true) := by
  rcases h with h | ⟨host, h⟩
  · exact Or.inl (hts _ h)
  · exact Or.inr ⟨host, va_Nw.use rfl (hnst _ h rfl)⟩
/-- a name of a class's kind: its entry -/
theorem ent_obj {ad : Int → Nat} {m : mM} {z : Int} {k : Nat} {C : String} {T : u_T} {N : Nat} {ty : Nat → FieldType} (hk : m.2.1 z = k) (h : clOk Γ k C T N ty) : ent Γ ad m z = .inr (k - 1, (List.range N).map (fun j => gvv ad (mtag (tgOf (ty j)) (m.1 z j)))) := by
  unfold ent
  rw [hk, if_pos h.2.2.2.2.2.2, nfl_of h]
  simp only [ftg_of h]
theorem dyn_of {m : mM} {z : Int} {k : Nat} (hw : wfm Γ m) (hk : m.2.1 z = k) (h : dynK (gcl Γ) k) (h0 : k ≠ 0) : NX0 ≤ z ∧ z < m.2.2.2.1 := by
  have h1 := hw.2.1 z (by rw [hk]; exact h0)
  refine ⟨?_, h1.2⟩
  by_cases hz : z < NX0
  · exact absurd (by rw [hk]; exact h) (hw.2.2.2 z hz).1
  · have : ¬ z < (1000 : Int) := hz
    show (1000 : Int) ≤ z
    omega
theorem dynK_obj {k : Nat} {C : String} {T : u_T} {N : Nat} {ty : Nat → FieldType} (h : clOk Γ k C T N ty) : dynK (gcl Γ) k := Or.inl ⟨h.2.2.2.2.2.1, h.2.2.2.2.2.2, (List.getElem?_eq_some_iff.mp h.1).1⟩
theorem ss_getf {idx j t lo hi : Nat} {ex : List Nat} {cz : Int} (hd : decode (gby Γ y) pc = .ok (.getfield idx, 3)) (hf : ∀ k, lo ≤ k → k ≤ hi → fdOk Γ (gnm Γ y).cls idx j t k) : SS Γ y pc (.getfield 0, pc + 3, 0, j :: t :: lo :: hi :: ex, cz) := by
  intro p l e R s mid args below meth c ad0 n0 s0 d ⟨hx, hb, hml, hrt, hlk, hown, hnm, hts, hnst, hao, hK, hC, hex, hA⟩ hr hn L S m
  rcases S with _ | ⟨a | a | a, r⟩ <;> first | exact True.intro | skip
  intro hck Qm hk ad H locs ls hab hS hl hlen hwl hws had h1 h2
  obtain ⟨C, T, N, ty, ref, hcl, hj, htg, hli, hsa⟩ := hf (m.2.1 a) hck.1 hck.2
  have hz := dyn_of (k := m.2.1 a) hab.2.2 rfl (dynK_obj hcl) (by have := hcl.2.2.2.2.2.1; omega)
  have hwv : wfv m.2.2.2.1 (mtag t (m.1 a j)) := by
    have h3 := ((hab.2.2.2.2.1 a hz.1 hz.2).2).1 hcl.2.2.2.2.2.2 j (by rw [nfl_of hcl]; exact hj)
    rw [ftg_of hcl, htg] at h3
    exact h3
  have hk := hk ad H locs ls hab hS hl hlen hwl (wfs_c hwv (wfs_t hws)) had h1 h2
  show W p l e R s mid args below meth c H locs _ _ Qm (F0 mid pc ls (va_rf (gr ad a) :: r.map (gvv ad)))
  have h1000 : (1000 : Int) ≤ a := hz.1
  rw [va_rf_gr (by omega)]
  have hg := wsO_get (Γ := Γ) (ad := ad) hz.1 hz.2
  rw [ent_obj rfl hcl] at hg
  exact hp_get hx hb hts hcl.2.2.1 hown hK hab.1 _ hg hcl.1 j hj (link_of hts hnst hli) (same_of hts hsa) (v := gvv ad (mtag t (m.1 a j))) (by rw [List.getElem?_map, List.getElem?_range hj]; simp [htg]) hd hk
/-- a memory that differs in one cell -/
theorem wsO_upd {ad : Int → Nat} {m m' : mM} {a : Int} (h0 : NX0 ≤ a) (h1 : a < m.2.2.2.1) (hn : m'.2.2.2.1 = m.2.2.2.1) (hq : ∀ z, z ≠ a → ent Γ ad m' z = ent Γ ad m z) : wsO Γ ad m' = (wsO Γ ad m).set (a - NX0).toNat (ad a, ent Γ ad m' a) := by
  have h0' : (1000 : Int) ≤ a := h0
  have hz : NX0 + (((a - NX0).toNat : Nat) : Int) = a := by show (1000 : Int) + (((a - 1000).toNat : Nat) : Int) = a; omega
  have hl : (a - NX0).toNat < (m.2.2.2.1 - NX0).toNat := by show (a - 1000).toNat < (m.2.2.2.1 - 1000).toNat; omega
  refine List.ext_getElem? (fun i => ?_)
  unfold wsO
  rw [hn, List.getElem?_set]
  by_cases hi : (a - NX0).toNat = i
  · rw [if_pos hi]
    have h3 : (a - NX0).toNat < ((List.range (m.2.2.2.1 - NX0).toNat).map (fun (i : Nat) => (ad (NX0 + (i : Int)), ent Γ ad m (NX0 + (i : Int))))).length := by simpa using hl
    rw [if_pos h3, ← hi, List.getElem?_map, List.getElem?_range hl]
    simp only [Option.map_some, hz]
  · rw [if_neg hi, List.getElem?_map, List.getElem?_map]
    by_cases h4 : i < (m.2.2.2.1 - NX0).toNat
    · rw [List.getElem?_range h4]
      simp only [Option.map_some]
      have h5 : NX0 + (i : Int) ≠ a := by
        intro e
        apply hi
        rw [← e]
        show ((1000 : Int) + (i : Int) - 1000).toNat = i
        omega
      rw [hq _ h5]
    · have h6 : (List.range (m.2.2.2.1 - NX0).toNat)[i]? = none := by simp; omega
      rw [h6]; rfl
theorem ent_st_ne {ad : Int → Nat} {m : mM} {a i v : Int} {z : Int} (h : z ≠ a) : ent Γ ad (mst m a i v) z = ent Γ ad m z := by
  unfold ent mst
  have e : (fun j => if z = a ∧ j = i then v else m.1 z j) = m.1 z := by funext j; simp [h]
  simp only [h, false_and, if_false]
/-- a store into a field of an object -/
theorem ent_st_obj {ad : Int → Nat} {m : mM} {a : Int} {j : Nat} {v : Int} {k : Nat} {C : String} {T : u_T} {N : Nat} {ty : Nat → FieldType} (hk : m.2.1 a = k) (h : clOk Γ k C T N ty) (hj : j < N) :
    ent Γ ad (mst m a j v) a = .inr (k - 1, ((List.range N).map (fun j => gvv ad (mtag (tgOf (ty j)) (m.1 a j)))).set j (gvv ad (mtag (tgOf (ty j)) v))) := by
  rw [ent_obj (m := mst m a j v) (z := a) (k := k) hk h]
  congr 2
  refine List.ext_getElem? (fun i => ?_)
  rw [List.getElem?_set, List.getElem?_map]
  by_cases hi : j = i
  · subst hi
    rw [if_pos rfl, List.getElem?_range hj]
    simp [mst, hj]
  · rw [if_neg hi, List.getElem?_map]
    by_cases h4 : i < N
    · rw [List.getElem?_range h4]
      have : ¬ ((i : Int) = (j : Int)) := by omega
      simp [mst, this]
    · have h6 : (List.range N)[i]? = none := by simp; omega
      rw [h6]; rfl
theorem wfm_st {m : mM} {a i v : Int} (hw : wfm Γ m) (h0 : NX0 ≤ a) (h1 : a < m.2.2.2.1) (hc : wfc Γ (mst m a i v) a) : wfm Γ (mst m a i v) := by
  refine ⟨hw.1, hw.2.1, fun z hz hz1 => ⟨(hw.2.2.1 z hz hz1).1, ?_⟩, fun z hz => ⟨(hw.2.2.2 z hz).1, ?_, (hw.2.2.2 z hz).2.2⟩⟩
  rotate_left
  · rw [← (hw.2.2.2 z hz).2.1]
    funext j
    have h0' : (1000 : Int) ≤ a := h0
    have hz' : z < (1000 : Int) := hz
    show (if z = a ∧ j = i then v else m.1 z j) = m.1 z j
    rw [if_neg (fun hc => by have := hc.1; omega)]
  by_cases e : z = a
  · rw [e]; exact hc
  · have h3 := (hw.2.2.1 z hz hz1).2
    have e2 : ∀ j, (mst m a i v).1 z j = m.1 z j := fun j => by simp [mst, e]
    refine ⟨fun q j hj => ?_, fun q => ⟨(h3.2.1 q).1, fun j => ?_⟩, fun q j => by rw [e2]; exact h3.2.2.1 q j, fun q j => by rw [e2]; exact h3.2.2.2 q j⟩
    · rw [e2]; exact h3.1 q j hj
    · rw [e2]; exact (h3.2.1 q).2 j
theorem wfc_st_obj {m : mM} {a : Int} {j : Nat} {v : Int} {k : Nat} {C : String} {T : u_T} {N : Nat} {ty : Nat → FieldType} (hw : wfc Γ m a) (hk : m.2.1 a = k) (h : clOk Γ k C T N ty) (hv : wfv m.2.2.2.1 (mtag (tgOf (ty j)) v)) : wfc Γ (mst m a j v) a := by
  refine ⟨fun q i hi => ?_, fun q => ?_, fun q => ?_, fun q => ?_⟩
  · show wfv m.2.2.2.1 (mtag (ftg (gty Γ) (m.2.1 a) i) (if a = a ∧ (i : Int) = (j : Int) then v else m.1 a i))
    by_cases e : i = j
    · subst e
      rw [if_pos ⟨rfl, rfl⟩, hk, ftg_of h]
      exact hv
    · rw [if_neg (fun hc => e (by have := hc.2; omega))]
      exact hw.1 q i hi
  · have q : 50 < m.2.1 a := q
    rw [hk] at q
    have := h.2.2.2.2.2.2
    omega
  · have q : m.2.1 a = 103 := q
    rw [hk] at q
    have := h.2.2.2.2.2.2
    omega
  · have q : m.2.1 a = 107 := q
    rw [hk] at q
    have := h.2.2.2.2.2.2
    omega
theorem fit_ref {ty : FieldType} (ht : tyIs ty 2) (r : Option Nat) : narrow ty (va_rf r) = va_rf r ∧ fits ty (va_rf r) = true := by
  rcases ht with ⟨n, rfl⟩ | ⟨t, rfl⟩ <;> cases r <;> exact ⟨rfl, rfl⟩
theorem tgOf_ref {ty : FieldType} (ht : tyIs ty 2) : tgOf ty = 2 := by
  rcases ht with ⟨n, rfl⟩ | ⟨t, rfl⟩ <;> rfl
theorem o32_fz {v : Int} (h0 : 0 ≤ v) (h1 : v ≤ 1) : fits .boolean (.int (Int32.ofInt v)) = true := by
  have h : v = 0 ∨ v = 1 := by omega
  rcases h with h | h <;> subst h <;> decide
theorem o32_fb {v : Int} (h0 : -128 ≤ v) (h1 : v ≤ 127) : fits .byte (.int (Int32.ofInt v)) = true := by
  show (decide (-128 ≤ Int32.ofInt v) && decide (Int32.ofInt v ≤ 127)) = true
  have e1 : (-128 : Int32) ≤ Int32.ofInt v := by rw [show (-128 : Int32) = Int32.ofInt (-128) from by decide, o32_le ⟨by omega, by omega⟩ ⟨by omega, by omega⟩]; omega
  have e2 : Int32.ofInt v ≤ 127 := by rw [show (127 : Int32) = Int32.ofInt 127 from by decide, o32_le ⟨by omega, by omega⟩ ⟨by omega, by omega⟩]; omega
  simp [e1, e2]
theorem o32_fc {v : Int} (h0 : 0 ≤ v) (h1 : v ≤ 65535) : fits .char (.int (Int32.ofInt v)) = true := by
  show (decide (0 ≤ Int32.ofInt v) && decide (Int32.ofInt v ≤ 65535)) = true
  have e1 : (0 : Int32) ≤ Int32.ofInt v := by rw [show (0 : Int32) = Int32.ofInt 0 from by decide, o32_le ⟨by omega, by omega⟩ ⟨by omega, by omega⟩]; omega
  have e2 : Int32.ofInt v ≤ 65535 := by rw [show (65535 : Int32) = Int32.ofInt 65535 from by decide, o32_le ⟨by omega, by omega⟩ ⟨by omega, by omega⟩]; omega
  simp [e1, e2]
theorem put_core {idx j t lo hi : Nat} {v a : Int} {w : mV} (hd : decode (gby Γ y) pc = .ok (.putfield idx, 3)) (hf : ∀ k, lo ≤ k → k ≤ hi → fdOkP Γ (gnm Γ y).cls (gnm Γ y).name idx j t k)
    {p : Program} {l : Launch} {e : Env} {R : Room} {s : State} {mid : MethodId} {args : Array Value} {below : List Frame} {meth : Method} {c : Code} {ad0 : Int → Nat} {n0 s0 : Int} (hc : Cx Γ y p s mid args meth c ad0) {L : mL} {r : List mV} {m : mM} (hck : lo ≤ m.2.1 a ∧ m.2.1 a ≤ hi)
    (hty : ∀ ty, tyIs ty t → mtag (tgOf ty) v = w ∧ ∀ ad, narrow ty (gvv ad w) = gvv ad w ∧ fits ty (gvv ad w) = true) {Qm : State → Prop}
    (hk : WA Γ p l e R s mid args below meth c ad0 n0 s0 Qm (pc + 3, L, r, mst m a j v)) : WA Γ p l e R s mid args below meth c ad0 n0 s0 Qm (pc, L, w :: mR a :: r, m) := by
  obtain ⟨hx, hb, hml, hrt, hlk, hown, hnm, hts, hnst, hao, hK, hC, hex, hA⟩ := hc
  intro ad H locs ls hab hS hl hlen hwl hws had h1 h2
  obtain ⟨C, T, N, ty, ref, hcl, hj, htg, hli, hsa⟩ := hf (m.2.1 a) hck.1 hck.2
  obtain ⟨hw, hfit⟩ := hty _ htg
  have hz := dyn_of (k := m.2.1 a) hab.2.2 rfl (dynK_obj hcl) (by have := hcl.2.2.2.2.2.1; omega)
  have h1000 : (1000 : Int) ≤ a := hz.1
  show W p l e R s mid args below meth c H locs _ _ Qm (F0 mid pc ls (gvv ad w :: va_rf (gr ad a) :: r.map (gvv ad)))
  rw [va_rf_gr (by omega)]
  have hg := wsO_get (Γ := Γ) (ad := ad) hz.1 hz.2
  rw [ent_obj rfl hcl] at hg
  have hlink : ((Cond.fieldLink (gnm Γ y).cls idx ref (T j).2.1 (T j).2.2.1).before args s = true ∧ ((T j).2.2.2 = false ∨ (meth.name = "<init>" ∧ (T j).1 = (gnm Γ y).cls))) ∨ (∃ host, (Cond.fieldLinkNest (gnm Γ y).cls idx ref (T j).2.1 (T j).2.2.1 host).before args s = true ∧ (T j).2.2.2 = false) := by
    rcases hli with ⟨q1, q2⟩ | ⟨host, q1, q2⟩
    · refine Or.inl ⟨hts _ q1, ?_⟩
      rw [hnm]; exact q2
    · exact Or.inr ⟨host, va_Nw.use rfl (hnst _ q1 rfl), q2⟩
  refine hp_put hx hb hts hcl.2.2.1 ty hcl.2.2.2.1 hcl.2.2.2.2.1 hown hK hab.1 hab.2.1 hS _ hg hcl.1 j hj hlink (same_of hts hsa) (v := gvv ad w) (hfit ad).1 (hfit ad).2 (by simpa using hj) hd (fun H1 locs1 hP hD hS1 => ?_)
  have hab1 : AbH Γ ad (mst m a j v) H1 := by
    have e1 := wsO_upd (Γ := Γ) (ad := ad) (m' := mst m a j v) hz.1 hz.2 rfl (fun z hz => ent_st_ne hz)
    rw [ent_st_obj rfl hcl hj, hw] at e1
    refine ⟨by rw [e1]; exact hP, by rw [e1]; exact hD, wfm_st hab.2.2 hz.1 hz.2 (wfc_st_obj (hab.2.2.2.2.1 a hz.1 hz.2).2 rfl hcl (by rw [hw]; exact wfs_h hws))⟩
  exact hk ad H1 locs1 ls hab1 hS1 hl hlen hwl (wfs_t (wfs_t hws)) had h1 h2
theorem ss_putf {idx j t lo hi : Nat} {ex : List Nat} {cz : Int} (hd : decode (gby Γ y) pc = .ok (.putfield idx, 3)) (hf : ∀ k, lo ≤ k → k ≤ hi → fdOkP Γ (gnm Γ y).cls (gnm Γ y).name idx j t k) : SS Γ y pc (.putfield 0, pc + 3, 0, j :: t :: lo :: hi :: ex, cz) := by
  intro p l e R s mid args below meth c ad0 n0 s0 d hc hr hn L S m
  rcases S with _ | ⟨v | v | v, _ | ⟨a | a | a, r⟩⟩ <;> (match t with | 0 => ?_ | 1 => ?_ | 2 => ?_ | 3 => ?_ | 4 => ?_ | 5 => ?_ | t + 6 => ?_) <;> first | exact True.intro | skip
  · intro hck Qm hk
    exact put_core hd hf hc hck (fun ty ht => by cases ht; exact ⟨rfl, fun ad => ⟨rfl, rfl⟩⟩) hk
  · intro hck Qm hk
    exact put_core hd hf hc hck.1 (fun ty ht => by cases ht; exact ⟨rfl, fun ad => ⟨o32_nz hck.2.1 hck.2.2, o32_fz hck.2.1 hck.2.2⟩⟩) hk
  · intro hck Qm hk
    exact put_core hd hf hc hck.1 (fun ty ht => by cases ht; exact ⟨rfl, fun ad => ⟨o32_nb hck.2.1 hck.2.2, o32_fb hck.2.1 hck.2.2⟩⟩) hk
  · intro hck Qm hk
    exact put_core hd hf hc hck.1 (fun ty ht => by cases ht; exact ⟨rfl, fun ad => ⟨o32_nc hck.2.1 hck.2.2, o32_fc hck.2.1 hck.2.2⟩⟩) hk
  · intro hck Qm hk
    exact put_core hd hf hc hck (fun ty ht => by cases ht; exact ⟨rfl, fun ad => ⟨rfl, rfl⟩⟩) hk
  · intro hck Qm hk
    exact put_core (w := mR v) hd hf hc hck (fun ty ht => ⟨by rw [tgOf_ref ht]; rfl, fun ad => fit_ref ht _⟩) hk
end
