/-! old cells; casts; receivers -/
set_option maxHeartbeats 800000
section
variable {Γ : gT} {y pc : Nat}
/-- names of the kind k are cells of the class C -/
def isC (Γ : gT) (k : Nat) (C : String) : Prop := (∃ T N ty, clOk Γ k C T N ty) ∨ (¬ dynK (gcl Γ) k ∧ k ≠ 0 ∧ ∀ s ad, gC Γ s s.heap ad → ∀ z, (gM Γ).2.1 z = k → va_O C (ad z) (gA Γ) s s.heap)
theorem old_of {m : mM} {z : Int} {k : Nat} (hw : wfm Γ m) (hk : m.2.1 z = k) (h : ¬ dynK (gcl Γ) k) (h0 : k ≠ 0) : (0 < z ∧ z < NX0) ∧ (gM Γ).2.1 z = k ∧ m.1 z = (gM Γ).1 z ∧ m.2.2.1 z = (gM Γ).2.2 z := by
  have h1 := hw.2.1 z (by rw [hk]; exact h0)
  have hz : z < NX0 := by
    by_cases hz : z < NX0
    · exact hz
    · have hz' : ¬ z < (1000 : Int) := hz
      have := (hw.2.2.1 z (by show (1000 : Int) ≤ z; omega) h1.2).1
      rw [hk] at this
      exact absurd this h
  obtain ⟨-, e1, e2, e3⟩ := hw.2.2.2 z hz
  exact ⟨⟨h1.1, hz⟩, by rw [← e2]; exact hk, e1, e3⟩
theorem recv_at {k : Nat} {C : String} (hc : isC Γ k C) {s : State} (hK : va_K (gD Γ) (gcl Γ) (gtys Γ) s) {ad0 ad : Int → Nat} (hC : gC Γ s s.heap ad0) {m : mM} {H : Heap} {locs : List Loc} (hab : AbH Γ ad m H) (hS : va_S (gA Γ) s.heap H locs) (had : ∀ z, z < NX0 → ad z = ad0 z) {a : Int} (hk : m.2.1 a = k) :
    (0 < a ∧ a < m.2.2.2.1) ∧ ∃ cell : Cell, H[ad a]? = some cell ∧ cell.vm.isStatics = false ∧ s.vm.findClass C = some cell.cls := by
  rcases hc with ⟨T, N, ty, hcl⟩ | ⟨hd, h0, ho⟩
  · have hz := dyn_of hab.2.2 hk (dynK_obj hcl) (by have := hcl.2.2.2.2.2.1; omega)
    have h1000 : (1000 : Int) ≤ a := hz.1
    have hg := wsO_get (Γ := Γ) (ad := ad) hz.1 hz.2
    rw [ent_obj hk hcl] at hg
    exact ⟨⟨by omega, hz.2⟩, va_recv hK hab.1 hcl.1 hg⟩
  · obtain ⟨hz, e1, -, -⟩ := old_of hab.2.2 hk hd h0
    have h1 := va_Orecv (ho s ad0 hC a e1) hS
    rw [← had a hz.2] at h1
    have h3 := hab.2.2.1
    exact ⟨⟨hz.1, Int.lt_of_lt_of_le hz.2 h3⟩, h1⟩
/-- a cell of kind k may be cast to nm -/
def castOk (Γ : gT) (k : Nat) (nm : String) : Prop := ∃ C, isC Γ k C ∧ (Cond.castable C nm ∈ lw_tbl ∨ (C = nm ∧ ∃ (ci : Nat) (T : u_T) (N : Nat), (gcl Γ)[ci]? = some (nm, T, N)))
theorem classAt_K {s : State} (hK : va_K (gD Γ) (gcl Γ) (gtys Γ) s) {ci : Nat} {C : String} {T : u_T} {N : Nat} (hc : (gcl Γ)[ci]? = some (C, T, N)) : ∃ cC, ClassAt s C cC := by
  obtain ⟨hS, hfc, kC, hkC, hkind⟩ := hK.1 ci _ hc
  exact ⟨_, hfc, kC, hkC, hkind⟩
theorem ss_cast {idx lo hi od : Nat} {nm : String} {ex : List Nat} {cz : Int} (hc : ∀ k, (lo ≤ k ∧ k ≤ hi) ∨ k = od → castOk Γ k nm) (hli : Cond.classLink (gnm Γ y).cls idx nm ∈ lw_all) (hnull : ∀ (p : Program) (l : Launch) (e : Env) (R : Room) (s : State) (mid : MethodId) (args : Array Value) (below : List Frame) (meth : Method) (c : Code) (ad0 : Int → Nat) (H : Heap) (locs : List Loc) (cells slots : Nat) (Q : State → Prop) (ls : Array Slot) (rest : List Value), Cx Γ y p s mid args meth c ad0 → W p l e R s mid args below meth c H locs cells slots Q (F0 mid (pc + 3) ls (.null :: rest)) → W p l e R s mid args below meth c H locs cells slots Q (F0 mid pc ls (.null :: rest))) (hd : decode (gby Γ y) pc = .ok (.checkcast idx, 3)) :
    SS Γ y pc (.checkcast 0, pc + 3, 0, lo :: hi :: od :: ex, cz) := by
  intro p l e R s mid args below meth c ad0 n0 s0 d hcx hr hn L S m
  have hcx' := hcx
  obtain ⟨hx, hb, hml, hrt, hlk, hown, hnm, hts, hnst, hao, hK, hC, hex, hA⟩ := hcx'
  rcases S with _ | ⟨a | a | a, r⟩ <;> first | exact True.intro | skip
  intro hck Qm hk ad H locs ls hab hS hl hlen hwl hws had h1 h2
  have hk := hk ad H locs ls hab hS hl hlen hwl hws had h1 h2
  show W p l e R s mid args below meth c H locs _ _ Qm (F0 mid pc ls (va_rf (gr ad a) :: r.map (gvv ad)))
  replace hk : W p l e R s mid args below meth c H locs _ _ Qm (F0 mid (pc + 3) ls (va_rf (gr ad a) :: r.map (gvv ad))) := hk
  by_cases h0 : a = 0
  · subst h0
    exact hnull p l e R s mid args below meth c ad0 H locs _ _ Qm ls _ hcx hk
  · obtain ⟨C, hisC, hca⟩ := hc (m.2.1 a) (hck.resolve_left h0)
    obtain ⟨hz, hcell⟩ := recv_at hisC hK hC hab hS (fun z hz => had z (Int.lt_of_lt_of_le hz hn)) (a := a) rfl
    rw [va_rf_gr h0] at hk ⊢
    rcases hca with h | ⟨h, ci, T, N, hci⟩
    · exact va_castY hx hb hown (hts _ hli) (hnst _ h rfl) hcell hd hk
    · subst h
      obtain ⟨cC, hcC⟩ := classAt_K hK hci
      exact va_castS hx hb hown (hts _ hli) hcC hcell hd hk
theorem ss_inst {idx lo hi od : Nat} {nm : String} {ex : List Nat} {cz : Int} (hc : ∀ k, (lo ≤ k ∧ k ≤ hi) ∨ k = od → castOk Γ k nm) (hli : Cond.classLink (gnm Γ y).cls idx nm ∈ lw_all) (hd : decode (gby Γ y) pc = .ok (.instanceof idx, 3)) :
    SS Γ y pc (.instanceof 0, pc + 3, 0, lo :: hi :: od :: ex, cz) := by
  intro p l e R s mid args below meth c ad0 n0 s0 d ⟨hx, hb, hml, hrt, hlk, hown, hnm, hts, hnst, hao, hK, hC, hex, hA⟩ hr hn L S m
  rcases S with _ | ⟨a | a | a, r⟩ <;> first | exact True.intro | skip
  intro hck Qm hk ad H locs ls hab hS hl hlen hwl hws had h1 h2
  have hk := hk ad H locs ls hab hS hl hlen hwl (wfs_c (v := mI 1) ⟨by omega, by omega⟩ (wfs_t hws)) had h1 h2
  show W p l e R s mid args below meth c H locs _ _ Qm (F0 mid pc ls (va_rf (gr ad a) :: r.map (gvv ad)))
  replace hk : W p l e R s mid args below meth c H locs _ _ Qm (F0 mid (pc + 3) ls (.int 1 :: r.map (gvv ad))) := hk
  obtain ⟨C, hisC, hca⟩ := hc (m.2.1 a) hck
  obtain ⟨hz, hcell⟩ := recv_at hisC hK hC hab hS (fun z hz => had z (Int.lt_of_lt_of_le hz hn)) (a := a) rfl
  rw [va_rf_gr (by omega)]
  rcases hca with h | ⟨h, ci, T, N, hci⟩
  · exact va_instY hx hb hown (hts _ hli) (hnst _ h rfl) hcell hd hk
  · subst h
    obtain ⟨cC, hcC⟩ := classAt_K hK hci
    exact va_instS hx hb hown (hts _ hli) hcC hcell hd hk
/-- old arrays of the kind k -/
def oT (Γ : gT) (k : Nat) (ty : FieldType) (cv : (Int → Nat) → Int → Value) (wf : Int → Prop) : Prop := ¬ dynK (gcl Γ) k ∧ k ≠ 0 ∧ ∀ s ad, gC Γ s s.heap ad → ∀ z, (gM Γ).2.1 z = k → va_T ty (ad z) ((gM Γ).2.2 z).toNat (fun j => cv ad ((gM Γ).1 z j)) (gA Γ) s s.heap ∧ (0 ≤ (gM Γ).2.2 z ∧ (gM Γ).2.2 z ≤ 65536) ∧ ∀ j : Int, 0 ≤ j → j < (gM Γ).2.2 z → wf ((gM Γ).1 z j)
theorem ss_iald_old {ex : List Nat} {cz : Int} (ho : oT Γ 101 .int (fun _ x => .int (Int32.ofInt x)) i32) (hd : decode (gby Γ y) pc = .ok (.iaload, 1)) : SS Γ y pc (.iaload, pc + 1, 0, 101 :: ex, cz) := by
  intro p l e R s mid args below meth c ad0 n0 s0 d ⟨hx, hb, hml, hrt, hlk, hown, hnm, hts, hnst, hao, hK, hC, hex, hA⟩ hr hn L S m
  rcases S with _ | ⟨i | i | i, _ | ⟨a | a | a, r⟩⟩ <;> first | exact True.intro | skip
  intro hck Qm hk ad H locs ls hab hS hl hlen hwl hws had h1 h2
  obtain ⟨hz, e1, e2, e3⟩ := old_of hab.2.2 hck.1 ho.1 ho.2.1
  obtain ⟨hT, hlen0, hwf⟩ := ho.2.2 s ad0 hC a e1
  obtain ⟨-, hi0, hi1⟩ := hck
  rw [e3] at hi1
  have hi : i32 i := ⟨by omega, by omega⟩
  have hk := hk ad H locs ls hab hS hl hlen hwl (wfs_c (v := mI (m.1 a i)) (by rw [e2]; exact hwf i hi0 hi1) (wfs_t (wfs_t hws))) had h1 h2
  show W p l e R s mid args below meth c H locs _ _ Qm (F0 mid pc ls (.int (Int32.ofInt i) :: va_rf (gr ad a) :: r.map (gvv ad)))
  rw [va_rf_gr (by omega), had a (Int.lt_of_lt_of_le hz.2 hn)]
  refine va_ti hx hb hT hS (o32_in hi hi0 (by omega)) (v := .int (Int32.ofInt (m.1 a i))) ?_ hd hk
  dsimp only
  rw [o32_cl hi hi0, e2, show ((i.toNat : Nat) : Int) = i from by omega]
theorem ss_bald_old {ex : List Nat} {cz : Int} (ho : oT Γ 102 .byte (fun _ x => .int (Int32.ofInt x)) (fun x => -128 ≤ x ∧ x ≤ 127)) (hd : decode (gby Γ y) pc = .ok (.baload, 1)) : SS Γ y pc (.baload, pc + 1, 0, 102 :: 103 :: ex, cz) := by
  intro p l e R s mid args below meth c ad0 n0 s0 d hcx hr hn L S m
  have hcx' := hcx
  obtain ⟨hx, hb, hml, hrt, hlk, hown, hnm, hts, hnst, hao, hK, hC, hex, hA⟩ := hcx'
  rcases S with _ | ⟨i | i | i, _ | ⟨a | a | a, r⟩⟩ <;> first | exact True.intro | skip
  intro hck Qm hk
  by_cases h3 : m.2.1 a = 103
  · exact ss_bald (lo := 103) (hi := 103) (ex := []) ⟨Or.inl rfl, rfl⟩ hd p l e R s mid args below meth c ad0 n0 s0 d hcx hr hn L (mI i :: mR a :: r) m ⟨⟨by omega, by omega⟩, hck.2⟩ Qm hk
  intro ad H locs ls hab hS hl hlen hwl hws had h1 h2
  obtain ⟨hz, e1, e2, e3⟩ := old_of (k := 102) (z := a) hab.2.2 (show m.2.1 a = 102 by have := hck.1; omega) ho.1 ho.2.1
  obtain ⟨hT, hlen0, hwf⟩ := ho.2.2 s ad0 hC a e1
  obtain ⟨-, hi0, hi1⟩ := hck
  rw [e3] at hi1
  have hi : i32 i := ⟨by omega, by omega⟩
  have hk := hk ad H locs ls hab hS hl hlen hwl (wfs_c (v := mI (m.1 a i)) (by rw [e2]; have := hwf i hi0 hi1; exact ⟨by omega, by omega⟩) (wfs_t (wfs_t hws))) had h1 h2
  show W p l e R s mid args below meth c H locs _ _ Qm (F0 mid pc ls (.int (Int32.ofInt i) :: va_rf (gr ad a) :: r.map (gvv ad)))
  rw [va_rf_gr (by omega), had a (Int.lt_of_lt_of_le hz.2 hn)]
  refine va_tb hx hb hT hS (o32_in hi hi0 (by omega)) (v := .int (Int32.ofInt (m.1 a i))) ?_ hd hk
  dsimp only
  rw [o32_cl hi hi0, e2, show ((i.toNat : Nat) : Int) = i from by omega]
theorem alen_old {k : Nat} {ty : FieldType} {cv : (Int → Nat) → Int → Value} {wf : Int → Prop} (ho : oT Γ k ty cv wf) (hd : decode (gby Γ y) pc = .ok (.arraylength, 1)) {p : Program} {l : Launch} {e : Env} {R : Room} {s : State} {mid : MethodId} {args : Array Value} {below : List Frame} {meth : Method} {c : Code} {ad0 : Int → Nat} {n0 s0 : Int} (hcx : Cx Γ y p s mid args meth c ad0) (hn : NX0 ≤ n0) {L : mL} {r : List mV} {m : mM} {a : Int} (hck : m.2.1 a = k) {Qm : State → Prop}
    (hk : WA Γ p l e R s mid args below meth c ad0 n0 s0 Qm (pc + 1, L, mI (m.2.2.1 a) :: r, m)) : WA Γ p l e R s mid args below meth c ad0 n0 s0 Qm (pc, L, mR a :: r, m) := by
  obtain ⟨hx, hb, hml, hrt, hlk, hown, hnm, hts, hnst, hao, hK, hC, hex, hA⟩ := hcx
  intro ad H locs ls hab hS hl hlen hwl hws had h1 h2
  obtain ⟨hz, e1, e2, e3⟩ := old_of hab.2.2 hck ho.1 ho.2.1
  obtain ⟨hT, hlen0, hwf⟩ := ho.2.2 s ad0 hC a e1
  have hk := hk ad H locs ls hab hS hl hlen hwl (wfs_c (v := mI (m.2.2.1 a)) (by rw [e3]; exact ⟨by omega, by omega⟩) (wfs_t hws)) had h1 h2
  show W p l e R s mid args below meth c H locs _ _ Qm (F0 mid pc ls (va_rf (gr ad a) :: r.map (gvv ad)))
  rw [va_rf_gr (by omega), had a (Int.lt_of_lt_of_le hz.2 hn)]
  refine va_tlen hx hb hT hS (v := Int32.ofInt (m.2.2.1 a)) ?_ hd hk
  rw [← Int32.ofInt_eq_ofNat, e3]
  congr 1
  omega
theorem ss_alen_b {ex : List Nat} {cz : Int} (ho : oT Γ 102 .byte (fun _ x => .int (Int32.ofInt x)) (fun x => -128 ≤ x ∧ x ≤ 127)) (hd : decode (gby Γ y) pc = .ok (.arraylength, 1)) : SS Γ y pc (.arraylength, pc + 1, 0, 102 :: 103 :: ex, cz) := by
  intro p l e R s mid args below meth c ad0 n0 s0 d hcx hr hn L S m
  rcases S with _ | ⟨a | a | a, r⟩ <;> first | exact True.intro | skip
  intro hck Qm hk
  by_cases h3 : m.2.1 a = 103
  · exact ss_alen (lo := 103) (hi := 103) (ex := []) (by omega) (by omega) hd p l e R s mid args below meth c ad0 n0 s0 d hcx hr hn L (mR a :: r) m ⟨by omega, by omega⟩ Qm hk
  · exact alen_old ho hd hcx hn (by have := hck.1; have := hck.2; omega) hk
theorem ss_alen_s {ex : List Nat} {cz : Int} (ho : oT Γ 101 .int (fun _ x => .int (Int32.ofInt x)) i32) (hd : decode (gby Γ y) pc = .ok (.arraylength, 1)) : SS Γ y pc (.arraylength, pc + 1, 0, 101 :: 101 :: ex, cz) := by
  intro p l e R s mid args below meth c ad0 n0 s0 d hcx hr hn L S m
  rcases S with _ | ⟨a | a | a, r⟩ <;> first | exact True.intro | skip
  intro hck Qm hk
  exact alen_old ho hd hcx hn (by have := hck.1; have := hck.2; omega) hk
/-- a field of an old cell -/
def oF (Γ : gT) (k : Nat) (C n d : String) (j t : Nat) : Prop := ¬ dynK (gcl Γ) k ∧ k ≠ 0 ∧ ∀ s ad, gC Γ s s.heap ad → ∀ z, (gM Γ).2.1 z = k → va_OF C n d (gvv ad (mtag t ((gM Γ).1 z j))) (ad z) (gA Γ) s s.heap ∧ wfv NX0 (mtag t ((gM Γ).1 z j))
theorem ss_getf_old {idx j t lo od : Nat} {C n dsc ref : String} {ex : List Nat} {cz : Int} (hd : decode (gby Γ y) pc = .ok (.getfield idx, 3)) (hf : fdOk Γ (gnm Γ y).cls idx j t lo) (ho : oF Γ od C n dsc j t) (hli : Cond.fieldLink (gnm Γ y).cls idx ref n dsc ∈ lw_all) (hsa : ref = C ∨ Cond.sameField ref C n dsc ∈ lw_all) : SS Γ y pc (.getstatic 0, pc + 3, 0, j :: t :: lo :: od :: ex, cz) := by
  intro p l e R s mid args below meth c ad0 n0 s0 d hcx hr hn L S m
  have hcx' := hcx
  obtain ⟨hx, hb, hml, hrt, hlk, hown, hnm, hts, hnst, hao, hK, hC, hex, hA⟩ := hcx'
  rcases S with _ | ⟨a | a | a, r⟩ <;> first | exact True.intro | skip
  intro hck Qm hk
  by_cases h3 : m.2.1 a = lo
  · exact ss_getf (lo := lo) (hi := lo) (ex := []) (cz := 0) hd (fun k h1 h2 => (show k = lo by omega) ▸ hf) p l e R s mid args below meth c ad0 n0 s0 d hcx hr hn L (mR a :: r) m ⟨by omega, by omega⟩ Qm hk
  intro ad H locs ls hab hS hl hlen hwl hws had h1 h2
  obtain ⟨hz, e1, e2, e3⟩ := old_of (k := od) hab.2.2 (hck.resolve_left h3) ho.1 ho.2.1
  obtain ⟨hF, hwf⟩ := ho.2.2 s ad0 hC a e1
  have hn3 : NX0 ≤ m.2.2.2.1 := hab.2.2.1
  have hk := hk ad H locs ls hab hS hl hlen hwl (wfs_c (v := mtag t (m.1 a j)) (by rw [e2]; exact wfv_up hn3 hwf) (wfs_t hws)) had h1 h2
  show W p l e R s mid args below meth c H locs _ _ Qm (F0 mid pc ls (va_rf (gr ad a) :: r.map (gvv ad)))
  rw [va_rf_gr (by omega), had a (Int.lt_of_lt_of_le hz.2 hn)]
  have hv : gvv ad (mtag t (m.1 a j)) = gvv ad0 (mtag t ((gM Γ).1 a j)) := by
    rw [e2]
    exact gvv_same (nx := NX0) (fun z hz => had z (Int.lt_of_lt_of_le hz hn)) hwf
  refine va_getX hx hb (N := 1) (v := fun _ => gvv ad0 (mtag t ((gM Γ).1 a j))) (ad := fun _ => ad0 a) (i := 0) (fun i _ => hF) (by omega) hS hown (hts _ hli) (same_of hts hsa) hd ?_
  rw [← hv]
  exact hk
end
