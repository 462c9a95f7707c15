/-! one lemma an instruction -/
section
variable {Γ : gT} {y pc : Nat}
theorem wfs_c {nx : Int} {v : mV} {S : List mV} (hv : wfv nx v) (hS : ∀ w ∈ S, wfv nx w) : ∀ w ∈ v :: S, wfv nx w := by
  intro w hw
  rcases List.mem_cons.mp hw with e | e
  · rw [e]; exact hv
  · exact hS w e
theorem wfs_t {nx : Int} {v : mV} {S : List mV} (h : ∀ w ∈ v :: S, wfv nx w) : ∀ w ∈ S, wfv nx w := fun w hw => h w (List.mem_cons_of_mem _ hw)
theorem wfs_h {nx : Int} {v : mV} {S : List mV} (h : ∀ w ∈ v :: S, wfv nx w) : wfv nx v := h v List.mem_cons_self
theorem sm_ld {k : Nat} {L : mL} {f : mV → mRes mM} {F : mRes mM → Prop} (h0 : F none) (h : ∀ v, L[k]? = some (some v) → F (f v)) : F (m_ld k L f) := by
  cases hr : m_ld k L f with
  | none => exact h0
  | some r =>
    obtain ⟨v, h1, h2⟩ := m_ld_spec k L f r hr
    rw [← h2]
    exact h v h1
theorem sm_st1 {k : Nat} {v : mV} {L : mL} {f : mL → mRes mM} {F : mRes mM → Prop} (h0 : F none) (h : ∀ L' : mL, L'.length = L.length → k < L.length → (∀ (j : Nat) (w : mV), L'[j]? = some (some w) → (j = k ∧ w = v) ∨ (j ≠ k ∧ L[j]? = some (some w) ∧ ¬ (j + 1 = k ∧ m_isJv w = true))) → F (f L')) : F (m_st1 k v L f) := by
  cases hr : m_st1 k v L f with
  | none => exact h0
  | some r =>
    obtain ⟨L', h1, h2, h3, h4⟩ := m_st1_spec k v L f r hr
    rw [← h1]
    exact h L' h2 h3 h4
theorem sm_st2 {k : Nat} {v : mV} {L : mL} {f : mL → mRes mM} {F : mRes mM → Prop} (h0 : F none) (h : ∀ L' : mL, L'.length = L.length → k + 1 < L.length → (∀ (j : Nat) (w : mV), L'[j]? = some (some w) → (j = k ∧ w = v) ∨ (j ≠ k ∧ j ≠ k + 1 ∧ L[j]? = some (some w) ∧ ¬ (j + 1 = k ∧ m_isJv w = true))) → F (f L')) : F (m_st2 k v L f) := by
  cases hr : m_st2 k v L f with
  | none => exact h0
  | some r =>
    obtain ⟨L', h1, h2, h3, h4⟩ := m_st2_spec k v L f r hr
    rw [← h1]
    exact h L' h2 h3 h4
theorem va_rf_gr0 (ad : Int → Nat) : va_rf (gr ad 0) = .null := rfl
theorem va_rf_gr {ad : Int → Nat} {z : Int} (h : z ≠ 0) : va_rf (gr ad z) = .ref (ad z) := by
  unfold gr
  rw [if_neg h]
  rfl
theorem sm_lcmp {a b : Int} (ha : i64 a) (hb : i64 b) : (lg_cmp (Int64.ofInt a) (Int64.ofInt b) = 0 ↔ a = b) ∧ (lg_cmp (Int64.ofInt a) (Int64.ofInt b) < 0 ↔ a < b) ∧ (0 < lg_cmp (Int64.ofInt a) (Int64.ofInt b) ↔ b < a) := by
  have h1 := o64_lt ha hb
  have h2 := o64_lt hb ha
  have h3 := o64_eq ha hb
  unfold lg_cmp
  rcases Int.lt_trichotomy a b with h | h | h
  · have e1 : ¬ Int64.ofInt a > Int64.ofInt b := fun q => by have := h2.mp q; omega
    have e2 : ¬ Int64.ofInt a = Int64.ofInt b := fun q => by have := h3.mp q; omega
    rw [if_neg e1, if_neg e2]
    refine ⟨⟨fun q => absurd q (by decide), fun q => by omega⟩, ⟨fun _ => h, fun _ => by decide⟩, ⟨fun q => absurd q (by decide), fun q => by omega⟩⟩
  · subst h
    have e1 : ¬ Int64.ofInt a > Int64.ofInt a := fun q => by have := h1.mp q; omega
    rw [if_neg e1, if_pos rfl]
    refine ⟨⟨fun _ => rfl, fun _ => rfl⟩, ⟨fun q => absurd q (by decide), fun q => by omega⟩, ⟨fun q => absurd q (by decide), fun q => by omega⟩⟩
  · have e1 : Int64.ofInt a > Int64.ofInt b := h2.mpr h
    rw [if_pos e1]
    refine ⟨⟨fun q => absurd q (by decide), fun q => by omega⟩, ⟨fun q => absurd q (by decide), fun q => by omega⟩, ⟨fun _ => h, fun _ => by decide⟩⟩
theorem W_Q {p : Program} {l : Launch} {e : Env} {R : Room} {s : State} {m : MethodId} {args : Array Value} {below : List Frame} {meth : Method} {c : Code} {H : Heap} {locs : List Loc} {cells slots : Nat} {Q Q' : State → Prop} {g : JFrame} (h : ∀ t, Q t → Q' t) (hw : W p l e R s m args below meth c H locs cells slots Q g) : W p l e R s m args below meth c H locs cells slots Q' g := by
  intro T hT X
  obtain ⟨t, a, b⟩ := hw T hT X
  exact ⟨t, a, h t b⟩
theorem o32_nz {a : Int} (h0 : 0 ≤ a) (h1 : a ≤ 1) : narrow .boolean (.int (Int32.ofInt a)) = .int (Int32.ofInt a) := by
  have h : a = 0 ∨ a = 1 := by omega
  rcases h with h | h <;> subst h <;> decide
theorem o32_nb {a : Int} (h0 : -128 ≤ a) (h1 : a ≤ 127) : narrow .byte (.int (Int32.ofInt a)) = .int (Int32.ofInt a) := by
  have e : (Int32.ofInt a).toInt8.toInt32 = Int32.ofInt a := by
    rw [o32_i2b]
    congr 1
    unfold zi2b
    omega
  rw [← e]
  exact pk_nb _
theorem o32_nc {a : Int} (h0 : 0 ≤ a) (h1 : a ≤ 65535) : narrow .char (.int (Int32.ofInt a)) = .int (Int32.ofInt a) := by
  have e : ((Int32.ofInt a).toUInt32 % 65536).toInt32 = Int32.ofInt a := by
    rw [o32_i2c]
    congr 1
    unfold zi2c
    omega
  rw [← e]
  exact pk_nc _
theorem ss_iadd (hd : decode (gby Γ y) pc = .ok (.iadd, 1)) : SS Γ y pc (.iadd, pc + 1, 0, [], 0) := by
  intro p l e R s mid args below meth c ad0 n0 s0 d ⟨hx, hb, hml, hrt, hlk, hown, hnm, hts, hnst, hao, hK, hC, hex, hA⟩ hr hn L S m
  rcases S with _ | ⟨b | b | b, _ | ⟨a | a | a, r⟩⟩ <;> first | exact True.intro | skip
  intro hck Qm hk ad H locs ls hab hS hl hlen hwl hws had h1 h2
  refine lv_iadd hx hb hd ?_
  have := hk ad H locs ls hab hS hl hlen hwl (wfs_c hck (wfs_t (wfs_t hws))) had h1 h2
  rw [← Int32.ofInt_add]
  exact this
theorem ss_isub (hd : decode (gby Γ y) pc = .ok (.isub, 1)) : SS Γ y pc (.isub, pc + 1, 0, [], 0) := by
  intro p l e R s mid args below meth c ad0 n0 s0 d ⟨hx, hb, hml, hrt, hlk, hown, hnm, hts, hnst, hao, hK, hC, hex, hA⟩ hr hn L S m
  rcases S with _ | ⟨b | b | b, _ | ⟨a | a | a, r⟩⟩ <;> first | exact True.intro | skip
  intro hck Qm hk ad H locs ls hab hS hl hlen hwl hws had h1 h2
  refine lv_isub hx hb hd ?_
  have := hk ad H locs ls hab hS hl hlen hwl (wfs_c hck (wfs_t (wfs_t hws))) had h1 h2
  rw [← Int32.ofInt_sub]
  exact this
theorem ss_imul (hd : decode (gby Γ y) pc = .ok (.imul, 1)) : SS Γ y pc (.imul, pc + 1, 0, [], 0) := by
  intro p l e R s mid args below meth c ad0 n0 s0 d ⟨hx, hb, hml, hrt, hlk, hown, hnm, hts, hnst, hao, hK, hC, hex, hA⟩ hr hn L S m
  rcases S with _ | ⟨b | b | b, _ | ⟨a | a | a, r⟩⟩ <;> first | exact True.intro | skip
  intro hck Qm hk ad H locs ls hab hS hl hlen hwl hws had h1 h2
  refine lv_imul hx hb hd ?_
  have := hk ad H locs ls hab hS hl hlen hwl (wfs_c hck (wfs_t (wfs_t hws))) had h1 h2
  rw [← Int32.ofInt_mul]
  exact this
theorem ss_ladd (hd : decode (gby Γ y) pc = .ok (.ladd, 1)) : SS Γ y pc (.ladd, pc + 1, 0, [], 0) := by
  intro p l e R s mid args below meth c ad0 n0 s0 d ⟨hx, hb, hml, hrt, hlk, hown, hnm, hts, hnst, hao, hK, hC, hex, hA⟩ hr hn L S m
  rcases S with _ | ⟨b | b | b, _ | ⟨a | a | a, r⟩⟩ <;> first | exact True.intro | skip
  intro hck Qm hk ad H locs ls hab hS hl hlen hwl hws had h1 h2
  refine lv_ladd hx hb hd ?_
  have := hk ad H locs ls hab hS hl hlen hwl (wfs_c hck (wfs_t (wfs_t hws))) had h1 h2
  rw [← Int64.ofInt_add]
  exact this
theorem ss_lsub (hd : decode (gby Γ y) pc = .ok (.lsub, 1)) : SS Γ y pc (.lsub, pc + 1, 0, [], 0) := by
  intro p l e R s mid args below meth c ad0 n0 s0 d ⟨hx, hb, hml, hrt, hlk, hown, hnm, hts, hnst, hao, hK, hC, hex, hA⟩ hr hn L S m
  rcases S with _ | ⟨b | b | b, _ | ⟨a | a | a, r⟩⟩ <;> first | exact True.intro | skip
  intro hck Qm hk ad H locs ls hab hS hl hlen hwl hws had h1 h2
  refine lv_lsub hx hb hd ?_
  have := hk ad H locs ls hab hS hl hlen hwl (wfs_c hck (wfs_t (wfs_t hws))) had h1 h2
  rw [← Int64.ofInt_sub]
  exact this
theorem ss_lmul (hd : decode (gby Γ y) pc = .ok (.lmul, 1)) : SS Γ y pc (.lmul, pc + 1, 0, [], 0) := by
  intro p l e R s mid args below meth c ad0 n0 s0 d ⟨hx, hb, hml, hrt, hlk, hown, hnm, hts, hnst, hao, hK, hC, hex, hA⟩ hr hn L S m
  rcases S with _ | ⟨b | b | b, _ | ⟨a | a | a, r⟩⟩ <;> first | exact True.intro | skip
  intro hck Qm hk ad H locs ls hab hS hl hlen hwl hws had h1 h2
  refine lv_lmul hx hb hd ?_
  have := hk ad H locs ls hab hS hl hlen hwl (wfs_c hck (wfs_t (wfs_t hws))) had h1 h2
  rw [← Int64.ofInt_mul]
  exact this
theorem ss_idiv (hd : decode (gby Γ y) pc = .ok (.idiv, 1)) : SS Γ y pc (.idiv, pc + 1, 0, [], 0) := by
  intro p l e R s mid args below meth c ad0 n0 s0 d ⟨hx, hb, hml, hrt, hlk, hown, hnm, hts, hnst, hao, hK, hC, hex, hA⟩ hr hn L S m
  rcases S with _ | ⟨b | b | b, _ | ⟨a | a | a, r⟩⟩ <;> first | exact True.intro | skip
  intro hck Qm hk ad H locs ls hab hS hl hlen hwl hws had h1 h2
  refine lv_idiv hx hb hd (o32_ne0 (wfs_h hws) hck.2) ?_
  have := hk ad H locs ls hab hS hl hlen hwl (wfs_c (o32_divb (wfs_h (wfs_t hws)) hck.1 hck.2) (wfs_t (wfs_t hws))) had h1 h2
  rw [o32_div (wfs_h (wfs_t hws)) (wfs_h hws) hck.1 hck.2]
  exact this
theorem ss_irem (hd : decode (gby Γ y) pc = .ok (.irem, 1)) : SS Γ y pc (.irem, pc + 1, 0, [], 0) := by
  intro p l e R s mid args below meth c ad0 n0 s0 d ⟨hx, hb, hml, hrt, hlk, hown, hnm, hts, hnst, hao, hK, hC, hex, hA⟩ hr hn L S m
  rcases S with _ | ⟨b | b | b, _ | ⟨a | a | a, r⟩⟩ <;> first | exact True.intro | skip
  intro hck Qm hk ad H locs ls hab hS hl hlen hwl hws had h1 h2
  refine lv_irem hx hb hd (o32_ne0 (wfs_h hws) hck.2) ?_
  have := hk ad H locs ls hab hS hl hlen hwl (wfs_c (o32_remb (wfs_h (wfs_t hws)) hck.1 hck.2) (wfs_t (wfs_t hws))) had h1 h2
  rw [o32_rem (wfs_h (wfs_t hws)) (wfs_h hws) hck.1 hck.2]
  exact this
theorem ss_ldiv (hd : decode (gby Γ y) pc = .ok (.ldiv, 1)) : SS Γ y pc (.ldiv, pc + 1, 0, [], 0) := by
  intro p l e R s mid args below meth c ad0 n0 s0 d ⟨hx, hb, hml, hrt, hlk, hown, hnm, hts, hnst, hao, hK, hC, hex, hA⟩ hr hn L S m
  rcases S with _ | ⟨b | b | b, _ | ⟨a | a | a, r⟩⟩ <;> first | exact True.intro | skip
  intro hck Qm hk ad H locs ls hab hS hl hlen hwl hws had h1 h2
  refine lv_ldiv hx hb hd (o64_ne0 (wfs_h hws) hck.2) ?_
  have := hk ad H locs ls hab hS hl hlen hwl (wfs_c (o64_divb (wfs_h (wfs_t hws)) hck.1 hck.2) (wfs_t (wfs_t hws))) had h1 h2
  rw [o64_div (wfs_h (wfs_t hws)) (wfs_h hws) hck.1 hck.2]
  exact this
theorem ss_iand (hd : decode (gby Γ y) pc = .ok (.iand, 1)) : SS Γ y pc (.iand, pc + 1, 0, [], 0) := by
  intro p l e R s mid args below meth c ad0 n0 s0 d ⟨hx, hb, hml, hrt, hlk, hown, hnm, hts, hnst, hao, hK, hC, hex, hA⟩ hr hn L S m
  rcases S with _ | ⟨b | b | b, _ | ⟨a | a | a, r⟩⟩ <;> first | exact True.intro | skip
  intro Qm hk ad H locs ls hab hS hl hlen hwl hws had h1 h2
  refine lv_iand hx hb hd ?_
  have := hk ad H locs ls hab hS hl hlen hwl (wfs_c (o32_b _) (wfs_t (wfs_t hws))) had h1 h2
  rw [o32_and]
  exact this
theorem ss_ior (hd : decode (gby Γ y) pc = .ok (.ior, 1)) : SS Γ y pc (.ior, pc + 1, 0, [], 0) := by
  intro p l e R s mid args below meth c ad0 n0 s0 d ⟨hx, hb, hml, hrt, hlk, hown, hnm, hts, hnst, hao, hK, hC, hex, hA⟩ hr hn L S m
  rcases S with _ | ⟨b | b | b, _ | ⟨a | a | a, r⟩⟩ <;> first | exact True.intro | skip
  intro Qm hk ad H locs ls hab hS hl hlen hwl hws had h1 h2
  refine lv_ior hx hb hd ?_
  have := hk ad H locs ls hab hS hl hlen hwl (wfs_c (o32_b _) (wfs_t (wfs_t hws))) had h1 h2
  rw [o32_or]
  exact this
theorem ss_ixor (hd : decode (gby Γ y) pc = .ok (.ixor, 1)) : SS Γ y pc (.ixor, pc + 1, 0, [], 0) := by
  intro p l e R s mid args below meth c ad0 n0 s0 d ⟨hx, hb, hml, hrt, hlk, hown, hnm, hts, hnst, hao, hK, hC, hex, hA⟩ hr hn L S m
  rcases S with _ | ⟨b | b | b, _ | ⟨a | a | a, r⟩⟩ <;> first | exact True.intro | skip
  intro Qm hk ad H locs ls hab hS hl hlen hwl hws had h1 h2
  refine lv_ixor hx hb hd ?_
  have := hk ad H locs ls hab hS hl hlen hwl (wfs_c (o32_b _) (wfs_t (wfs_t hws))) had h1 h2
  rw [o32_xor]
  exact this
theorem ss_ishl (hd : decode (gby Γ y) pc = .ok (.ishl, 1)) : SS Γ y pc (.ishl, pc + 1, 0, [], 0) := by
  intro p l e R s mid args below meth c ad0 n0 s0 d ⟨hx, hb, hml, hrt, hlk, hown, hnm, hts, hnst, hao, hK, hC, hex, hA⟩ hr hn L S m
  rcases S with _ | ⟨b | b | b, _ | ⟨a | a | a, r⟩⟩ <;> first | exact True.intro | skip
  intro Qm hk ad H locs ls hab hS hl hlen hwl hws had h1 h2
  refine lv_ishl hx hb hd ?_
  have := hk ad H locs ls hab hS hl hlen hwl (wfs_c (o32_b _) (wfs_t (wfs_t hws))) had h1 h2
  rw [o32_shl]
  exact this
theorem ss_ishr (hd : decode (gby Γ y) pc = .ok (.ishr, 1)) : SS Γ y pc (.ishr, pc + 1, 0, [], 0) := by
  intro p l e R s mid args below meth c ad0 n0 s0 d ⟨hx, hb, hml, hrt, hlk, hown, hnm, hts, hnst, hao, hK, hC, hex, hA⟩ hr hn L S m
  rcases S with _ | ⟨b | b | b, _ | ⟨a | a | a, r⟩⟩ <;> first | exact True.intro | skip
  intro Qm hk ad H locs ls hab hS hl hlen hwl hws had h1 h2
  refine lv_ishr hx hb hd ?_
  have := hk ad H locs ls hab hS hl hlen hwl (wfs_c (o32_b _) (wfs_t (wfs_t hws))) had h1 h2
  rw [o32_shr]
  exact this
theorem ss_iushr (hd : decode (gby Γ y) pc = .ok (.iushr, 1)) : SS Γ y pc (.iushr, pc + 1, 0, [], 0) := by
  intro p l e R s mid args below meth c ad0 n0 s0 d ⟨hx, hb, hml, hrt, hlk, hown, hnm, hts, hnst, hao, hK, hC, hex, hA⟩ hr hn L S m
  rcases S with _ | ⟨b | b | b, _ | ⟨a | a | a, r⟩⟩ <;> first | exact True.intro | skip
  intro Qm hk ad H locs ls hab hS hl hlen hwl hws had h1 h2
  refine lv_iushr hx hb hd (o32_ushr a b) ?_
  have := hk ad H locs ls hab hS hl hlen hwl (wfs_c (o32_b _) (wfs_t (wfs_t hws))) had h1 h2
  skip
  exact this
theorem ss_ineg (hd : decode (gby Γ y) pc = .ok (.ineg, 1)) : SS Γ y pc (.ineg, pc + 1, 0, [], 0) := by
  intro p l e R s mid args below meth c ad0 n0 s0 d ⟨hx, hb, hml, hrt, hlk, hown, hnm, hts, hnst, hao, hK, hC, hex, hA⟩ hr hn L S m
  rcases S with _ | ⟨a | a | a, r⟩ <;> first | exact True.intro | skip
  intro hck Qm hk ad H locs ls hab hS hl hlen hwl hws had h1 h2
  refine lv_ineg hx hb hd ?_
  have := hk ad H locs ls hab hS hl hlen hwl (wfs_c hck (wfs_t hws)) had h1 h2
  rw [← Int32.ofInt_neg]
  exact this
theorem ss_i2b (hd : decode (gby Γ y) pc = .ok (.i2b, 1)) : SS Γ y pc (.i2b, pc + 1, 0, [], 0) := by
  intro p l e R s mid args below meth c ad0 n0 s0 d ⟨hx, hb, hml, hrt, hlk, hown, hnm, hts, hnst, hao, hK, hC, hex, hA⟩ hr hn L S m
  rcases S with _ | ⟨a | a | a, r⟩ <;> first | exact True.intro | skip
  intro Qm hk ad H locs ls hab hS hl hlen hwl hws had h1 h2
  refine lv_i2b hx hb hd (o32_i2b a) ?_
  have := hk ad H locs ls hab hS hl hlen hwl (wfs_c (zi2b_b a) (wfs_t hws)) had h1 h2
  skip
  exact this
theorem ss_i2c (hd : decode (gby Γ y) pc = .ok (.i2c, 1)) : SS Γ y pc (.i2c, pc + 1, 0, [], 0) := by
  intro p l e R s mid args below meth c ad0 n0 s0 d ⟨hx, hb, hml, hrt, hlk, hown, hnm, hts, hnst, hao, hK, hC, hex, hA⟩ hr hn L S m
  rcases S with _ | ⟨a | a | a, r⟩ <;> first | exact True.intro | skip
  intro Qm hk ad H locs ls hab hS hl hlen hwl hws had h1 h2
  refine lv_i2c hx hb hd (o32_i2c a) ?_
  have := hk ad H locs ls hab hS hl hlen hwl (wfs_c (zi2c_b a) (wfs_t hws)) had h1 h2
  skip
  exact this
theorem ss_i2l (hd : decode (gby Γ y) pc = .ok (.i2l, 1)) : SS Γ y pc (.i2l, pc + 1, 0, [], 0) := by
  intro p l e R s mid args below meth c ad0 n0 s0 d ⟨hx, hb, hml, hrt, hlk, hown, hnm, hts, hnst, hao, hK, hC, hex, hA⟩ hr hn L S m
  rcases S with _ | ⟨a | a | a, r⟩ <;> first | exact True.intro | skip
  intro Qm hk ad H locs ls hab hS hl hlen hwl hws had h1 h2
  refine lv_i2l hx hb hd (o32_l (wfs_h hws)) ?_
  have := hk ad H locs ls hab hS hl hlen hwl (wfs_c (by have h3 : i32 a := wfs_h hws; exact ⟨by have := h3.1; omega, by have := h3.2; omega⟩) (wfs_t hws)) had h1 h2
  skip
  exact this
theorem ss_l2i (hd : decode (gby Γ y) pc = .ok (.l2i, 1)) : SS Γ y pc (.l2i, pc + 1, 0, [], 0) := by
  intro p l e R s mid args below meth c ad0 n0 s0 d ⟨hx, hb, hml, hrt, hlk, hown, hnm, hts, hnst, hao, hK, hC, hex, hA⟩ hr hn L S m
  rcases S with _ | ⟨a | a | a, r⟩ <;> first | exact True.intro | skip
  intro hck Qm hk ad H locs ls hab hS hl hlen hwl hws had h1 h2
  refine lv_l2i hx hb hd (o64_i hck) ?_
  have := hk ad H locs ls hab hS hl hlen hwl (wfs_c hck (wfs_t hws)) had h1 h2
  skip
  exact this
theorem ss_iload {k : Nat} (hd : decode (gby Γ y) pc = .ok (.iload k, 2)) : SS Γ y pc (.iload k, pc + 2, 0, [], 0) := by
  intro p l e R s mid args below meth c ad0 n0 s0 d ⟨hx, hb, hml, hrt, hlk, hown, hnm, hts, hnst, hao, hK, hC, hex, hA⟩ hr hn L S m
  refine sm_ld (F := SM Γ p l e R s mid args below meth c ad0 n0 s0 (pc, L, _, m)) True.intro (fun v hv => ?_)
  rcases v with a | a | a <;> first | exact True.intro | skip
  intro Qm hk ad H locs ls hab hS hl hlen hwl hws had h1 h2
  have hv2 := hl.2.2 _ _ hv
  have hk := hk ad H locs ls hab hS hl hlen hwl (wfs_c (hwl _ _ hv) hws) had h1 h2
  exact lv_iload hx hb hd hv2 hk
theorem ss_iload_n {j : Fin 4} {k : Nat} (hd : decode (gby Γ y) pc = .ok (.iload_n j, 1)) (hj : (j : Nat) = k) : SS Γ y pc (.iload k, pc + 1, 0, [], 0) := by
  intro p l e R s mid args below meth c ad0 n0 s0 d ⟨hx, hb, hml, hrt, hlk, hown, hnm, hts, hnst, hao, hK, hC, hex, hA⟩ hr hn L S m
  refine sm_ld (F := SM Γ p l e R s mid args below meth c ad0 n0 s0 (pc, L, _, m)) True.intro (fun v hv => ?_)
  rcases v with a | a | a <;> first | exact True.intro | skip
  intro Qm hk ad H locs ls hab hS hl hlen hwl hws had h1 h2
  have hv2 := hl.2.2 _ _ hv
  have hk := hk ad H locs ls hab hS hl hlen hwl (wfs_c (hwl _ _ hv) hws) had h1 h2
  exact lv_iload_n hx hb hd hj hv2 hk
theorem ss_lload {k : Nat} (hd : decode (gby Γ y) pc = .ok (.lload k, 2)) : SS Γ y pc (.lload k, pc + 2, 0, [], 0) := by
  intro p l e R s mid args below meth c ad0 n0 s0 d ⟨hx, hb, hml, hrt, hlk, hown, hnm, hts, hnst, hao, hK, hC, hex, hA⟩ hr hn L S m
  refine sm_ld (F := SM Γ p l e R s mid args below meth c ad0 n0 s0 (pc, L, _, m)) True.intro (fun v hv => ?_)
  rcases v with a | a | a <;> first | exact True.intro | skip
  intro Qm hk ad H locs ls hab hS hl hlen hwl hws had h1 h2
  have hv2 := hl.2.2 _ _ hv
  have hk := hk ad H locs ls hab hS hl hlen hwl (wfs_c (hwl _ _ hv) hws) had h1 h2
  exact lv_lload hx hb hd hv2 hk
theorem ss_lload_n {j : Fin 4} {k : Nat} (hd : decode (gby Γ y) pc = .ok (.lload_n j, 1)) (hj : (j : Nat) = k) : SS Γ y pc (.lload k, pc + 1, 0, [], 0) := by
  intro p l e R s mid args below meth c ad0 n0 s0 d ⟨hx, hb, hml, hrt, hlk, hown, hnm, hts, hnst, hao, hK, hC, hex, hA⟩ hr hn L S m
  refine sm_ld (F := SM Γ p l e R s mid args below meth c ad0 n0 s0 (pc, L, _, m)) True.intro (fun v hv => ?_)
  rcases v with a | a | a <;> first | exact True.intro | skip
  intro Qm hk ad H locs ls hab hS hl hlen hwl hws had h1 h2
  have hv2 := hl.2.2 _ _ hv
  have hk := hk ad H locs ls hab hS hl hlen hwl (wfs_c (hwl _ _ hv) hws) had h1 h2
  exact lv_lload_n hx hb hd hj hv2 hk
theorem ss_aload {k : Nat} (hd : decode (gby Γ y) pc = .ok (.aload k, 2)) : SS Γ y pc (.aload k, pc + 2, 0, [], 0) := by
  intro p l e R s mid args below meth c ad0 n0 s0 d ⟨hx, hb, hml, hrt, hlk, hown, hnm, hts, hnst, hao, hK, hC, hex, hA⟩ hr hn L S m
  refine sm_ld (F := SM Γ p l e R s mid args below meth c ad0 n0 s0 (pc, L, _, m)) True.intro (fun v hv => ?_)
  rcases v with a | a | a <;> first | exact True.intro | skip
  intro Qm hk ad H locs ls hab hS hl hlen hwl hws had h1 h2
  have hv2 := hl.2.2 _ _ hv
  have hk := hk ad H locs ls hab hS hl hlen hwl (wfs_c (hwl _ _ hv) hws) had h1 h2
  by_cases hz : a = 0
  · subst hz
    exact lv_aloadN hx hb hd hv2 hk
  · have hk : W p l e R s mid args below meth c H locs _ _ Qm (F0 mid (pc + 2) ls (va_rf (gr ad a) :: S.map (gvv ad))) := hk
    have hv2 : ls[k]? = some (.val (va_rf (gr ad a))) := hv2
    rw [va_rf_gr hz] at hk hv2
    exact lv_aload hx hb hd hv2 hk
theorem ss_aload_n {j : Fin 4} {k : Nat} (hd : decode (gby Γ y) pc = .ok (.aload_n j, 1)) (hj : (j : Nat) = k) : SS Γ y pc (.aload k, pc + 1, 0, [], 0) := by
  intro p l e R s mid args below meth c ad0 n0 s0 d ⟨hx, hb, hml, hrt, hlk, hown, hnm, hts, hnst, hao, hK, hC, hex, hA⟩ hr hn L S m
  refine sm_ld (F := SM Γ p l e R s mid args below meth c ad0 n0 s0 (pc, L, _, m)) True.intro (fun v hv => ?_)
  rcases v with a | a | a <;> first | exact True.intro | skip
  intro Qm hk ad H locs ls hab hS hl hlen hwl hws had h1 h2
  have hv2 := hl.2.2 _ _ hv
  have hk := hk ad H locs ls hab hS hl hlen hwl (wfs_c (hwl _ _ hv) hws) had h1 h2
  by_cases hz : a = 0
  · subst hz
    exact lv_aload_nN hx hb hd hj hv2 hk
  · have hk : W p l e R s mid args below meth c H locs _ _ Qm (F0 mid (pc + 1) ls (va_rf (gr ad a) :: S.map (gvv ad))) := hk
    have hv2 : ls[k]? = some (.val (va_rf (gr ad a))) := hv2
    rw [va_rf_gr hz] at hk hv2
    exact lv_aload_n hx hb hd hj hv2 hk
theorem ss_istore {k : Nat} (hd : decode (gby Γ y) pc = .ok (.istore k, 2)) : SS Γ y pc (.istore k, pc + 2, 0, [], 0) := by
  intro p l e R s mid args below meth c ad0 n0 s0 d ⟨hx, hb, hml, hrt, hlk, hown, hnm, hts, hnst, hao, hK, hC, hex, hA⟩ hr hn L S m
  rcases S with _ | ⟨a | a | a, r⟩ <;> first | exact True.intro | skip
  refine sm_st1 (F := SM Γ p l e R s mid args below meth c ad0 n0 s0 (pc, L, _, m)) True.intro (fun L' hlen' hk' hj' => ?_)
  intro Qm hk ad H locs ls hab hS hl hlen hwl hws had h1 h2
  have hkk : ∀ ls' : Array Slot, LH ad ls' L' → _ := fun ls' hl' => hk ad H locs ls' hab hS hl' (hlen.trans hlen'.symm) (wfL.st hwl (wfs_h hws) hj') (wfs_t hws) had h1 h2
  exact lv_istore hx hb hd hl.has hk' rfl (fun ls' h' => hkk ls' (LH.st1 (v := mI a) hlen' hj' h'))
theorem ss_istore_n {j : Fin 4} {k : Nat} (hd : decode (gby Γ y) pc = .ok (.istore_n j, 1)) (hj : (j : Nat) = k) : SS Γ y pc (.istore k, pc + 1, 0, [], 0) := by
  intro p l e R s mid args below meth c ad0 n0 s0 d ⟨hx, hb, hml, hrt, hlk, hown, hnm, hts, hnst, hao, hK, hC, hex, hA⟩ hr hn L S m
  rcases S with _ | ⟨a | a | a, r⟩ <;> first | exact True.intro | skip
  refine sm_st1 (F := SM Γ p l e R s mid args below meth c ad0 n0 s0 (pc, L, _, m)) True.intro (fun L' hlen' hk' hj' => ?_)
  intro Qm hk ad H locs ls hab hS hl hlen hwl hws had h1 h2
  have hkk : ∀ ls' : Array Slot, LH ad ls' L' → _ := fun ls' hl' => hk ad H locs ls' hab hS hl' (hlen.trans hlen'.symm) (wfL.st hwl (wfs_h hws) hj') (wfs_t hws) had h1 h2
  exact lv_istore_n hx hb hd hj hl.has hk' rfl (fun ls' h' => hkk ls' (LH.st1 (v := mI a) hlen' hj' h'))
theorem ss_lstore {k : Nat} (hd : decode (gby Γ y) pc = .ok (.lstore k, 2)) : SS Γ y pc (.lstore k, pc + 2, 0, [], 0) := by
  intro p l e R s mid args below meth c ad0 n0 s0 d ⟨hx, hb, hml, hrt, hlk, hown, hnm, hts, hnst, hao, hK, hC, hex, hA⟩ hr hn L S m
  rcases S with _ | ⟨a | a | a, r⟩ <;> first | exact True.intro | skip
  refine sm_st2 (F := SM Γ p l e R s mid args below meth c ad0 n0 s0 (pc, L, _, m)) True.intro (fun L' hlen' hk' hj' => ?_)
  intro Qm hk ad H locs ls hab hS hl hlen hwl hws had h1 h2
  have hkk : ∀ ls' : Array Slot, LH ad ls' L' → _ := fun ls' hl' => hk ad H locs ls' hab hS hl' (hlen.trans hlen'.symm) (wfL.st2 hwl (wfs_h hws) hj') (wfs_t hws) had h1 h2
  exact lv_lstore hx hb hd hl.has hk' rfl (fun ls' h' => hkk ls' (LH.st2 (v := mJ a) hlen' hj' h'))
theorem ss_lstore_n {j : Fin 4} {k : Nat} (hd : decode (gby Γ y) pc = .ok (.lstore_n j, 1)) (hj : (j : Nat) = k) : SS Γ y pc (.lstore k, pc + 1, 0, [], 0) := by
  intro p l e R s mid args below meth c ad0 n0 s0 d ⟨hx, hb, hml, hrt, hlk, hown, hnm, hts, hnst, hao, hK, hC, hex, hA⟩ hr hn L S m
  rcases S with _ | ⟨a | a | a, r⟩ <;> first | exact True.intro | skip
  refine sm_st2 (F := SM Γ p l e R s mid args below meth c ad0 n0 s0 (pc, L, _, m)) True.intro (fun L' hlen' hk' hj' => ?_)
  intro Qm hk ad H locs ls hab hS hl hlen hwl hws had h1 h2
  have hkk : ∀ ls' : Array Slot, LH ad ls' L' → _ := fun ls' hl' => hk ad H locs ls' hab hS hl' (hlen.trans hlen'.symm) (wfL.st2 hwl (wfs_h hws) hj') (wfs_t hws) had h1 h2
  exact lv_lstore_n hx hb hd hj hl.has hk' rfl (fun ls' h' => hkk ls' (LH.st2 (v := mJ a) hlen' hj' h'))
theorem ss_astore {k : Nat} (hd : decode (gby Γ y) pc = .ok (.astore k, 2)) : SS Γ y pc (.astore k, pc + 2, 0, [], 0) := by
  intro p l e R s mid args below meth c ad0 n0 s0 d ⟨hx, hb, hml, hrt, hlk, hown, hnm, hts, hnst, hao, hK, hC, hex, hA⟩ hr hn L S m
  rcases S with _ | ⟨a | a | a, r⟩ <;> first | exact True.intro | skip
  refine sm_st1 (F := SM Γ p l e R s mid args below meth c ad0 n0 s0 (pc, L, _, m)) True.intro (fun L' hlen' hk' hj' => ?_)
  intro Qm hk ad H locs ls hab hS hl hlen hwl hws had h1 h2
  have hkk : ∀ ls' : Array Slot, LH ad ls' L' → _ := fun ls' hl' => hk ad H locs ls' hab hS hl' (hlen.trans hlen'.symm) (wfL.st hwl (wfs_h hws) hj') (wfs_t hws) had h1 h2
  by_cases hz : a = 0
  · subst hz
    exact lv_astoreN hx hb hd hl.has hk' rfl (fun ls' h' => hkk ls' (LH.st1 (v := mR 0) hlen' hj' h'))
  · show W p l e R s mid args below meth c H locs _ _ Qm (F0 mid pc ls (va_rf (gr ad a) :: r.map (gvv ad)))
    rw [va_rf_gr hz]
    refine lv_astore hx hb hd hl.has hk' rfl (fun ls' h' => hkk ls' (LH.st1 (v := mR a) hlen' hj' ?_))
    have e : gvv ad (mR a) = .ref (ad a) := va_rf_gr hz
    rw [e]
    exact h'
theorem ss_astore_n {j : Fin 4} {k : Nat} (hd : decode (gby Γ y) pc = .ok (.astore_n j, 1)) (hj : (j : Nat) = k) : SS Γ y pc (.astore k, pc + 1, 0, [], 0) := by
  intro p l e R s mid args below meth c ad0 n0 s0 d ⟨hx, hb, hml, hrt, hlk, hown, hnm, hts, hnst, hao, hK, hC, hex, hA⟩ hr hn L S m
  rcases S with _ | ⟨a | a | a, r⟩ <;> first | exact True.intro | skip
  refine sm_st1 (F := SM Γ p l e R s mid args below meth c ad0 n0 s0 (pc, L, _, m)) True.intro (fun L' hlen' hk' hj' => ?_)
  intro Qm hk ad H locs ls hab hS hl hlen hwl hws had h1 h2
  have hkk : ∀ ls' : Array Slot, LH ad ls' L' → _ := fun ls' hl' => hk ad H locs ls' hab hS hl' (hlen.trans hlen'.symm) (wfL.st hwl (wfs_h hws) hj') (wfs_t hws) had h1 h2
  by_cases hz : a = 0
  · subst hz
    exact lv_astore_nN hx hb hd hj hl.has hk' rfl (fun ls' h' => hkk ls' (LH.st1 (v := mR 0) hlen' hj' h'))
  · show W p l e R s mid args below meth c H locs _ _ Qm (F0 mid pc ls (va_rf (gr ad a) :: r.map (gvv ad)))
    rw [va_rf_gr hz]
    refine lv_astore_n hx hb hd hj hl.has hk' rfl (fun ls' h' => hkk ls' (LH.st1 (v := mR a) hlen' hj' ?_))
    have e : gvv ad (mR a) = .ref (ad a) := va_rf_gr hz
    rw [e]
    exact h'
theorem ss_iconst {z : Int} (hd : decode (gby Γ y) pc = .ok (.iconst z, 1)) (hz : -128 ≤ z ∧ z ≤ 127) : SS Γ y pc (.ldc 0, pc + 1, 0, [0], z) := by
  intro p l e R s mid args below meth c ad0 n0 s0 d ⟨hx, hb, hml, hrt, hlk, hown, hnm, hts, hnst, hao, hK, hC, hex, hA⟩ hr hn L S m
  intro Qm hk ad H locs ls hab hS hl hlen hwl hws had h1 h2
  have hk := hk ad H locs ls hab hS hl hlen hwl (wfs_c (v := mI (z)) ⟨by omega, by omega⟩ hws) had h1 h2
  exact lv_iconst hx hb hd rfl hk
theorem ss_bipush {z : Int} (hd : decode (gby Γ y) pc = .ok (.bipush z, 2)) (hz : (-128 ≤ z ∧ z ≤ 127) ∧ (Int8.ofInt z).toInt32 = Int32.ofInt z) : SS Γ y pc (.ldc 0, pc + 2, 0, [0], z) := by
  intro p l e R s mid args below meth c ad0 n0 s0 d ⟨hx, hb, hml, hrt, hlk, hown, hnm, hts, hnst, hao, hK, hC, hex, hA⟩ hr hn L S m
  intro Qm hk ad H locs ls hab hS hl hlen hwl hws had h1 h2
  have hk := hk ad H locs ls hab hS hl hlen hwl (wfs_c (v := mI (z)) ⟨by omega, by omega⟩ hws) had h1 h2
  exact lv_bipush hx hb hd hz.2 hk
theorem ss_sipush {z : Int} (hd : decode (gby Γ y) pc = .ok (.sipush z, 3)) (hz : (-32768 ≤ z ∧ z ≤ 32767) ∧ (Int16.ofInt z).toInt32 = Int32.ofInt z) : SS Γ y pc (.ldc 0, pc + 3, 0, [0], z) := by
  intro p l e R s mid args below meth c ad0 n0 s0 d ⟨hx, hb, hml, hrt, hlk, hown, hnm, hts, hnst, hao, hK, hC, hex, hA⟩ hr hn L S m
  intro Qm hk ad H locs ls hab hS hl hlen hwl hws had h1 h2
  have hk := hk ad H locs ls hab hS hl hlen hwl (wfs_c (v := mI (z)) ⟨by omega, by omega⟩ hws) had h1 h2
  exact lv_sipush hx hb hd hz.2 hk
theorem ss_ldci {z : Int} {v : Int32} {i : Nat} (hd : decode (gby Γ y) pc = .ok (.ldc i, 2)) (hw : Jvm.Cond.constant (gnm Γ y).cls i v ∈ lw_all) (hz : i32 z ∧ v = Int32.ofInt z) : SS Γ y pc (.ldc 0, pc + 2, 0, [0], z) := by
  intro p l e R s mid args below meth c ad0 n0 s0 d ⟨hx, hb, hml, hrt, hlk, hown, hnm, hts, hnst, hao, hK, hC, hex, hA⟩ hr hn L S m
  intro Qm hk ad H locs ls hab hS hl hlen hwl hws had h1 h2
  have hk := hk ad H locs ls hab hS hl hlen hwl (wfs_c (v := mI (z)) hz.1 hws) had h1 h2
  exact lv_ldc hx hb hown (by rw [← hz.2]; exact hts _ hw) hd hk
theorem ss_ldc2 {z : Int} {v : Int64} {i : Nat} (hd : decode (gby Γ y) pc = .ok (.ldc2_w i, 3)) (hw : Jvm.Cond.constantLong (gnm Γ y).cls i v ∈ lw_all) (hz : i64 z ∧ v = Int64.ofInt z) : SS Γ y pc (.ldc 0, pc + 3, 0, [1], z) := by
  intro p l e R s mid args below meth c ad0 n0 s0 d ⟨hx, hb, hml, hrt, hlk, hown, hnm, hts, hnst, hao, hK, hC, hex, hA⟩ hr hn L S m
  intro Qm hk ad H locs ls hab hS hl hlen hwl hws had h1 h2
  have hk := hk ad H locs ls hab hS hl hlen hwl (wfs_c (v := mJ (z)) hz.1 hws) had h1 h2
  exact lv_ldc2 hx hb hown (by rw [← hz.2]; exact hts _ hw) hd hk
theorem ss_lconst {n : Fin 2} {z : Int} (hd : decode (gby Γ y) pc = .ok (.lconst n, 1)) (hz : i64 z ∧ Int64.ofNat (n : Nat) = Int64.ofInt z) : SS Γ y pc (.ldc 0, pc + 1, 0, [1], z) := by
  intro p l e R s mid args below meth c ad0 n0 s0 d ⟨hx, hb, hml, hrt, hlk, hown, hnm, hts, hnst, hao, hK, hC, hex, hA⟩ hr hn L S m
  intro Qm hk ad H locs ls hab hS hl hlen hwl hws had h1 h2
  have hk := hk ad H locs ls hab hS hl hlen hwl (wfs_c (v := mJ (z)) hz.1 hws) had h1 h2
  exact lv_lconst hx hb hd hz.2 hk
theorem ss_null (hd : decode (gby Γ y) pc = .ok (.aconst_null, 1)) : SS Γ y pc (.ldc 0, pc + 1, 0, [2], 0) := by
  intro p l e R s mid args below meth c ad0 n0 s0 d ⟨hx, hb, hml, hrt, hlk, hown, hnm, hts, hnst, hao, hK, hC, hex, hA⟩ hr hn L S m
  intro Qm hk ad H locs ls hab hS hl hlen hwl hws had h1 h2
  have hk := hk ad H locs ls hab hS hl hlen hwl (wfs_c (v := mR (0)) ⟨Int.le_refl 0, by have h3 : n0 ≤ m.2.2.2.1 := h1.1; have h4 : (1000 : Int) ≤ n0 := hn; show (0 : Int) < m.2.2.2.1; omega⟩ hws) had h1 h2
  exact lv_null hx hb hd hk
theorem ss_iinc {k : Nat} {n : Int} (hd : decode (gby Γ y) pc = .ok (.iinc k n, 3)) : SS Γ y pc (.iinc k n, pc + 3, 0, [], 0) := by
  intro p l e R s mid args below meth c ad0 n0 s0 d ⟨hx, hb, hml, hrt, hlk, hown, hnm, hts, hnst, hao, hK, hC, hex, hA⟩ hr hn L S m
  refine sm_ld (F := SM Γ p l e R s mid args below meth c ad0 n0 s0 (pc, L, _, m)) True.intro (fun v hv => ?_)
  rcases v with a | a | a <;> first | exact True.intro | skip
  refine sm_st1 (F := SM Γ p l e R s mid args below meth c ad0 n0 s0 (pc, L, _, m)) True.intro (fun L' hlen' hk' hj' => ?_)
  intro hck Qm hk ad H locs ls hab hS hl hlen hwl hws had h1 h2
  obtain ⟨q, hq⟩ := List.getElem?_of_mem ((lvL_mem ad L 0 (k, gvv ad (mI a))).mpr ⟨k, mI a, hv, by rw [Nat.zero_add]⟩)
  refine lv_iinc (v := Int32.ofInt (a + n)) hx hb hd hl.has hq (Int32.ofInt_add a n).symm hk' rfl (fun ls' h' => ?_)
  exact hk ad H locs ls' hab hS (LH.st1 (v := mI (a + n)) hlen' hj' h') (hlen.trans hlen'.symm) (wfL.st (v := mI (a + n)) hwl hck hj') hws had h1 h2
theorem ss_dup (hd : decode (gby Γ y) pc = .ok (.dup, 1)) : SS Γ y pc (.dup, pc + 1, 0, [], 0) := by
  intro p l e R s mid args below meth c ad0 n0 s0 d ⟨hx, hb, hml, hrt, hlk, hown, hnm, hts, hnst, hao, hK, hC, hex, hA⟩ hr hn L S m
  rcases S with _ | ⟨a | a | a, r⟩ <;> first | exact True.intro | skip
  all_goals
    intro Qm hk ad H locs ls hab hS hl hlen hwl hws had h1 h2
    exact lv_dup hx hb hd (gvv_cat1 ad _ rfl) (hk ad H locs ls hab hS hl hlen hwl (wfs_c (wfs_h hws) hws) had h1 h2)
theorem ss_pop (hd : decode (gby Γ y) pc = .ok (.pop, 1)) : SS Γ y pc (.pop, pc + 1, 0, [], 0) := by
  intro p l e R s mid args below meth c ad0 n0 s0 d ⟨hx, hb, hml, hrt, hlk, hown, hnm, hts, hnst, hao, hK, hC, hex, hA⟩ hr hn L S m
  rcases S with _ | ⟨a | a | a, r⟩ <;> first | exact True.intro | skip
  all_goals
    intro Qm hk ad H locs ls hab hS hl hlen hwl hws had h1 h2
    exact lv_pop hx hb hd (gvv_cat1 ad _ rfl) (hk ad H locs ls hab hS hl hlen hwl (wfs_t hws) had h1 h2)
theorem ss_dup_x1 (hd : decode (gby Γ y) pc = .ok (.dup_x1, 1)) : SS Γ y pc (.dup_x1, pc + 1, 0, [], 0) := by
  intro p l e R s mid args below meth c ad0 n0 s0 d ⟨hx, hb, hml, hrt, hlk, hown, hnm, hts, hnst, hao, hK, hC, hex, hA⟩ hr hn L S m
  rcases S with _ | ⟨b | b | b, _ | ⟨a | a | a, r⟩⟩ <;> first | exact True.intro | skip
  all_goals
    intro Qm hk ad H locs ls hab hS hl hlen hwl hws had h1 h2
    exact lv_dup_x1 hx hb hd (gvv_cat1 ad _ rfl) (gvv_cat1 ad _ rfl) (hk ad H locs ls hab hS hl hlen hwl (wfs_c (wfs_h hws) (wfs_c (wfs_h (wfs_t hws)) (wfs_c (wfs_h hws) (wfs_t (wfs_t hws))))) had h1 h2)
theorem ss_dup2 (hd : decode (gby Γ y) pc = .ok (.dup2, 1)) : SS Γ y pc (.dup2, pc + 1, 0, [], 0) := by
  intro p l e R s mid args below meth c ad0 n0 s0 d ⟨hx, hb, hml, hrt, hlk, hown, hnm, hts, hnst, hao, hK, hC, hex, hA⟩ hr hn L S m
  rcases S with _ | ⟨b | b | b, r⟩
  · exact True.intro
  · rcases r with _ | ⟨a | a | a, r⟩ <;> first | exact True.intro | skip
    all_goals
      intro Qm hk ad H locs ls hab hS hl hlen hwl hws had h1 h2
      exact lv_dup2_11 hx hb hd (gvv_cat1 ad _ rfl) (gvv_cat1 ad _ rfl) (hk ad H locs ls hab hS hl hlen hwl (wfs_c (wfs_h hws) (wfs_c (wfs_h (wfs_t hws)) hws)) had h1 h2)
  · intro Qm hk ad H locs ls hab hS hl hlen hwl hws had h1 h2
    exact lv_dup2_2 hx hb hd (gvv_cat2 ad _ rfl) (hk ad H locs ls hab hS hl hlen hwl (wfs_c (wfs_h hws) hws) had h1 h2)
  · rcases r with _ | ⟨a | a | a, r⟩ <;> first | exact True.intro | skip
    all_goals
      intro Qm hk ad H locs ls hab hS hl hlen hwl hws had h1 h2
      exact lv_dup2_11 hx hb hd (gvv_cat1 ad _ rfl) (gvv_cat1 ad _ rfl) (hk ad H locs ls hab hS hl hlen hwl (wfs_c (wfs_h hws) (wfs_c (wfs_h (wfs_t hws)) hws)) had h1 h2)
theorem ss_icmp_eq {off : Int} {tg : Nat} (hd : decode (gby Γ y) pc = .ok (.if_icmp .eq off, 3)) (ht : (pc : Int) + off = (tg : Int)) : SS Γ y pc (.if_icmp .eq 0, pc + 3, tg, [], 0) := by
  intro p l e R s mid args below meth c ad0 n0 s0 d ⟨hx, hb, hml, hrt, hlk, hown, hnm, hts, hnst, hao, hK, hC, hex, hA⟩ hr hn L S m
  rcases S with _ | ⟨b | b | b, _ | ⟨a | a | a, r⟩⟩ <;> first | exact True.intro | skip
  intro Qm hk ad H locs ls hab hS hl hlen hwl hws had h1 h2
  have hk : if a = b then (WA Γ p l e R s mid args below meth c ad0 n0 s0 Qm (tg, L, r, m)) else (WA Γ p l e R s mid args below meth c ad0 n0 s0 Qm (pc + 3, L, r, m)) := hk
  have hrel := o32_eq (x := a) (y := b) (wfs_h (wfs_t hws)) (wfs_h hws)
  refine lv_icmp_eq hx hb hd ht (fun hc => ?_) (fun hc => ?_)
  · rw [if_pos (hrel.mp hc)] at hk
    exact hk ad H locs ls hab hS hl hlen hwl (wfs_t (wfs_t hws)) had h1 h2
  · rw [if_neg (fun hq => hc (hrel.mpr hq))] at hk
    exact hk ad H locs ls hab hS hl hlen hwl (wfs_t (wfs_t hws)) had h1 h2
theorem ss_if_eq {off : Int} {tg : Nat} (hd : decode (gby Γ y) pc = .ok (.ifCond .eq off, 3)) (ht : (pc : Int) + off = (tg : Int)) : SS Γ y pc (.ifCond .eq 0, pc + 3, tg, [], 0) := by
  intro p l e R s mid args below meth c ad0 n0 s0 d ⟨hx, hb, hml, hrt, hlk, hown, hnm, hts, hnst, hao, hK, hC, hex, hA⟩ hr hn L S m
  rcases S with _ | ⟨a | a | a, r⟩ <;> first | exact True.intro | skip
  intro Qm hk ad H locs ls hab hS hl hlen hwl hws had h1 h2
  have hk : if a = 0 then (WA Γ p l e R s mid args below meth c ad0 n0 s0 Qm (tg, L, r, m)) else (WA Γ p l e R s mid args below meth c ad0 n0 s0 Qm (pc + 3, L, r, m)) := hk
  have hrel := o32_eq (x := a) (y := 0) (wfs_h hws) o32_i
  rw [o32_0] at hrel
  refine lv_if_eq hx hb hd ht (fun hc => ?_) (fun hc => ?_)
  · rw [if_pos (hrel.mp hc)] at hk
    exact hk ad H locs ls hab hS hl hlen hwl (wfs_t hws) had h1 h2
  · rw [if_neg (fun hq => hc (hrel.mpr hq))] at hk
    exact hk ad H locs ls hab hS hl hlen hwl (wfs_t hws) had h1 h2
theorem ss_icmp_ne {off : Int} {tg : Nat} (hd : decode (gby Γ y) pc = .ok (.if_icmp .ne off, 3)) (ht : (pc : Int) + off = (tg : Int)) : SS Γ y pc (.if_icmp .ne 0, pc + 3, tg, [], 0) := by
  intro p l e R s mid args below meth c ad0 n0 s0 d ⟨hx, hb, hml, hrt, hlk, hown, hnm, hts, hnst, hao, hK, hC, hex, hA⟩ hr hn L S m
  rcases S with _ | ⟨b | b | b, _ | ⟨a | a | a, r⟩⟩ <;> first | exact True.intro | skip
  intro Qm hk ad H locs ls hab hS hl hlen hwl hws had h1 h2
  have hk : if a = b then (WA Γ p l e R s mid args below meth c ad0 n0 s0 Qm (pc + 3, L, r, m)) else (WA Γ p l e R s mid args below meth c ad0 n0 s0 Qm (tg, L, r, m)) := hk
  have hrel := o32_eq (x := a) (y := b) (wfs_h (wfs_t hws)) (wfs_h hws)
  refine lv_icmp_ne hx hb hd ht (fun hc => ?_) (fun hc => ?_)
  · rw [if_neg (fun hq => hc (hrel.mpr hq))] at hk
    exact hk ad H locs ls hab hS hl hlen hwl (wfs_t (wfs_t hws)) had h1 h2
  · rw [if_pos (hrel.mp hc)] at hk
    exact hk ad H locs ls hab hS hl hlen hwl (wfs_t (wfs_t hws)) had h1 h2
theorem ss_if_ne {off : Int} {tg : Nat} (hd : decode (gby Γ y) pc = .ok (.ifCond .ne off, 3)) (ht : (pc : Int) + off = (tg : Int)) : SS Γ y pc (.ifCond .ne 0, pc + 3, tg, [], 0) := by
  intro p l e R s mid args below meth c ad0 n0 s0 d ⟨hx, hb, hml, hrt, hlk, hown, hnm, hts, hnst, hao, hK, hC, hex, hA⟩ hr hn L S m
  rcases S with _ | ⟨a | a | a, r⟩ <;> first | exact True.intro | skip
  intro Qm hk ad H locs ls hab hS hl hlen hwl hws had h1 h2
  have hk : if a = 0 then (WA Γ p l e R s mid args below meth c ad0 n0 s0 Qm (pc + 3, L, r, m)) else (WA Γ p l e R s mid args below meth c ad0 n0 s0 Qm (tg, L, r, m)) := hk
  have hrel := o32_eq (x := a) (y := 0) (wfs_h hws) o32_i
  rw [o32_0] at hrel
  refine lv_if_ne hx hb hd ht (fun hc => ?_) (fun hc => ?_)
  · rw [if_neg (fun hq => hc (hrel.mpr hq))] at hk
    exact hk ad H locs ls hab hS hl hlen hwl (wfs_t hws) had h1 h2
  · rw [if_pos (hrel.mp hc)] at hk
    exact hk ad H locs ls hab hS hl hlen hwl (wfs_t hws) had h1 h2
theorem ss_icmp_lt {off : Int} {tg : Nat} (hd : decode (gby Γ y) pc = .ok (.if_icmp .lt off, 3)) (ht : (pc : Int) + off = (tg : Int)) : SS Γ y pc (.if_icmp .lt 0, pc + 3, tg, [], 0) := by
  intro p l e R s mid args below meth c ad0 n0 s0 d ⟨hx, hb, hml, hrt, hlk, hown, hnm, hts, hnst, hao, hK, hC, hex, hA⟩ hr hn L S m
  rcases S with _ | ⟨b | b | b, _ | ⟨a | a | a, r⟩⟩ <;> first | exact True.intro | skip
  intro Qm hk ad H locs ls hab hS hl hlen hwl hws had h1 h2
  have hk : if a < b then (WA Γ p l e R s mid args below meth c ad0 n0 s0 Qm (tg, L, r, m)) else (WA Γ p l e R s mid args below meth c ad0 n0 s0 Qm (pc + 3, L, r, m)) := hk
  have hrel := o32_lt (x := a) (y := b) (wfs_h (wfs_t hws)) (wfs_h hws)
  refine lv_icmp_lt hx hb hd ht (fun hc => ?_) (fun hc => ?_)
  · rw [if_pos (hrel.mp hc)] at hk
    exact hk ad H locs ls hab hS hl hlen hwl (wfs_t (wfs_t hws)) had h1 h2
  · rw [if_neg (fun hq => hc (hrel.mpr hq))] at hk
    exact hk ad H locs ls hab hS hl hlen hwl (wfs_t (wfs_t hws)) had h1 h2
theorem ss_if_lt {off : Int} {tg : Nat} (hd : decode (gby Γ y) pc = .ok (.ifCond .lt off, 3)) (ht : (pc : Int) + off = (tg : Int)) : SS Γ y pc (.ifCond .lt 0, pc + 3, tg, [], 0) := by
  intro p l e R s mid args below meth c ad0 n0 s0 d ⟨hx, hb, hml, hrt, hlk, hown, hnm, hts, hnst, hao, hK, hC, hex, hA⟩ hr hn L S m
  rcases S with _ | ⟨a | a | a, r⟩ <;> first | exact True.intro | skip
  intro Qm hk ad H locs ls hab hS hl hlen hwl hws had h1 h2
  have hk : if a < 0 then (WA Γ p l e R s mid args below meth c ad0 n0 s0 Qm (tg, L, r, m)) else (WA Γ p l e R s mid args below meth c ad0 n0 s0 Qm (pc + 3, L, r, m)) := hk
  have hrel := o32_lt (x := a) (y := 0) (wfs_h hws) o32_i
  rw [o32_0] at hrel
  refine lv_if_lt hx hb hd ht (fun hc => ?_) (fun hc => ?_)
  · rw [if_pos (hrel.mp hc)] at hk
    exact hk ad H locs ls hab hS hl hlen hwl (wfs_t hws) had h1 h2
  · rw [if_neg (fun hq => hc (hrel.mpr hq))] at hk
    exact hk ad H locs ls hab hS hl hlen hwl (wfs_t hws) had h1 h2
theorem ss_icmp_ge {off : Int} {tg : Nat} (hd : decode (gby Γ y) pc = .ok (.if_icmp .ge off, 3)) (ht : (pc : Int) + off = (tg : Int)) : SS Γ y pc (.if_icmp .ge 0, pc + 3, tg, [], 0) := by
  intro p l e R s mid args below meth c ad0 n0 s0 d ⟨hx, hb, hml, hrt, hlk, hown, hnm, hts, hnst, hao, hK, hC, hex, hA⟩ hr hn L S m
  rcases S with _ | ⟨b | b | b, _ | ⟨a | a | a, r⟩⟩ <;> first | exact True.intro | skip
  intro Qm hk ad H locs ls hab hS hl hlen hwl hws had h1 h2
  have hk : if a < b then (WA Γ p l e R s mid args below meth c ad0 n0 s0 Qm (pc + 3, L, r, m)) else (WA Γ p l e R s mid args below meth c ad0 n0 s0 Qm (tg, L, r, m)) := hk
  have hrel := o32_lt (x := a) (y := b) (wfs_h (wfs_t hws)) (wfs_h hws)
  refine lv_icmp_ge hx hb hd ht (fun hc => ?_) (fun hc => ?_)
  · rw [if_neg (fun hq => Int32.not_lt.mpr hc (hrel.mpr hq))] at hk
    exact hk ad H locs ls hab hS hl hlen hwl (wfs_t (wfs_t hws)) had h1 h2
  · rw [if_pos (hrel.mp (Int32.not_le.mp hc))] at hk
    exact hk ad H locs ls hab hS hl hlen hwl (wfs_t (wfs_t hws)) had h1 h2
theorem ss_if_ge {off : Int} {tg : Nat} (hd : decode (gby Γ y) pc = .ok (.ifCond .ge off, 3)) (ht : (pc : Int) + off = (tg : Int)) : SS Γ y pc (.ifCond .ge 0, pc + 3, tg, [], 0) := by
  intro p l e R s mid args below meth c ad0 n0 s0 d ⟨hx, hb, hml, hrt, hlk, hown, hnm, hts, hnst, hao, hK, hC, hex, hA⟩ hr hn L S m
  rcases S with _ | ⟨a | a | a, r⟩ <;> first | exact True.intro | skip
  intro Qm hk ad H locs ls hab hS hl hlen hwl hws had h1 h2
  have hk : if a < 0 then (WA Γ p l e R s mid args below meth c ad0 n0 s0 Qm (pc + 3, L, r, m)) else (WA Γ p l e R s mid args below meth c ad0 n0 s0 Qm (tg, L, r, m)) := hk
  have hrel := o32_lt (x := a) (y := 0) (wfs_h hws) o32_i
  rw [o32_0] at hrel
  refine lv_if_ge hx hb hd ht (fun hc => ?_) (fun hc => ?_)
  · rw [if_neg (fun hq => Int32.not_lt.mpr hc (hrel.mpr hq))] at hk
    exact hk ad H locs ls hab hS hl hlen hwl (wfs_t hws) had h1 h2
  · rw [if_pos (hrel.mp (Int32.not_le.mp hc))] at hk
    exact hk ad H locs ls hab hS hl hlen hwl (wfs_t hws) had h1 h2
theorem ss_icmp_gt {off : Int} {tg : Nat} (hd : decode (gby Γ y) pc = .ok (.if_icmp .gt off, 3)) (ht : (pc : Int) + off = (tg : Int)) : SS Γ y pc (.if_icmp .gt 0, pc + 3, tg, [], 0) := by
  intro p l e R s mid args below meth c ad0 n0 s0 d ⟨hx, hb, hml, hrt, hlk, hown, hnm, hts, hnst, hao, hK, hC, hex, hA⟩ hr hn L S m
  rcases S with _ | ⟨b | b | b, _ | ⟨a | a | a, r⟩⟩ <;> first | exact True.intro | skip
  intro Qm hk ad H locs ls hab hS hl hlen hwl hws had h1 h2
  have hk : if b < a then (WA Γ p l e R s mid args below meth c ad0 n0 s0 Qm (tg, L, r, m)) else (WA Γ p l e R s mid args below meth c ad0 n0 s0 Qm (pc + 3, L, r, m)) := hk
  have hrel := o32_lt (x := b) (y := a) (wfs_h hws) (wfs_h (wfs_t hws))
  refine lv_icmp_gt hx hb hd ht (fun hc => ?_) (fun hc => ?_)
  · rw [if_pos (hrel.mp hc)] at hk
    exact hk ad H locs ls hab hS hl hlen hwl (wfs_t (wfs_t hws)) had h1 h2
  · rw [if_neg (fun hq => hc (hrel.mpr hq))] at hk
    exact hk ad H locs ls hab hS hl hlen hwl (wfs_t (wfs_t hws)) had h1 h2
theorem ss_if_gt {off : Int} {tg : Nat} (hd : decode (gby Γ y) pc = .ok (.ifCond .gt off, 3)) (ht : (pc : Int) + off = (tg : Int)) : SS Γ y pc (.ifCond .gt 0, pc + 3, tg, [], 0) := by
  intro p l e R s mid args below meth c ad0 n0 s0 d ⟨hx, hb, hml, hrt, hlk, hown, hnm, hts, hnst, hao, hK, hC, hex, hA⟩ hr hn L S m
  rcases S with _ | ⟨a | a | a, r⟩ <;> first | exact True.intro | skip
  intro Qm hk ad H locs ls hab hS hl hlen hwl hws had h1 h2
  have hk : if 0 < a then (WA Γ p l e R s mid args below meth c ad0 n0 s0 Qm (tg, L, r, m)) else (WA Γ p l e R s mid args below meth c ad0 n0 s0 Qm (pc + 3, L, r, m)) := hk
  have hrel := o32_lt (x := 0) (y := a) o32_i (wfs_h hws)
  rw [o32_0] at hrel
  refine lv_if_gt hx hb hd ht (fun hc => ?_) (fun hc => ?_)
  · rw [if_pos (hrel.mp hc)] at hk
    exact hk ad H locs ls hab hS hl hlen hwl (wfs_t hws) had h1 h2
  · rw [if_neg (fun hq => hc (hrel.mpr hq))] at hk
    exact hk ad H locs ls hab hS hl hlen hwl (wfs_t hws) had h1 h2
theorem ss_icmp_le {off : Int} {tg : Nat} (hd : decode (gby Γ y) pc = .ok (.if_icmp .le off, 3)) (ht : (pc : Int) + off = (tg : Int)) : SS Γ y pc (.if_icmp .le 0, pc + 3, tg, [], 0) := by
  intro p l e R s mid args below meth c ad0 n0 s0 d ⟨hx, hb, hml, hrt, hlk, hown, hnm, hts, hnst, hao, hK, hC, hex, hA⟩ hr hn L S m
  rcases S with _ | ⟨b | b | b, _ | ⟨a | a | a, r⟩⟩ <;> first | exact True.intro | skip
  intro Qm hk ad H locs ls hab hS hl hlen hwl hws had h1 h2
  have hk : if b < a then (WA Γ p l e R s mid args below meth c ad0 n0 s0 Qm (pc + 3, L, r, m)) else (WA Γ p l e R s mid args below meth c ad0 n0 s0 Qm (tg, L, r, m)) := hk
  have hrel := o32_lt (x := b) (y := a) (wfs_h hws) (wfs_h (wfs_t hws))
  refine lv_icmp_le hx hb hd ht (fun hc => ?_) (fun hc => ?_)
  · rw [if_neg (fun hq => Int32.not_lt.mpr hc (hrel.mpr hq))] at hk
    exact hk ad H locs ls hab hS hl hlen hwl (wfs_t (wfs_t hws)) had h1 h2
  · rw [if_pos (hrel.mp (Int32.not_le.mp hc))] at hk
    exact hk ad H locs ls hab hS hl hlen hwl (wfs_t (wfs_t hws)) had h1 h2
theorem ss_if_le {off : Int} {tg : Nat} (hd : decode (gby Γ y) pc = .ok (.ifCond .le off, 3)) (ht : (pc : Int) + off = (tg : Int)) : SS Γ y pc (.ifCond .le 0, pc + 3, tg, [], 0) := by
  intro p l e R s mid args below meth c ad0 n0 s0 d ⟨hx, hb, hml, hrt, hlk, hown, hnm, hts, hnst, hao, hK, hC, hex, hA⟩ hr hn L S m
  rcases S with _ | ⟨a | a | a, r⟩ <;> first | exact True.intro | skip
  intro Qm hk ad H locs ls hab hS hl hlen hwl hws had h1 h2
  have hk : if 0 < a then (WA Γ p l e R s mid args below meth c ad0 n0 s0 Qm (pc + 3, L, r, m)) else (WA Γ p l e R s mid args below meth c ad0 n0 s0 Qm (tg, L, r, m)) := hk
  have hrel := o32_lt (x := 0) (y := a) o32_i (wfs_h hws)
  rw [o32_0] at hrel
  refine lv_if_le hx hb hd ht (fun hc => ?_) (fun hc => ?_)
  · rw [if_neg (fun hq => Int32.not_lt.mpr hc (hrel.mpr hq))] at hk
    exact hk ad H locs ls hab hS hl hlen hwl (wfs_t hws) had h1 h2
  · rw [if_pos (hrel.mp (Int32.not_le.mp hc))] at hk
    exact hk ad H locs ls hab hS hl hlen hwl (wfs_t hws) had h1 h2
theorem ss_goto {off : Int} {tg : Nat} (hd : decode (gby Γ y) pc = .ok (.goto off, 3)) (ht : (pc : Int) + off = (tg : Int)) : SS Γ y pc (.goto 0, tg, 0, [], 0) := by
  intro p l e R s mid args below meth c ad0 n0 s0 d ⟨hx, hb, hml, hrt, hlk, hown, hnm, hts, hnst, hao, hK, hC, hex, hA⟩ hr hn L S m
  intro Qm hk ad H locs ls hab hS hl hlen hwl hws had h1 h2
  exact lv_goto hx hb hd ht (hk ad H locs ls hab hS hl hlen hwl hws had h1 h2)
theorem ss_ifnull {off : Int} {tg : Nat} (hd : decode (gby Γ y) pc = .ok (.ifnull off, 3)) (ht : (pc : Int) + off = (tg : Int)) : SS Γ y pc (.ifnull 0, pc + 3, tg, [], 0) := by
  intro p l e R s mid args below meth c ad0 n0 s0 d ⟨hx, hb, hml, hrt, hlk, hown, hnm, hts, hnst, hao, hK, hC, hex, hA⟩ hr hn L S m
  rcases S with _ | ⟨a | a | a, r⟩ <;> first | exact True.intro | skip
  intro Qm hk ad H locs ls hab hS hl hlen hwl hws had h1 h2
  have hk : if a = 0 then (WA Γ p l e R s mid args below meth c ad0 n0 s0 Qm (tg, L, r, m)) else (WA Γ p l e R s mid args below meth c ad0 n0 s0 Qm (pc + 3, L, r, m)) := hk
  by_cases hz : a = 0
  · rw [if_pos hz] at hk
    subst hz
    exact lv_ifnullN hx hb hd ht (hk ad H locs ls hab hS hl hlen hwl (wfs_t hws) had h1 h2)
  · rw [if_neg hz] at hk
    show W p l e R s mid args below meth c H locs _ _ Qm (F0 mid pc ls (va_rf (gr ad a) :: r.map (gvv ad)))
    rw [va_rf_gr hz]
    exact lv_ifnull hx hb hd (hk ad H locs ls hab hS hl hlen hwl (wfs_t hws) had h1 h2)
theorem ss_ifnonnull {off : Int} {tg : Nat} (hd : decode (gby Γ y) pc = .ok (.ifnonnull off, 3)) (ht : (pc : Int) + off = (tg : Int)) : SS Γ y pc (.ifnonnull 0, pc + 3, tg, [], 0) := by
  intro p l e R s mid args below meth c ad0 n0 s0 d ⟨hx, hb, hml, hrt, hlk, hown, hnm, hts, hnst, hao, hK, hC, hex, hA⟩ hr hn L S m
  rcases S with _ | ⟨a | a | a, r⟩ <;> first | exact True.intro | skip
  intro Qm hk ad H locs ls hab hS hl hlen hwl hws had h1 h2
  have hk : if a = 0 then (WA Γ p l e R s mid args below meth c ad0 n0 s0 Qm (pc + 3, L, r, m)) else (WA Γ p l e R s mid args below meth c ad0 n0 s0 Qm (tg, L, r, m)) := hk
  by_cases hz : a = 0
  · rw [if_pos hz] at hk
    subst hz
    exact lv_ifnonnullN hx hb hd (hk ad H locs ls hab hS hl hlen hwl (wfs_t hws) had h1 h2)
  · rw [if_neg hz] at hk
    show W p l e R s mid args below meth c H locs _ _ Qm (F0 mid pc ls (va_rf (gr ad a) :: r.map (gvv ad)))
    rw [va_rf_gr hz]
    exact lv_ifnonnull hx hb hd ht (hk ad H locs ls hab hS hl hlen hwl (wfs_t hws) had h1 h2)
theorem ss_lcmp_eq {off : Int} {tg : Nat} (hd : decode (gby Γ y) pc = .ok (.lcmp, 1)) (hd2 : decode (gby Γ y) (pc + 1) = .ok (.ifCond .eq off, 3)) (ht : ((pc + 1 : Nat) : Int) + off = (tg : Int)) : SS Γ y pc (.lcmp, pc + 4, tg, [0], 0) := by
  intro p l e R s mid args below meth c ad0 n0 s0 d ⟨hx, hb, hml, hrt, hlk, hown, hnm, hts, hnst, hao, hK, hC, hex, hA⟩ hr hn L S m
  rcases S with _ | ⟨b | b | b, _ | ⟨a | a | a, r⟩⟩ <;> first | exact True.intro | skip
  intro Qm hk ad H locs ls hab hS hl hlen hwl hws had h1 h2
  have hk : if a = b then (WA Γ p l e R s mid args below meth c ad0 n0 s0 Qm (tg, L, r, m)) else (WA Γ p l e R s mid args below meth c ad0 n0 s0 Qm (pc + 4, L, r, m)) := hk
  have hcm := sm_lcmp (wfs_h (wfs_t hws)) (wfs_h hws)
  refine W.lcmp hx hb hd ?_
  refine lv_if_eq hx hb hd2 ht (fun hc => ?_) (fun hc => ?_)
  · rw [if_pos (hcm.1.mp hc)] at hk
    exact hk ad H locs ls hab hS hl hlen hwl (wfs_t (wfs_t hws)) had h1 h2
  · rw [if_neg (fun hq => hc (hcm.1.mpr hq))] at hk
    exact hk ad H locs ls hab hS hl hlen hwl (wfs_t (wfs_t hws)) had h1 h2
theorem ss_lcmp_ne {off : Int} {tg : Nat} (hd : decode (gby Γ y) pc = .ok (.lcmp, 1)) (hd2 : decode (gby Γ y) (pc + 1) = .ok (.ifCond .ne off, 3)) (ht : ((pc + 1 : Nat) : Int) + off = (tg : Int)) : SS Γ y pc (.lcmp, pc + 4, tg, [1], 0) := by
  intro p l e R s mid args below meth c ad0 n0 s0 d ⟨hx, hb, hml, hrt, hlk, hown, hnm, hts, hnst, hao, hK, hC, hex, hA⟩ hr hn L S m
  rcases S with _ | ⟨b | b | b, _ | ⟨a | a | a, r⟩⟩ <;> first | exact True.intro | skip
  intro Qm hk ad H locs ls hab hS hl hlen hwl hws had h1 h2
  have hk : if a = b then (WA Γ p l e R s mid args below meth c ad0 n0 s0 Qm (pc + 4, L, r, m)) else (WA Γ p l e R s mid args below meth c ad0 n0 s0 Qm (tg, L, r, m)) := hk
  have hcm := sm_lcmp (wfs_h (wfs_t hws)) (wfs_h hws)
  refine W.lcmp hx hb hd ?_
  refine lv_if_ne hx hb hd2 ht (fun hc => ?_) (fun hc => ?_)
  · rw [if_neg (fun hq => hc (hcm.1.mpr hq))] at hk
    exact hk ad H locs ls hab hS hl hlen hwl (wfs_t (wfs_t hws)) had h1 h2
  · rw [if_pos (hcm.1.mp hc)] at hk
    exact hk ad H locs ls hab hS hl hlen hwl (wfs_t (wfs_t hws)) had h1 h2
theorem ss_lcmp_lt {off : Int} {tg : Nat} (hd : decode (gby Γ y) pc = .ok (.lcmp, 1)) (hd2 : decode (gby Γ y) (pc + 1) = .ok (.ifCond .lt off, 3)) (ht : ((pc + 1 : Nat) : Int) + off = (tg : Int)) : SS Γ y pc (.lcmp, pc + 4, tg, [2], 0) := by
  intro p l e R s mid args below meth c ad0 n0 s0 d ⟨hx, hb, hml, hrt, hlk, hown, hnm, hts, hnst, hao, hK, hC, hex, hA⟩ hr hn L S m
  rcases S with _ | ⟨b | b | b, _ | ⟨a | a | a, r⟩⟩ <;> first | exact True.intro | skip
  intro Qm hk ad H locs ls hab hS hl hlen hwl hws had h1 h2
  have hk : if a < b then (WA Γ p l e R s mid args below meth c ad0 n0 s0 Qm (tg, L, r, m)) else (WA Γ p l e R s mid args below meth c ad0 n0 s0 Qm (pc + 4, L, r, m)) := hk
  have hcm := sm_lcmp (wfs_h (wfs_t hws)) (wfs_h hws)
  refine W.lcmp hx hb hd ?_
  refine lv_if_lt hx hb hd2 ht (fun hc => ?_) (fun hc => ?_)
  · rw [if_pos (hcm.2.1.mp hc)] at hk
    exact hk ad H locs ls hab hS hl hlen hwl (wfs_t (wfs_t hws)) had h1 h2
  · rw [if_neg (fun hq => hc (hcm.2.1.mpr hq))] at hk
    exact hk ad H locs ls hab hS hl hlen hwl (wfs_t (wfs_t hws)) had h1 h2
theorem ss_lcmp_ge {off : Int} {tg : Nat} (hd : decode (gby Γ y) pc = .ok (.lcmp, 1)) (hd2 : decode (gby Γ y) (pc + 1) = .ok (.ifCond .ge off, 3)) (ht : ((pc + 1 : Nat) : Int) + off = (tg : Int)) : SS Γ y pc (.lcmp, pc + 4, tg, [3], 0) := by
  intro p l e R s mid args below meth c ad0 n0 s0 d ⟨hx, hb, hml, hrt, hlk, hown, hnm, hts, hnst, hao, hK, hC, hex, hA⟩ hr hn L S m
  rcases S with _ | ⟨b | b | b, _ | ⟨a | a | a, r⟩⟩ <;> first | exact True.intro | skip
  intro Qm hk ad H locs ls hab hS hl hlen hwl hws had h1 h2
  have hk : if a < b then (WA Γ p l e R s mid args below meth c ad0 n0 s0 Qm (pc + 4, L, r, m)) else (WA Γ p l e R s mid args below meth c ad0 n0 s0 Qm (tg, L, r, m)) := hk
  have hcm := sm_lcmp (wfs_h (wfs_t hws)) (wfs_h hws)
  refine W.lcmp hx hb hd ?_
  refine lv_if_ge hx hb hd2 ht (fun hc => ?_) (fun hc => ?_)
  · rw [if_neg (fun hq => Int32.not_lt.mpr hc (hcm.2.1.mpr hq))] at hk
    exact hk ad H locs ls hab hS hl hlen hwl (wfs_t (wfs_t hws)) had h1 h2
  · rw [if_pos (hcm.2.1.mp (Int32.not_le.mp hc))] at hk
    exact hk ad H locs ls hab hS hl hlen hwl (wfs_t (wfs_t hws)) had h1 h2
theorem ss_lcmp_gt {off : Int} {tg : Nat} (hd : decode (gby Γ y) pc = .ok (.lcmp, 1)) (hd2 : decode (gby Γ y) (pc + 1) = .ok (.ifCond .gt off, 3)) (ht : ((pc + 1 : Nat) : Int) + off = (tg : Int)) : SS Γ y pc (.lcmp, pc + 4, tg, [4], 0) := by
  intro p l e R s mid args below meth c ad0 n0 s0 d ⟨hx, hb, hml, hrt, hlk, hown, hnm, hts, hnst, hao, hK, hC, hex, hA⟩ hr hn L S m
  rcases S with _ | ⟨b | b | b, _ | ⟨a | a | a, r⟩⟩ <;> first | exact True.intro | skip
  intro Qm hk ad H locs ls hab hS hl hlen hwl hws had h1 h2
  have hk : if b < a then (WA Γ p l e R s mid args below meth c ad0 n0 s0 Qm (tg, L, r, m)) else (WA Γ p l e R s mid args below meth c ad0 n0 s0 Qm (pc + 4, L, r, m)) := hk
  have hcm := sm_lcmp (wfs_h (wfs_t hws)) (wfs_h hws)
  refine W.lcmp hx hb hd ?_
  refine lv_if_gt hx hb hd2 ht (fun hc => ?_) (fun hc => ?_)
  · rw [if_pos (hcm.2.2.mp hc)] at hk
    exact hk ad H locs ls hab hS hl hlen hwl (wfs_t (wfs_t hws)) had h1 h2
  · rw [if_neg (fun hq => hc (hcm.2.2.mpr hq))] at hk
    exact hk ad H locs ls hab hS hl hlen hwl (wfs_t (wfs_t hws)) had h1 h2
theorem ss_lcmp_le {off : Int} {tg : Nat} (hd : decode (gby Γ y) pc = .ok (.lcmp, 1)) (hd2 : decode (gby Γ y) (pc + 1) = .ok (.ifCond .le off, 3)) (ht : ((pc + 1 : Nat) : Int) + off = (tg : Int)) : SS Γ y pc (.lcmp, pc + 4, tg, [5], 0) := by
  intro p l e R s mid args below meth c ad0 n0 s0 d ⟨hx, hb, hml, hrt, hlk, hown, hnm, hts, hnst, hao, hK, hC, hex, hA⟩ hr hn L S m
  rcases S with _ | ⟨b | b | b, _ | ⟨a | a | a, r⟩⟩ <;> first | exact True.intro | skip
  intro Qm hk ad H locs ls hab hS hl hlen hwl hws had h1 h2
  have hk : if b < a then (WA Γ p l e R s mid args below meth c ad0 n0 s0 Qm (pc + 4, L, r, m)) else (WA Γ p l e R s mid args below meth c ad0 n0 s0 Qm (tg, L, r, m)) := hk
  have hcm := sm_lcmp (wfs_h (wfs_t hws)) (wfs_h hws)
  refine W.lcmp hx hb hd ?_
  refine lv_if_le hx hb hd2 ht (fun hc => ?_) (fun hc => ?_)
  · rw [if_neg (fun hq => Int32.not_lt.mpr hc (hcm.2.2.mpr hq))] at hk
    exact hk ad H locs ls hab hS hl hlen hwl (wfs_t (wfs_t hws)) had h1 h2
  · rw [if_pos (hcm.2.2.mp (Int32.not_le.mp hc))] at hk
    exact hk ad H locs ls hab hS hl hlen hwl (wfs_t (wfs_t hws)) had h1 h2
theorem ss_iret (hd : decode (gby Γ y) pc = .ok (.ireturn, 1)) (ht : grt Γ y = some .int) : SS Γ y pc (.ireturn, 0, 0, [0], 0) := by
  intro p l e R s mid args below meth c ad0 n0 s0 d ⟨hx, hb, hml, hrt, hlk, hown, hnm, hts, hnst, hao, hK, hC, hex, hA⟩ hr hn L S m
  rcases S with _ | ⟨a | a | a, _ | ⟨b, r⟩⟩ <;> first | exact True.intro | skip
  intro Q hQ ad H locs ls hab hS hl hlen hwl hws had h1 h2
  refine W_Q (Q := MQ below (fun _ _ o t => o = .returned (some (.int (Int32.ofInt a))) ∧ t.heap = H) args s _ _ (gA Γ)) (fun t ht => ?_) (W.iret hx hb (hrt.trans ht) (fun t ht hW => ⟨rfl, ht⟩) hS.2.2 hd)
  obtain ⟨o, q1, q2, ⟨q3, q4⟩, L2, ⟨q5, q6, q7⟩, q8⟩ := ht
  refine ⟨o, _, m, ad, L2, q1, q2, q6, q7, ⟨by rw [q4]; exact hS.1, fun q h3 h4 => by rw [q4]; exact hS.2.1 q h3 h4, q8⟩, h1, h2, had, by rw [q4]; exact hab, ?_, hQ⟩
  exact ⟨q3, wfs_h hws⟩
theorem ss_zret (hd : decode (gby Γ y) pc = .ok (.ireturn, 1)) (ht : grt Γ y = some .boolean) : SS Γ y pc (.ireturn, 0, 0, [1], 0) := by
  intro p l e R s mid args below meth c ad0 n0 s0 d ⟨hx, hb, hml, hrt, hlk, hown, hnm, hts, hnst, hao, hK, hC, hex, hA⟩ hr hn L S m
  rcases S with _ | ⟨a | a | a, _ | ⟨b, r⟩⟩ <;> first | exact True.intro | skip
  intro hck Q hQ ad H locs ls hab hS hl hlen hwl hws had h1 h2
  refine W_Q (Q := MQ below (fun _ _ o t => o = .returned (some (.int (Int32.ofInt a))) ∧ t.heap = H) args s _ _ (gA Γ)) (fun t ht => ?_) (W.zret hx hb (hrt.trans ht) (o32_nz hck.1 hck.2) (fun t ht hW => ⟨rfl, ht⟩) hS.2.2 hd)
  obtain ⟨o, q1, q2, ⟨q3, q4⟩, L2, ⟨q5, q6, q7⟩, q8⟩ := ht
  refine ⟨o, _, m, ad, L2, q1, q2, q6, q7, ⟨by rw [q4]; exact hS.1, fun q h3 h4 => by rw [q4]; exact hS.2.1 q h3 h4, q8⟩, h1, h2, had, by rw [q4]; exact hab, ?_, hQ⟩
  exact ⟨q3, wfs_h hws⟩
theorem ss_bret (hd : decode (gby Γ y) pc = .ok (.ireturn, 1)) (ht : grt Γ y = some .byte) : SS Γ y pc (.ireturn, 0, 0, [2], 0) := by
  intro p l e R s mid args below meth c ad0 n0 s0 d ⟨hx, hb, hml, hrt, hlk, hown, hnm, hts, hnst, hao, hK, hC, hex, hA⟩ hr hn L S m
  rcases S with _ | ⟨a | a | a, _ | ⟨b, r⟩⟩ <;> first | exact True.intro | skip
  intro hck Q hQ ad H locs ls hab hS hl hlen hwl hws had h1 h2
  refine W_Q (Q := MQ below (fun _ _ o t => o = .returned (some (.int (Int32.ofInt a))) ∧ t.heap = H) args s _ _ (gA Γ)) (fun t ht => ?_) (W.zret hx hb (hrt.trans ht) (o32_nb hck.1 hck.2) (fun t ht hW => ⟨rfl, ht⟩) hS.2.2 hd)
  obtain ⟨o, q1, q2, ⟨q3, q4⟩, L2, ⟨q5, q6, q7⟩, q8⟩ := ht
  refine ⟨o, _, m, ad, L2, q1, q2, q6, q7, ⟨by rw [q4]; exact hS.1, fun q h3 h4 => by rw [q4]; exact hS.2.1 q h3 h4, q8⟩, h1, h2, had, by rw [q4]; exact hab, ?_, hQ⟩
  exact ⟨q3, wfs_h hws⟩
theorem ss_cret (hd : decode (gby Γ y) pc = .ok (.ireturn, 1)) (ht : grt Γ y = some .char) : SS Γ y pc (.ireturn, 0, 0, [3], 0) := by
  intro p l e R s mid args below meth c ad0 n0 s0 d ⟨hx, hb, hml, hrt, hlk, hown, hnm, hts, hnst, hao, hK, hC, hex, hA⟩ hr hn L S m
  rcases S with _ | ⟨a | a | a, _ | ⟨b, r⟩⟩ <;> first | exact True.intro | skip
  intro hck Q hQ ad H locs ls hab hS hl hlen hwl hws had h1 h2
  refine W_Q (Q := MQ below (fun _ _ o t => o = .returned (some (.int (Int32.ofInt a))) ∧ t.heap = H) args s _ _ (gA Γ)) (fun t ht => ?_) (W.zret hx hb (hrt.trans ht) (o32_nc hck.1 hck.2) (fun t ht hW => ⟨rfl, ht⟩) hS.2.2 hd)
  obtain ⟨o, q1, q2, ⟨q3, q4⟩, L2, ⟨q5, q6, q7⟩, q8⟩ := ht
  refine ⟨o, _, m, ad, L2, q1, q2, q6, q7, ⟨by rw [q4]; exact hS.1, fun q h3 h4 => by rw [q4]; exact hS.2.1 q h3 h4, q8⟩, h1, h2, had, by rw [q4]; exact hab, ?_, hQ⟩
  exact ⟨q3, wfs_h hws⟩
theorem ss_lret (hd : decode (gby Γ y) pc = .ok (.lreturn, 1)) (ht : grt Γ y = some .long) : SS Γ y pc (.lreturn, 0, 0, [], 0) := by
  intro p l e R s mid args below meth c ad0 n0 s0 d ⟨hx, hb, hml, hrt, hlk, hown, hnm, hts, hnst, hao, hK, hC, hex, hA⟩ hr hn L S m
  rcases S with _ | ⟨a | a | a, _ | ⟨b, r⟩⟩ <;> first | exact True.intro | skip
  intro Q hQ ad H locs ls hab hS hl hlen hwl hws had h1 h2
  refine W_Q (Q := MQ below (fun _ _ o t => o = .returned (some (.long (Int64.ofInt a))) ∧ t.heap = H) args s _ _ (gA Γ)) (fun t ht => ?_) (W.lret hx hb (hrt.trans ht) (fun t ht hW => ⟨rfl, ht⟩) hS.2.2 hd)
  obtain ⟨o, q1, q2, ⟨q3, q4⟩, L2, ⟨q5, q6, q7⟩, q8⟩ := ht
  refine ⟨o, _, m, ad, L2, q1, q2, q6, q7, ⟨by rw [q4]; exact hS.1, fun q h3 h4 => by rw [q4]; exact hS.2.1 q h3 h4, q8⟩, h1, h2, had, by rw [q4]; exact hab, ?_, hQ⟩
  exact ⟨q3, wfs_h hws⟩
theorem ss_aret {rt : FieldType} (hd : decode (gby Γ y) pc = .ok (.areturn, 1)) (ht : grt Γ y = some rt) (ht2 : (∃ n, rt = .object n) ∨ ∃ t, rt = .array t) : SS Γ y pc (.areturn, 0, 0, [], 0) := by
  intro p l e R s mid args below meth c ad0 n0 s0 d ⟨hx, hb, hml, hrt, hlk, hown, hnm, hts, hnst, hao, hK, hC, hex, hA⟩ hr hn L S m
  rcases S with _ | ⟨a | a | a, _ | ⟨b, r⟩⟩ <;> first | exact True.intro | skip
  intro Q hQ ad H locs ls hab hS hl hlen hwl hws had h1 h2
  refine W_Q (Q := MQ below (fun _ _ o t => o = .returned (some (va_rf (gr ad a))) ∧ t.heap = H) args s _ _ (gA Γ)) (fun t ht => ?_) (W.aret hx hb (hrt.trans ht) ht2 (va_rf_or (gr ad a)) (fun t ht hW => ⟨rfl, ht⟩) hS.2.2 hd)
  obtain ⟨o, q1, q2, ⟨q3, q4⟩, L2, ⟨q5, q6, q7⟩, q8⟩ := ht
  refine ⟨o, _, m, ad, L2, q1, q2, q6, q7, ⟨by rw [q4]; exact hS.1, fun q h3 h4 => by rw [q4]; exact hS.2.1 q h3 h4, q8⟩, h1, h2, had, by rw [q4]; exact hab, ?_, hQ⟩
  exact ⟨q3, wfs_h hws⟩
theorem ss_vret (hd : decode (gby Γ y) pc = .ok (.return_, 1)) (ht : grt Γ y = none) : SS Γ y pc (.return_, 0, 0, [], 0) := by
  intro p l e R s mid args below meth c ad0 n0 s0 d ⟨hx, hb, hml, hrt, hlk, hown, hnm, hts, hnst, hao, hK, hC, hex, hA⟩ hr hn L S m
  rcases S with _ | ⟨a, r⟩ <;> first | exact True.intro | skip
  intro Q hQ ad H locs ls hab hS hl hlen hwl hws had h1 h2
  refine W_Q (Q := MQ below (fun _ _ o t => o = .returned (none) ∧ t.heap = H) args s _ _ (gA Γ)) (fun t ht => ?_) (W.vret hx hb (hrt.trans ht) (fun t ht hW => ⟨rfl, ht⟩) hS.2.2 hd)
  obtain ⟨o, q1, q2, ⟨q3, q4⟩, L2, ⟨q5, q6, q7⟩, q8⟩ := ht
  refine ⟨o, _, m, ad, L2, q1, q2, q6, q7, ⟨by rw [q4]; exact hS.1, fun q h3 h4 => by rw [q4]; exact hS.2.1 q h3 h4, q8⟩, h1, h2, had, by rw [q4]; exact hab, ?_, hQ⟩
  exact q3
end
