/-! THE DESK READS conditions: what is kept meanwhile -/
set_option maxHeartbeats 3200000
set_option maxRecDepth 100000
section
variable {lo hi lo' hi' : Int} {m m' : mD}
theorem TSb.ck : ∀ {n n' : Nat} {a : Int} {c : List Int}, TSb lo hi m n a c → n ≤ n' → lo' ≤ lo → hi ≤ hi' → (∀ g b, lo ≤ b → b < hi → 8 ≤ m.2.1 b → m.2.1 b ≤ 11 → m'.1 g b = m.1 g b) → (∀ b, lo ≤ b → b < hi → m'.2.1 b = m.2.1 b) → TSb lo' hi' m' n' a c
  | 0, _, _, _, h, _, _, _, _, _ => h.elim
  | n + 1, 0, _, _, _, hn, _, _, _, _ => absurd hn (by omega)
  | n + 1, n' + 1, a, c, ⟨hb, h⟩, hn, hl, hh, hg, hk => by
    have hka : 8 ≤ m.2.1 a ∧ m.2.1 a ≤ 11 := by rcases h with h | h | h <;> (have := h.1; omega)
    refine ⟨by omega, ?_⟩
    rw [hk a hb.1 hb.2, hg 800 a hb.1 hb.2 hka.1 hka.2, hg 900 a hb.1 hb.2 hka.1 hka.2, hg 1000 a hb.1 hb.2 hka.1 hka.2, hg 1001 a hb.1 hb.2 hka.1 hka.2, hg 1002 a hb.1 hb.2 hka.1 hka.2]
    rcases h with h | h | ⟨h1, c1, c2, s, h2, h3, h4⟩
    · exact Or.inl h
    · exact Or.inr (Or.inl h)
    · exact Or.inr (Or.inr ⟨h1, c1, c2, s, h2.ck (by omega) hl hh hg hk, h3.ck (by omega) hl hh hg hk, h4⟩)
/-- a comparison -/
def CMb (lo hi : Int) (m : mD) (n : Nat) (a : Int) (c : List Int) : Prop := (lo ≤ a ∧ a < hi) ∧ m.2.1 a = 11 ∧ ∃ c1 c2 s, TSb lo hi m n (m.1 1101 a 0) c1 ∧ TSb lo hi m n (m.1 1102 a 0) c2 ∧ (m.1 1100 a 0 = 60 ∧ s = -4 ∨ m.1 1100 a 0 = 62 ∧ s = -5 ∨ m.1 1100 a 0 = 61 ∧ s = -6) ∧ c = c1 ++ (c2 ++ [s])
theorem CMb.tc {n : Nat} {a : Int} {c : List Int} (h : CMb lo hi m n a c) : TCb lo hi m (n + 1) a c := ⟨h.1, Or.inl h.2⟩
theorem CMb.ck {n n' : Nat} {a : Int} {c : List Int} (h : CMb lo hi m n a c) (hn : n ≤ n') (hl : lo' ≤ lo) (hh : hi ≤ hi') (hg : ∀ g b, lo ≤ b → b < hi → 8 ≤ m.2.1 b → m.2.1 b ≤ 11 → m'.1 g b = m.1 g b) (hk : ∀ b, lo ≤ b → b < hi → m'.2.1 b = m.2.1 b) : CMb lo' hi' m' n' a c := by
  obtain ⟨hb, h11, c1, c2, s, h2, h3, h4⟩ := h
  refine ⟨by omega, by rw [hk a hb.1 hb.2]; exact h11, c1, c2, s, ?_⟩
  rw [hg 1100 a hb.1 hb.2 (by omega) (by omega), hg 1101 a hb.1 hb.2 (by omega) (by omega), hg 1102 a hb.1 hb.2 (by omega) (by omega)]
  exact ⟨h2.ck hn hl hh hg hk, h3.ck hn hl hh hg hk, h4⟩
end
/-- the aim's list of tests L, if an aim is read -/
def TLo (lo r ai L : Int) (m : mD) (ts : List (List Int)) : Prop := (ai = 0 ∧ L = 0) ∨ (ai ≠ 0 ∧ L ≠ 0 ∧ (m.2.1 ai = 16 ∧ m.1 1604 ai 0 = L ∧ ai < lo ∧ ai ≠ r ∧ L < lo ∧ L ≠ r ∧ L ≠ 1005 ∧ lo ≤ m.2.2.1) ∧ m.2.1 L = 11604 ∧ m.1 21604 L 0 = (ts.length : Int) ∧ ∀ i : Nat, i < ts.length → CMb lo m.2.2.1 m (ts.getD i []).length (m.1 11604 L i) (ts.getD i []))
section
variable {lo r ai L : Int} {m m' : mD} {ts : List (List Int)}
theorem TLo.k (h : TLo lo r ai L m ts) (h1 : m.2.2.1 ≤ m'.2.2.1) (h2 : ∀ b, b < m.2.2.1 → m'.2.1 b = m.2.1 b) (h3 : ∀ g b, b < m.2.2.1 → (b = ai ∧ g = 1604 ∨ b = L ∨ (lo ≤ b ∧ 8 ≤ m.2.1 b ∧ m.2.1 b ≤ 11)) → m'.1 g b = m.1 g b) : TLo lo r ai L m' ts := by
  rcases h with h | ⟨a0, a1, ⟨b1, b2, b3, b4, b5, b6, b7, b8⟩, a2, a3, a4⟩
  · exact Or.inl h
  · have eL := h3 21604 L (by omega) (Or.inr (Or.inl rfl))
    have eL2 := h3 11604 L (by omega) (Or.inr (Or.inl rfl))
    refine Or.inr ⟨a0, a1, ⟨by rw [h2 ai (by omega)]; exact b1, by rw [h3 1604 ai (by omega) (Or.inl ⟨rfl, rfl⟩)]; exact b2, b3, b4, b5, b6, b7, by omega⟩, by rw [h2 L (by omega)]; exact a2, by rw [eL]; exact a3, fun i hi => ?_⟩
    rw [eL2]
    exact (a4 i hi).ck (Nat.le_refl _) (Int.le_refl _) h1 (fun g b b0 b1 k0 k1 => h3 g b b1 (Or.inr (Or.inr ⟨b0, k0, k1⟩))) (fun b _ b1 => h2 b b1)
theorem TLo.x (h : TLo lo r ai L m ts) (hx : RX r 0 m m') (hr : r < lo) : TLo lo r ai L m' ts := by
  rcases h with h | h
  · exact Or.inl h
  · have h' : TLo lo r ai L m ts := Or.inr h
    obtain ⟨a0, a1, ⟨b1, b2, b3, b4, b5, b6, b7, b8⟩, -⟩ := h
    refine h'.k hx.1 hx.2.1 (fun g b hb hc => ?_)
    rcases hc with ⟨e, eg⟩ | e | e
    · rw [e, eg]; exact hx.g (by omega) (by decide)
    · rcases hx.2.2 g b hb with q | q | q
      · exact q
      · exact absurd (q.1.symm.trans e) (Ne.symm b6)
      · exact absurd rfl q.2.1
    · rcases hx.2.2 g b hb with q | q | q
      · exact q
      · omega
      · exact absurd rfl q.2.1
/-- L < lo, or none -/
theorem TLo.lt (h : TLo lo r ai L m ts) (h0 : 0 < lo) : L < lo ∧ L ≠ r ∨ L = 0 := by
  rcases h with h | h
  · exact Or.inr h.2
  · exact Or.inl ⟨h.2.2.1.2.2.2.2.1, h.2.2.1.2.2.2.2.2.1⟩
end
section
variable {r L : Int} {m m' m1 : mD}
theorem WT.l {k p B w : Int} (h : WT r 0 m k p B w m1) : WT r L m k p B w m1 := ⟨h.1.l, h.2⟩
/-- a list of conditions under making: a the Some, b its sort, parts' codes ps -/
def SoM (lo : Int) (m : mD) (a b : Int) (N : Nat) (ps : List (List Int)) : Prop := (lo ≤ a ∧ a < m.1 1201 a 0 ∧ m.1 1201 a 0 < m.2.2.1) ∧ m.2.1 a = 12 ∧ m.1 1200 a 0 = b ∧ m.2.1 (m.1 1201 a 0) = 11201 ∧ m.1 21201 (m.1 1201 a 0) 0 = (ps.length : Int) ∧ ∀ i : Nat, i < ps.length → TCb (m.1 1201 a 0 + 1) m.2.2.1 m N (m.1 11201 (m.1 1201 a 0) i) (ps.getD i [])
theorem SoM.x {lo a b : Int} {N N' : Nat} {ps : List (List Int)} (h : SoM lo m a b N ps) (hx : RX r L m m') (hr : r < lo) (hL : L < lo) (hN : N ≤ N') : SoM lo m' a b N' ps := by
  obtain ⟨⟨a1, a2, a3⟩, a4, a5, a6, a7, a8⟩ := h
  have e := fun g => hx.o (b := a) (by omega) (by omega) (by omega) g
  have el := fun g => hx.o (b := m.1 1201 a 0) (by omega) (by omega) (by omega) g
  have := hx.1
  refine ⟨by rw [e]; omega, by rw [hx.2.1 a (by omega)]; exact a4, by rw [e]; exact a5, by rw [e, hx.2.1 _ (by omega)]; exact a6, by rw [e, el]; exact a7, fun i hi => ?_⟩
  rw [e, el]
  exact (a8 i hi).x hx (Int.le_refl _) hN (by omega) (by omega) hx.1
/-- one is added -/
theorem SoM.add {lo a b y : Int} {N : Nat} {ps : List (List Int)} {c : List Int} {k : Int} (h : SoM lo m a b N ps) (hy : TCb (m.1 1201 a 0 + 1) m.2.2.1 m N y c) : SoM lo (dpy (dst (dst m 11201 (m.1 1201 a 0) ps.length y) 21201 (m.1 1201 a 0) 0 (ps.length + 1)) k) a b N (ps ++ [c]) := by
  obtain ⟨⟨a1, a2, a3⟩, a4, a5, a6, a7, a8⟩ := h
  generalize hl : m.1 1201 a 0 = l at *
  have o : ∀ g x, x ≠ l → (dpy (dst (dst m 11201 l ps.length y) 21201 l 0 (ps.length + 1)) k).1 g x = m.1 g x := fun g x hx => by
    show (dst (dst m 11201 l ps.length y) 21201 l 0 (ps.length + 1)).1 g x = _
    rw [ds_o hx, ds_o hx]
  have el : (dpy (dst (dst m 11201 l ps.length y) 21201 l 0 (ps.length + 1)) k).1 1201 a 0 = l := by rw [o _ _ (by omega)]; exact hl
  have len : (ps ++ [c]).length = ps.length + 1 := by rw [List.length_append]; rfl
  refine ⟨by rw [el]; exact ⟨a1, a2, a3⟩, a4, by rw [o _ _ (by omega)]; exact a5, by rw [el]; exact a6, ?_, fun i hi => ?_⟩
  · rw [el, len]
    show (dst (dst m 11201 l ps.length y) 21201 l 0 (ps.length + 1)).1 21201 l 0 = _
    rw [dsz_0]
    omega
  · rw [el]
    rw [len] at hi
    have e2 : ∀ i, (dpy (dst (dst m 11201 l ps.length y) 21201 l 0 (ps.length + 1)) k).1 11201 l i = if i = (ps.length : Int) then y else m.1 11201 l i := fun i => by
      show (dst (dst m 11201 l ps.length y) 21201 l 0 (ps.length + 1)).1 11201 l i = _
      rw [ds_n (by decide), dst_1, up3_s, upd1_ap]
    rw [e2]
    by_cases e : i = ps.length
    · rw [e, if_pos rfl, List.getD_eq_getElem?_getD, List.getElem?_append_right (Nat.le_refl _), Nat.sub_self]
      exact hy.cg (Nat.le_refl _) (Int.le_refl _) (Int.le_refl _) (fun g b b0 _ => o g b (by omega)) (fun _ _ _ => rfl)
    · rw [if_neg (by omega), List.getD_eq_getElem?_getD, List.getElem?_append_left (by omega), ← List.getD_eq_getElem?_getD]
      exact (a8 i (by omega)).cg (Nat.le_refl _) (Int.le_refl _) (Int.le_refl _) (fun g b b0 _ => o g b (by omega)) (fun _ _ _ => rfl)
theorem jcode_app (op : Int) (c : List Int) : ∀ (cs : List (List Int)) (c0 : List Int), jcode op c0 (cs ++ [c]) = jcode op c0 cs ++ (c ++ [op])
  | [], c0 => rfl
  | x :: cs, c0 => by
    show jcode op (c0 ++ (x ++ [op])) (cs ++ [c]) = _
    rw [jcode_app op c cs]
    rfl
/-- the list is whole -/
theorem SoM.tc {lo a b : Int} {N : Nat} {c0 : List Int} {cs : List (List Int)} {c : List Int} (h : SoM lo m a b N (c0 :: cs)) (hl : (c0 :: cs).length ≤ 1000) (hb : b = 1 ∧ c = jcode (-7) c0 cs ∨ b = 0 ∧ c = jcode (-8) c0 cs) : TCb lo m.2.2.1 m (N + 1) a c := by
  obtain ⟨⟨a1, a2, a3⟩, a4, a5, a6, a7, a8⟩ := h
  refine ⟨by omega, Or.inr (Or.inl ⟨a4, a6, by omega, c0, cs, a7, by rw [a7]; omega, fun i hi => (a8 i hi).cg (Nat.le_refl _) (by omega) (Int.le_refl _) (fun _ _ _ _ => rfl) (fun _ _ _ => rfl), ?_⟩)⟩
  rw [a5]
  exact hb
end
