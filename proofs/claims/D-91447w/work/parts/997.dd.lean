/-! THE DESK READS deeds -/
set_option maxHeartbeats 3200000
set_option maxRecDepth 100000
theorem zor_as (a b c : Int) : zor (zor a b) c = zor a (zor b c) := by
  unfold zor
  rw [Int32.ofInt_toInt, Int32.ofInt_toInt, Int32.or_assoc]
/-- the ends of clauses -/
def edl : List Cl → List Cl
  | [] => []
  | c :: r => if c.1 = 8 then c :: edl r else edl r
theorem edl_app (a b : List Cl) : edl (a ++ b) = edl a ++ edl b := by
  induction a with
  | nil => rfl
  | cons c r ih =>
    show (if c.1 = 8 then c :: edl (r ++ b) else edl (r ++ b)) = (if c.1 = 8 then c :: edl r else edl r) ++ edl b
    by_cases h : c.1 = 8
    · rw [if_pos h, if_pos h, ih]; rfl
    · rw [if_neg h, if_neg h, ih]
theorem edl_nms : ∀ cs : List Cl, (nms cs).length = (edl cs).length
  | [] => rfl
  | c :: r => by
    show (if c.1 = 8 then (c.2.2.2.2.2.2, c.2.1) :: nms r else nms r).length = (if c.1 = 8 then c :: edl r else edl r).length
    by_cases h : c.1 = 8
    · rw [if_pos h, if_pos h, List.length_cons, List.length_cons, edl_nms r]
    · rw [if_neg h, if_neg h, edl_nms r]
theorem mks_app (b : List Cl) : ∀ (a : List Cl) (v : Int), mks (a ++ b) v = mks b (mks a v)
  | [], _ => rfl
  | c :: r, v => mks_app b r _
theorem tmo_app (b : List Cl) : ∀ (a : List Cl) (v : Int), tmo (a ++ b) v = tmo b (tmo a v)
  | [], _ => rfl
  | c :: r, v => tmo_app b r _
theorem tye_app (b : List Cl) : ∀ (a : List Cl) (v : Int), tye (a ++ b) v = tye b (tye a v)
  | [], _ => rfl
  | c :: r, v => tye_app b r _
/-- a deed under making: marks mk, most mo, yes ye, the clauses cs (ends) -/
def DDp (t : Int → Int) (n lo : Int) (m : mD) (dd : Int) (cs : List Cl) (mk mo ye : Int) : Prop := AN t n m dd (nms cs) ∧ (lo ≤ dd ∧ dd < m.1 1500 dd 0) ∧ (m.1 1501 dd 0 = mk ∧ m.1 1502 dd 0 = mo ∧ m.1 1503 dd 0 = ye) ∧ ∀ i : Nat, i < (edl cs).length → AM (m.1 1500 dd 0 + 1) m.2.2.1 m (m.1 11500 (m.1 1500 dd 0) i) ((edl cs).getD i (0, 0, 0, [], [], [], 0))
section
variable {t : Int → Int} {n : Int} {nm : Nat} {ai r L lo : Int} {d : Nat} {m m0 m1 : mD} {Q : mQ mD}
theorem DDp.x {dd mk mo ye : Int} {cs : List Cl} (h : DDp t n lo m dd cs mk mo ye) (hx : RX r 0 m m1) (hr : r < lo) : DDp t n lo m1 dd cs mk mo ye := by
  obtain ⟨h1, h2, h3, h4⟩ := h
  have hb := h1.2.1.2.1
  have hlb := h1.2.1.2.2
  have hd := h1.1.2.1
  have e := fun g => hx.o (b := dd) hd (by omega) (by have := h1.1.2.2; omega) g
  have el := fun g => hx.o (b := m.1 1500 dd 0) hb (by omega) (by have := h1.2.1.2.2; omega) g
  refine ⟨h1.x hx, by rw [e]; exact h2, by rw [e, e, e]; exact h3, fun i hi => ?_⟩
  rw [e, el]
  exact (h4 i hi).cg (Int.le_refl _) hx.1 (fun g b b0 b1 => hx.o (by omega) (by omega) (by omega) g) (fun b _ b1 => hx.2.1 b b1)
/-- a number of the deed -/
theorem DDp.st {dd mk mo ye v : Int} {cs : List Cl} {g : Nat} (h : DDp t n lo m dd cs mk mo ye) (hg : g = 1501 ∨ g = 1502 ∨ g = 1503) : DDp t n lo (dst m g dd 0 v) dd cs (if g = 1501 then v else mk) (if g = 1502 then v else mo) (if g = 1503 then v else ye) := by
  obtain ⟨h1, h2, h3, h4⟩ := h
  have o : ∀ g', g' ≠ 1501 → g' ≠ 1502 → g' ≠ 1503 → (dst m g dd 0 v).1 g' = m.1 g' := fun g' a b c => ds_n (by omega)
  obtain ⟨⟨a1, a2, a3⟩, ⟨b1, b2, b3⟩, c1, c2⟩ := h1
  refine ⟨?_, by rw [o 1500 (by decide) (by decide) (by decide)]; exact h2, ?_, fun i hi => ?_⟩
  · unfold AN
    rw [o 1500 (by decide) (by decide) (by decide), o 21500 (by decide) (by decide) (by decide), o 11500 (by decide) (by decide) (by decide), o 1600 (by decide) (by decide) (by decide)]
    refine ⟨⟨a1, a2, a3⟩, ⟨b1, b2, b3⟩, c1, fun i hi => ⟨(c2 i hi).1, (c2 i hi).2.1, ?_⟩⟩
    obtain ⟨f1, f2, f3⟩ := (c2 i hi).2.2
    exact ⟨f1, by rw [o 22700 (by decide) (by decide) (by decide)]; exact f2, fun i i0 i1 => by rw [o 12700 (by decide) (by decide) (by decide)]; exact f3 i i0 i1⟩
  · rcases hg with rfl | rfl | rfl
    · rw [dsz_0, ds_n (by decide), ds_n (by decide)]
      exact ⟨rfl, h3.2.1, h3.2.2⟩
    · rw [dsz_0, ds_n (by decide), ds_n (by decide)]
      exact ⟨h3.1, rfl, h3.2.2⟩
    · rw [dsz_0, ds_n (by decide), ds_n (by decide)]
      exact ⟨h3.1, h3.2.1, rfl⟩
  · rw [o 1500 (by decide) (by decide) (by decide), o 11500 (by decide) (by decide) (by decide)]
    exact (h4 i hi).cg (Int.le_refl _) (Int.le_refl _) (fun g' b b0 _ => ds_o (by omega) g') (fun _ _ _ => rfl)
/-- an end is added -/
theorem DDp.add {dd mk mo ye a k : Int} {cs : List Cl} {c : Cl} (h : DDp t n lo m dd cs mk mo ye) (h8 : c.1 = 8) (hA : AM (m.1 1500 dd 0 + 1) m.2.2.1 m a c) (hN : NMs t n m (m.1 1600 a 0) c.2.2.2.2.2.2 c.2.1) : DDp t n lo (dpy (dst (dst m 11500 (m.1 1500 dd 0) (nms cs).length a) 21500 (m.1 1500 dd 0) 0 ((nms cs).length + 1)) k) dd (cs ++ [c]) mk mo ye := by
  obtain ⟨h1, h2, h3, h4⟩ := h
  obtain ⟨⟨a1, a2, a3⟩, ⟨b1, b2, b3⟩, c1, c2⟩ := h1
  generalize hl : m.1 1500 dd 0 = l at *
  generalize hn : ((nms cs).length : Int) = ln at *
  have o : ∀ g x, x ≠ l → (dpy (dst (dst m 11500 l ln a) 21500 l 0 (ln + 1)) k).1 g x = m.1 g x := fun g x hx => by
    show (dst (dst m 11500 l ln a) 21500 l 0 (ln + 1)).1 g x = _
    rw [ds_o hx, ds_o hx]
  have o2 : ∀ g, g ≠ 11500 → g ≠ 21500 → ∀ x, (dpy (dst (dst m 11500 l ln a) 21500 l 0 (ln + 1)) k).1 g x = m.1 g x := fun g h1 h2 x => by
    show (dst (dst m 11500 l ln a) 21500 l 0 (ln + 1)).1 g x = _
    rw [ds_n h2, ds_n h1]
  have el : (dpy (dst (dst m 11500 l ln a) 21500 l 0 (ln + 1)) k).1 1500 dd 0 = l := by rw [o2 _ (by decide) (by decide)]; exact hl
  have e2 : ∀ i, (dpy (dst (dst m 11500 l ln a) 21500 l 0 (ln + 1)) k).1 11500 l i = if i = ln then a else m.1 11500 l i := fun i => by
    show (dst (dst m 11500 l ln a) 21500 l 0 (ln + 1)).1 11500 l i = _
    rw [ds_n (by decide), dst_1, up3_s, upd1_ap]
  have en : nms (cs ++ [c]) = nms cs ++ [(c.2.2.2.2.2.2, c.2.1)] := by
    rw [nms_app]
    show _ ++ (if c.1 = 8 then [(c.2.2.2.2.2.2, c.2.1)] else []) = _
    rw [if_pos h8]
  have ee : edl (cs ++ [c]) = edl cs ++ [c] := by
    rw [edl_app]
    show _ ++ (if c.1 = 8 then [c] else []) = _
    rw [if_pos h8]
  have len : (nms (cs ++ [c])).length = (nms cs).length + 1 := by rw [en, List.length_append]; rfl
  have lne : (edl cs).length = (nms cs).length := (edl_nms cs).symm
  refine ⟨?_, by rw [el]; exact h2, by rw [o2 _ (by decide) (by decide), o2 _ (by decide) (by decide), o2 _ (by decide) (by decide)]; exact h3, fun i hi => ?_⟩
  · unfold AN
    rw [el]
    refine ⟨⟨a1, a2, a3⟩, ⟨b1, b2, b3⟩, ?_, fun i hi => ?_⟩
    · rw [len]
      show (dst (dst m 11500 l ln a) 21500 l 0 (ln + 1)).1 21500 l 0 = _
      rw [dsz_0]
      omega
    · rw [len] at hi
      rw [e2]
      have nn : ∀ s q k', NMs t n m s q k' → NMs t n (dpy (dst (dst m 11500 l ln a) 21500 l 0 (ln + 1)) k) s q k' := fun s q k' h => ⟨h.1, by rw [o2 _ (by decide) (by decide)]; exact h.2.1, fun i i0 i1 => by rw [o2 _ (by decide) (by decide)]; exact h.2.2 i i0 i1⟩
      by_cases e : i = (nms cs).length
      · rw [if_pos (by omega), en, e, List.getD_eq_getElem?_getD, List.getElem?_append_right (Nat.le_refl _), Nat.sub_self, o2 1600 (by decide) (by decide)]
        have x1 := hA.1
        have x2 := hA.2.1.1
        exact ⟨⟨x1.2.2, by omega, x1.2.1⟩, ⟨by omega, x2.2⟩, nn _ _ _ hN⟩
      · rw [if_neg (by omega), en, List.getD_eq_getElem?_getD, List.getElem?_append_left (by omega), ← List.getD_eq_getElem?_getD, o2 1600 (by decide) (by decide)]
        have := c2 i (by omega)
        exact ⟨this.1, this.2.1, nn _ _ _ this.2.2⟩
  · rw [el, e2]
    rw [ee, List.length_append] at hi
    have hi : i < (edl cs).length + 1 := hi
    by_cases e : i = (edl cs).length
    · rw [if_pos (by omega), ee, e, List.getD_eq_getElem?_getD, List.getElem?_append_right (Nat.le_refl _), Nat.sub_self]
      exact hA.cg (Int.le_refl _) (Int.le_refl _) (fun g b b0 _ => o g b (by omega)) (fun _ _ _ => rfl)
    · rw [if_neg (by omega), ee, List.getD_eq_getElem?_getD, List.getElem?_append_left (by omega), ← List.getD_eq_getElem?_getD]
      exact (h4 i (by omega)).cg (Int.le_refl _) (Int.le_refl _) (fun g b b0 _ => o g b (by omega)) (fun _ _ _ => rfl)
end
