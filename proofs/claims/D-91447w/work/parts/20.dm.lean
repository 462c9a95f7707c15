/-! THE DESK MACHINE: m.1 r a i: the region r (100 * kind + field; 10000 + that: contents of the array or list that the field holds; 20000 + that: a list's size) of the object a at the place i (a field: 0); m.2.1: kinds; m.2.2.1: names from there on are new; m.2.2.2: what may still be spent on new cells (n + 4 for a cell of n slots).
 kinds: of objects as in the tables; of arrays and lists the contents' region; 99: a list, 98: a text builder not yet made; 26: an Integer (region 2600); 27: a String (12700 signs, 22700 length); 12500: a text builder (22500 length) -/
abbrev mD : Type := (Nat → Int → Int → Int) × (Int → Nat) × Int × Int
def up3 (c : Nat → Int → Int → Int) (r : Nat) (a i v : Int) : Nat → Int → Int → Int := fun r' => if r' = r then (fun a' => if a' = a then upd1 (c r a) i v else c r a') else c r'
theorem up3_ap (c : Nat → Int → Int → Int) (r : Nat) (a i v : Int) (r' : Nat) : up3 c r a i v r' = if r' = r then (fun a' => if a' = a then upd1 (c r a) i v else c r a') else c r' := rfl
theorem up3_n {c : Nat → Int → Int → Int} {r : Nat} {a i v : Int} {r' : Nat} (h : r' ≠ r) : up3 c r a i v r' = c r' := by rw [up3_ap, if_neg h]
theorem up3_s {c : Nat → Int → Int → Int} {r : Nat} {a i v : Int} : up3 c r a i v r a = upd1 (c r a) i v := by rw [up3_ap, if_pos rfl]; show (if a = a then _ else _) = _; rw [if_pos rfl]
theorem up3_o {c : Nat → Int → Int → Int} {r : Nat} {a i v b : Int} (h : b ≠ a) : up3 c r a i v r b = c r b := by rw [up3_ap, if_pos rfl]; show (if b = a then _ else _) = _; rw [if_neg h]
def dst (m : mD) (r : Nat) (a i v : Int) : mD := (up3 m.1 r a i v, m.2)
theorem dst_1 (m : mD) (r : Nat) (a i v : Int) : (dst m r a i v).1 = up3 m.1 r a i v := rfl
theorem dst_2 (m : mD) (r : Nat) (a i v : Int) : (dst m r a i v).2 = m.2 := rfl
def dal (m : mD) (a : Int) (k : Nat) (cost : Int) : mD := (fun r b => if b = a then (fun _ => 0) else m.1 r b, fun z => if z = a then k else m.2.1 z, a + 1, m.2.2.2 - cost)
def dkd (m : mD) (a : Int) (k : Nat) (cost : Int) : mD := (m.1, fun z => if z = a then k else m.2.1 z, m.2.2.1, m.2.2.2 - cost)
def dpy (m : mD) (cost : Int) : mD := (m.1, m.2.1, m.2.2.1, m.2.2.2 - cost)
/-- many places of a row at once -/
def drow (m : mD) (r : Nat) (a : Int) (f : Int → Int) : mD := (fun r' => if r' = r then (fun a' => if a' = a then f else m.1 r a') else m.1 r', m.2)
theorem pc_ex : ∃ f : Int → Int, f = fun x => popN x 16 := ⟨_, rfl⟩
/-- the bits of a number below 65536 counted -/
noncomputable def pc : Int → Int := Classical.choose pc_ex
theorem pc_eq (x : Int) : pc x = popN x 16 := by
  have h : pc = _ := Classical.choose_spec pc_ex
  rw [h]
/-- a text's length and signs -/
def sLen (m : mD) (a : Int) : Int := if a < 1000 then ((lit a).length : Int) else m.1 22700 a 0
def sCh (m : mD) (a i : Int) : Int := if a < 1000 then (lit a).getD i.toNat 0 else m.1 12700 a i
abbrev isTx (m : mD) (a : Int) : Prop := (100 ≤ a ∧ a < 159) ∨ (1000 ≤ a ∧ m.2.1 a = 27)
/-- the first place from i on that holds x; -1 -/
def lidx (l : List Int) (x i : Int) : Int := fstN (fun k => decide (l.getD k.toNat 0 = x)) (l.length - i.toNat) i
/-- the place of an Integer in a list of them -/
noncomputable def bIdx (m : mD) (r rs : Nat) (a x : Int) : Int := fst (fun i => decide (m.1 2600 (m.1 r a i) 0 = m.1 2600 x 0)) (m.1 rs a 0)
def isPD (c : Nat) : Bool := m_has [60, 61, 62, 66, 68, 69, 71, 73, 74, 211, 213, 216, 219, 223, 232, 233, 234, 235, 269, 307, 308, 309, 319, 320, 323, 354] c
noncomputable def PD : mP2 mD := fun c ex as m Q => match as with
  | [.inr (.inr a)] => match ex with
    | r :: rs :: _ => m.2.1 a = r ∧ (bif Nat.beq c 60 then Q (rI (m.1 rs a 0)) m
        else bif Nat.beq c 73 then (m.1 rs a 0 = 0 → Q (rI 1) m) ∧ (m.1 rs a 0 ≠ 0 → Q (rI 0) m)
        else bif Nat.beq c 74 then 1 ≤ m.2.2.2 ∧ Q rV (dpy (dst m rs a 0 0) 1) else False)
    | _ => bif Nat.beq c 211 then isTx m a ∧ Q (rI (sLen m a)) m
        else bif Nat.beq c 323 then m.2.1 a = 26 ∧ Q (rI (m.1 2600 a 0)) m
        else bif Nat.beq c 309 then m.2.1 a = 12500 ∧ m.1 22500 a 0 + 12 ≤ m.2.2.2 ∧ ∀ s, m.2.2.1 ≤ s → Q (rR s) (drow (dst (dal m s 27 (m.1 22500 a 0 + 12)) 22700 s 0 (m.1 22500 a 0)) 12700 s (m.1 12500 a))
        else bif Nat.beq c 354 then m.2.1 a = 6 ∧ Q rV m else False
  | [.inr (.inr a), .inl i] => match ex with
    | r :: rs :: _ => bif Nat.beq c 61 then m.2.1 a = 99 ∧ (1 ≤ i ∧ i ≤ 10) ∧ i + 4 ≤ m.2.2.2 ∧ Q rV (dst (dkd m a r (i + 4)) rs a 0 0)
        else bif Nat.beq c 66 then m.2.1 a = r ∧ (0 ≤ i ∧ i < m.1 rs a 0) ∧ Q (rR (m.1 r a i)) m
        else bif Nat.beq c 71 then m.2.1 a = r ∧ (0 ≤ i ∧ i < m.1 rs a 0) ∧ 1 ≤ m.2.2.2 ∧ Q (rR (m.1 r a i)) (dpy (dst (drow m r a (fun k => if k < i then m.1 r a k else m.1 r a (k + 1))) rs a 0 (m.1 rs a 0 - 1)) 1)
        else False
    | _ => bif Nat.beq c 219 then isTx m a ∧ (0 ≤ i ∧ i < sLen m a) ∧ Q (rI (sCh m a i)) m
        else bif Nat.beq c 307 then m.2.1 a = 98 ∧ i = 8 ∧ 12 ≤ m.2.2.2 ∧ Q rV (dst (dkd m a 12500 12) 22500 a 0 0)
        else bif Nat.beq c 308 then m.2.1 a = 12500 ∧ (0 ≤ i ∧ i ≤ 255) ∧ m.1 22500 a 0 < 8 ∧ Q (rR a) (dst (dst m 12500 a (m.1 22500 a 0) i) 22500 a 0 (m.1 22500 a 0 + 1))
        else False
  | [.inr (.inr a), .inr (.inr x)] => match ex with
    | r :: rs :: _ => m.2.1 a = r ∧ (bif Nat.beq c 62 then (m.1 rs a 0 ≤ 10000 ∧ 2 * m.1 rs a 0 + 20 ≤ m.2.2.2 ∧ (x = 0 ∨ (1 ≤ m.2.1 x ∧ m.2.1 x ≤ 27))) ∧ Q (rI 1) (dpy (dst (dst m r a (m.1 rs a 0) x) rs a 0 (m.1 rs a 0 + 1)) (2 * m.1 rs a 0 + 20))
        else bif Nat.beq c 68 then (m.2.1 x = 26 ∧ ∀ i, 0 ≤ i → i < m.1 rs a 0 → m.2.1 (m.1 r a i) = 26) ∧ (bIdx m r rs a x < 0 → Q (rI 0) m) ∧ (0 ≤ bIdx m r rs a x → Q (rI 1) m)
        else bif Nat.beq c 69 then (m.2.1 x = 26 ∧ ∀ i, 0 ≤ i → i < m.1 rs a 0 → m.2.1 (m.1 r a i) = 26) ∧ Q (rI (bIdx m r rs a x)) m
        else False)
    | _ => bif Nat.beq c 223 then (m.2.1 a = 27 ∧ m.2.1 x = 27 ∧ 1000 ≤ a ∧ 1000 ≤ x) ∧ ((sLen m a = sLen m x ∧ ∀ i, 0 ≤ i → i < sLen m a → sCh m a i = sCh m x i) → Q (rI 1) m) ∧ (¬ (sLen m a = sLen m x ∧ ∀ i, 0 ≤ i → i < sLen m a → sCh m a i = sCh m x i) → Q (rI 0) m)
        else False
  | [.inr (.inr a), .inl x, .inl i] => bif Nat.beq c 213 then (100 ≤ a ∧ a < 159) ∧ (0 ≤ i ∧ i ≤ (lit a).length) ∧ (0 ≤ x ∧ x ≤ 127) ∧ Q (rI (lidx (lit a) x i)) m
        else bif Nat.beq c 216 then (100 ≤ a ∧ a < 159) ∧ (1 ≤ x ∧ x < i ∧ i ≤ (lit a).length) ∧ i - x + 12 ≤ m.2.2.2 ∧ ∀ s, m.2.2.1 ≤ s → Q (rR s) (drow (dst (dal m s 27 (i - x + 12)) 22700 s 0 (i - x)) 12700 s (fun k => (lit a).getD (x + k).toNat 0))
        else False
  | [.inr (.inr a), .inr (.inr x), .inr (.inr y), .inl p, .inl q] => bif Nat.beq c 269 then m.2.1 a = 5 ∧ x = 0 ∧ y = 0 ∧ p = 0 ∧ q = 0 ∧ Q rV m else False
  | [.inl x] => bif Nat.beq c 319 then (0 ≤ x ∧ x < 16384) ∧ Q (rI (pc x)) m
        else bif Nat.beq c 320 then 5 ≤ m.2.2.2 ∧ (∀ b, b < m.2.2.1 → m.2.1 b = 26 → m.1 2600 b 0 = x → Q (rR b) m) ∧ (∀ s, m.2.2.1 ≤ s → Q (rR s) (dst (dal m s 26 5) 2600 s 0 x))
        else False
  | [.inl x, .inl y] => bif Nat.beq c 232 then Q (rI (max x y)) m else bif Nat.beq c 233 then Q (rI (min x y)) m else False
  | [.inr (.inl x), .inr (.inl y)] => bif Nat.beq c 235 then Q (rJ (max x y)) m else bif Nat.beq c 234 then Q (rJ (min x y)) m else False
  | _ => False
/-- the place of an array: its name is given, or its kind -/
def isAr (m : mD) (r nm : Nat) (a : Int) : Prop := match nm with
  | 0 => m.2.1 a = r
  | n + 1 => a = ((n + 1 : Nat) : Int)
def oD : mH2 mD := fun it S m K => match it with
  | (ins, _, _, au, cz) => match ins with
  | .getfield _ => match S, au with
    | .inr (.inr a) :: r, [_, t, 1, 1, g, 0] => bif Nat.beq a.toNat 1000 then (match t with | 0 => K (mI (m.1 g 1000 0) :: r) m | 1 => K (mJ (m.1 g 1000 0) :: r) m | _ => K (mR (m.1 g 1000 0) :: r) m) else False
    | .inr (.inr a) :: r, [_, _, 1, 1, _, 1] => bif Nat.beq a.toNat 1000 then K (mR cz :: r) m else False
    | .inr (.inr a) :: r, [_, _, lo, hi, g, 1] => ((lo ≤ m.2.1 a ∧ m.2.1 a ≤ hi) ∧ m.1 g a 0 = cz) ∧ K (mR cz :: r) m
    | .inr (.inr a) :: r, [_, t, lo, hi, g] => (lo ≤ m.2.1 a ∧ m.2.1 a ≤ hi) ∧ (match t with | 0 => K (mI (m.1 g a 0) :: r) m | 1 => K (mJ (m.1 g a 0) :: r) m | _ => K (mR (m.1 g a 0) :: r) m)
    | _, _ => False
  | .putfield _ => match S, au with
    | .inl v :: .inr (.inr a) :: r, [_, 0, 1, 1, g] => bif Nat.beq a.toNat 1000 then K r (dst m g 1000 0 v) else False
    | .inl v :: .inr (.inr a) :: r, [_, 0, lo, hi, g] => (lo ≤ m.2.1 a ∧ m.2.1 a ≤ hi) ∧ K r (dst m g a 0 v)
    | .inl v :: .inr (.inr a) :: r, [_, 3, lo, hi, g] => (lo ≤ m.2.1 a ∧ m.2.1 a ≤ hi) ∧ (0 ≤ v ∧ v ≤ 1) ∧ K r (dst m g a 0 v)
    | .inl v :: .inr (.inr a) :: r, [_, 5, lo, hi, g] => (lo ≤ m.2.1 a ∧ m.2.1 a ≤ hi) ∧ (0 ≤ v ∧ v ≤ 65535) ∧ K r (dst m g a 0 v)
    | .inr (.inl v) :: .inr (.inr a) :: r, [_, 1, lo, hi, g] => (lo ≤ m.2.1 a ∧ m.2.1 a ≤ hi) ∧ K r (dst m g a 0 v)
    | .inr (.inr v) :: .inr (.inr a) :: r, [_, 2, lo, hi, g] => (lo ≤ m.2.1 a ∧ m.2.1 a ≤ hi) ∧ K r (dst m g a 0 v)
    | _, _ => False
  | .iaload => match S, au with
    | .inl i :: .inr (.inr a) :: r, [_, g, n, nm] => isAr m g nm a ∧ (0 ≤ i ∧ i < n) ∧ K (mI (m.1 g a i) :: r) m
    | _, _ => False
  | .laload => match S, au with
    | .inl i :: .inr (.inr a) :: r, [g, n, nm] => isAr m g nm a ∧ (0 ≤ i ∧ i < n) ∧ K (mJ (m.1 g a i) :: r) m
    | _, _ => False
  | .baload => match S, au with
    | .inl i :: .inr (.inr a) :: r, [_, _, g, n, nm] => isAr m g nm a ∧ (0 ≤ i ∧ i < n) ∧ K (mI (m.1 g a i) :: r) m
    | _, _ => False
  | .aaload => match S, au with
    | .inl i :: .inr (.inr a) :: r, [_, g, n, nm] => isAr m g nm a ∧ (0 ≤ i ∧ i < n) ∧ K (mR (m.1 g a i) :: r) m
    | _, _ => False
  | .iastore => match S, au with
    | .inl v :: .inl i :: .inr (.inr a) :: r, [g, n, nm] => isAr m g nm a ∧ (0 ≤ i ∧ i < n) ∧ K r (dst m g a i v)
    | _, _ => False
  | .lastore => match S, au with
    | .inr (.inl v) :: .inl i :: .inr (.inr a) :: r, [g, n, nm] => isAr m g nm a ∧ (0 ≤ i ∧ i < n) ∧ K r (dst m g a i v)
    | _, _ => False
  | .bastore => match S, au with
    | .inl v :: .inl i :: .inr (.inr a) :: r, [103, g, n, nm] => isAr m g nm a ∧ (0 ≤ i ∧ i < n) ∧ K r (dst m g a i (zi2b v))
    | _, _ => False
  | .aastore => match S, au with
    | .inr (.inr v) :: .inl i :: .inr (.inr a) :: r, [_, lo, hi, g, n, nm] => isAr m g nm a ∧ (0 ≤ i ∧ i < n) ∧ (lo ≤ m.2.1 v ∧ m.2.1 v ≤ hi) ∧ K r (dst m g a i v)
    | _, _ => False
  | .new _ => match au with
    | [24, _] => 7 ≤ m.2.2.2 ∧ ∀ a, m.2.2.1 ≤ a → K (mR a :: S) (dal m a 99 7)
    | [25, _] => 8 ≤ m.2.2.2 ∧ ∀ a, m.2.2.1 ≤ a → K (mR a :: S) (dal m a 98 8)
    | [k, n] => (n : Int) + 4 ≤ m.2.2.2 ∧ ∀ a, m.2.2.1 ≤ a → K (mR a :: S) (dal m a k ((n : Int) + 4))
    | _ => False
  | .aconst_null => bif Nat.ble S.length 4 then 10 ≤ m.2.2.2 ∧ ∀ a, m.2.2.1 ≤ a → K (mR a :: S) (dal m a 6 10) else False
  | .anewarray _ => match S, au with
    | .inl n :: r, [_, g, n0] => n = (n0 : Int) ∧ (n0 : Int) + 4 ≤ m.2.2.2 ∧ ∀ a, m.2.2.1 ≤ a → K (mR a :: r) (dal m a g ((n0 : Int) + 4))
    | _, _ => False
  | .checkcast _ => match S, au with
    | .inr (.inr a) :: r, lo :: hi :: _ => (a = 0 ∨ (lo ≤ m.2.1 a ∧ m.2.1 a ≤ hi)) ∧ K (mR a :: r) m
    | _, _ => False
  | .invokedynamic _ => match S, au with
    | .inr (.inr a) :: r, [4] => bif Nat.ble r.length 4 then m.2.1 a ≠ 0 ∧ K r m else False
    | .inl n :: .inl dp :: .inr (.inr ds) :: .inl sp :: .inr (.inr sr) :: r, [1, _, _, _, g, gn, h, hn] => bif Nat.ble r.length 4 then (m.2.1 sr = g ∧ m.2.1 ds = h ∧ sp = 0 ∧ dp = 0 ∧ 0 ≤ n ∧ n ≤ gn ∧ n ≤ hn) ∧ K r (drow m h ds (fun k => if 0 ≤ k ∧ k < n then m.1 g sr k else m.1 h ds k)) else False
    | _, _ => False
  | _ => False
theorem PD_mono : mPk PD := by
  intro c ex as m Q Q' hQ h
  unfold PD at h ⊢
  split at h
  · split at h
    · refine ⟨h.1, bif_mono (hQ _ _) (bif_mono (fun h => ⟨fun e => hQ _ _ (h.1 e), fun e => hQ _ _ (h.2 e)⟩) (bif_mono (fun h => ⟨h.1, hQ _ _ h.2⟩) (fun h => h))) h.2⟩
    · exact bif_mono (fun h => ⟨h.1, hQ _ _ h.2⟩) (bif_mono (fun h => ⟨h.1, hQ _ _ h.2⟩) (bif_mono (fun h => ⟨h.1, h.2.1, fun s hs => hQ _ _ (h.2.2 s hs)⟩) (bif_mono (fun h => ⟨h.1, hQ _ _ h.2⟩) (fun h => h)))) h
  · split at h
    · exact bif_mono (fun h => ⟨h.1, h.2.1, h.2.2.1, hQ _ _ h.2.2.2⟩) (bif_mono (fun h => ⟨h.1, h.2.1, hQ _ _ h.2.2⟩) (bif_mono (fun h => ⟨h.1, h.2.1, h.2.2.1, hQ _ _ h.2.2.2⟩) (fun h => h))) h
    · exact bif_mono (fun h => ⟨h.1, h.2.1, hQ _ _ h.2.2⟩) (bif_mono (fun h => ⟨h.1, h.2.1, h.2.2.1, hQ _ _ h.2.2.2⟩) (bif_mono (fun h => ⟨h.1, h.2.1, h.2.2.1, hQ _ _ h.2.2.2⟩) (fun h => h))) h
  · split at h
    · exact ⟨h.1, bif_mono (fun h => ⟨h.1, hQ _ _ h.2⟩) (bif_mono (fun h => ⟨h.1, fun e => hQ _ _ (h.2.1 e), fun e => hQ _ _ (h.2.2 e)⟩) (bif_mono (fun h => ⟨h.1, hQ _ _ h.2⟩) (fun h => h))) h.2⟩
    · exact bif_mono (fun h => ⟨h.1, fun e => hQ _ _ (h.2.1 e), fun e => hQ _ _ (h.2.2 e)⟩) (fun h => h) h
  · exact bif_mono (fun h => ⟨h.1, h.2.1, h.2.2.1, hQ _ _ h.2.2.2⟩) (bif_mono (fun h => ⟨h.1, h.2.1, h.2.2.1, fun s hs => hQ _ _ (h.2.2.2 s hs)⟩) (fun h => h)) h
  · exact bif_mono (fun h => ⟨h.1, h.2.1, h.2.2.1, h.2.2.2.1, h.2.2.2.2.1, hQ _ _ h.2.2.2.2.2⟩) (fun h => h) h
  · exact bif_mono (fun h => ⟨h.1, hQ _ _ h.2⟩) (bif_mono (fun h => ⟨h.1, fun b h0 h1 h2 => hQ _ _ (h.2.1 b h0 h1 h2), fun s hs => hQ _ _ (h.2.2 s hs)⟩) (fun h => h)) h
  · exact bif_mono (hQ _ _) (bif_mono (hQ _ _) (fun h => h)) h
  · exact bif_mono (hQ _ _) (bif_mono (hQ _ _) (fun h => h)) h
  · exact h
theorem oD_mono : mOk oD := by
  intro it S m K K' hK h
  obtain ⟨ins, np, tg, au, cz⟩ := it
  unfold oD at h ⊢
  dsimp only at h ⊢
  split at h
  · split at h
    · refine bif_mono (fun h => ?_) (fun h => h) h
      split at h
      · exact hK _ _ h
      · exact hK _ _ h
      · exact hK _ _ h
    · exact bif_mono (hK _ _) (fun h => h) h
    · exact ⟨h.1, hK _ _ h.2⟩
    · refine ⟨h.1, ?_⟩
      replace h := h.2
      split at h
      · exact hK _ _ h
      · exact hK _ _ h
      · exact hK _ _ h
    · exact h
  · split at h
    · exact bif_mono (hK _ _) (fun h => h) h
    · exact ⟨h.1, hK _ _ h.2⟩
    · exact ⟨h.1, h.2.1, hK _ _ h.2.2⟩
    · exact ⟨h.1, h.2.1, hK _ _ h.2.2⟩
    · exact ⟨h.1, hK _ _ h.2⟩
    · exact ⟨h.1, hK _ _ h.2⟩
    · exact h
  · split at h
    · exact ⟨h.1, h.2.1, hK _ _ h.2.2⟩
    · exact h
  · split at h
    · exact ⟨h.1, h.2.1, hK _ _ h.2.2⟩
    · exact h
  · split at h
    · exact ⟨h.1, h.2.1, hK _ _ h.2.2⟩
    · exact h
  · split at h
    · exact ⟨h.1, h.2.1, hK _ _ h.2.2⟩
    · exact h
  · split at h
    · exact ⟨h.1, h.2.1, hK _ _ h.2.2⟩
    · exact h
  · split at h
    · exact ⟨h.1, h.2.1, hK _ _ h.2.2⟩
    · exact h
  · split at h
    · exact ⟨h.1, h.2.1, hK _ _ h.2.2⟩
    · exact h
  · split at h
    · exact ⟨h.1, h.2.1, h.2.2.1, hK _ _ h.2.2.2⟩
    · exact h
  · split at h
    · exact ⟨h.1, fun a ha => hK _ _ (h.2 a ha)⟩
    · exact ⟨h.1, fun a ha => hK _ _ (h.2 a ha)⟩
    · exact ⟨h.1, fun a ha => hK _ _ (h.2 a ha)⟩
    · exact h
  · exact bif_mono (fun h => ⟨h.1, fun a ha => hK _ _ (h.2 a ha)⟩) (fun h => h) h
  · split at h
    · exact ⟨h.1, h.2.1, fun a ha => hK _ _ (h.2.2 a ha)⟩
    · exact h
  · split at h
    · exact ⟨h.1, hK _ _ h.2⟩
    · exact h
  · split at h
    · exact bif_mono (fun h => ⟨h.1, hK _ _ h.2⟩) (fun h => h) h
    · exact bif_mono (fun h => ⟨h.1, hK _ _ h.2⟩) (fun h => h) h
    · exact h
  · exact h
abbrev kdD : mD → Int → Nat := fun m a => m.2.1 a
abbrev RD (d y : Nat) (g : mG mD) (Q : mQ mD) : Prop := Rn2 oD isPD PD kdD tP tU d y g Q
theorem RDr (inl stops : List Nat) (n : Nat) {d y : Nat} {g : mG mD} {Q : mQ mD} (h : wp2 oD isPD PD kdD tP tU (Rn2 oD isPD PD kdD tP tU) inl stops n d y g Q) : RD d y g Q := Rn2.run oD_mono PD_mono inl stops n h
theorem RD.mono {d y : Nat} {g : mG mD} {Q Q' : mQ mD} (h : RD d y g Q) (hQ : ∀ o m, Q o m → Q' o m) : RD d y g Q' := Rn2.mono oD_mono PD_mono h hQ
/-- a call upon an object: the receiver's kind, the callee -/
theorem hub_i {A : Prop} {d y : Nat} {g : mG mD} {Q : mQ mD} (ha : A) (h : RD d y g Q) : A ∧ RD d y g Q := ⟨ha, h⟩
