/-! BOTH: facts, acts -/
set_option maxHeartbeats 3200000
set_option maxRecDepth 100000
section
variable {d : Nat} {h h' : mD} {m m' : sg} {Q : mQ mD}
theorem fbest_cg {w y dd w' y' dd' : Int → Int} {which year known : Int} : ∀ n : Nat, (∀ i : Nat, i < n → w' i = w i ∧ y' i = y i ∧ dd' i = dd i) → fbest w' y' dd' which year known n = fbest w y dd which year known n
  | 0, _ => rfl
  | n + 1, hc => by
    have ih := fbest_cg (w := w) (y := y) (dd := dd) (w' := w') (y' := y') (dd' := dd') (which := which) (year := year) (known := known) n (fun i hi => hc i (by omega))
    have hb := fbest_b w y dd which year known n
    unfold fbest
    rw [ih, (hc n (by omega)).1, (hc n (by omega)).2.1, (hc n (by omega)).2.2]
    generalize fbest w y dd which year known n = b at *
    by_cases h0 : b = -1
    · subst h0
      simp
    · have e : y' b = y b := by
        have := (hc b.toNat (by omega)).2.1
        rw [show ((b.toNat : Nat) : Int) = b by omega] at this
        exact this
      rw [e]
theorem RFc.fq (hR : RFc h m) (which year known : Int) : dfA h which year known = fA m which year known := by
  unfold dfA fA fval
  rw [hR.1.1]
  have e := fbest_cg (w := fun i => m 3 (4 * i)) (y := fun i => m 3 (4 * i + 1)) (dd := fun i => m 3 (4 * i + 3)) (w' := h.1 10100 1001) (y' := h.1 10101 1002) (dd' := h.1 10102 1003) (which := which) (year := year) (known := known) (m 2 0).toNat (fun i hi => by
    have := hR.2 i (by omega) (by omega)
    exact ⟨this.1, this.2.1, this.2.2.1⟩)
  have hb := fbest_b (fun i => m 3 (4 * i)) (fun i => m 3 (4 * i + 1)) (fun i => m 3 (4 * i + 3)) which year known (m 2 0).toNat
  rw [e]
  generalize fbest (fun i => m 3 (4 * i)) (fun i => m 3 (4 * i + 1)) (fun i => m 3 (4 * i + 3)) which year known (m 2 0).toNat = b at *
  by_cases h0 : b = -1
  · rw [if_pos h0, if_pos h0]
  · rw [if_neg h0, if_neg h0]
    exact (hR.2 b (by omega) (by omega)).2.2.2.1
theorem RFc.b (hR : RFc h m) (which year known : Int) : 0 ≤ fA m which year known ∧ fA m which year known ≤ 9999 := by
  unfold fA fval
  have hb := fbest_b (fun i => m 3 (4 * i)) (fun i => m 3 (4 * i + 1)) (fun i => m 3 (4 * i + 3)) which year known (m 2 0).toNat
  generalize fbest (fun i => m 3 (4 * i)) (fun i => m 3 (4 * i + 1)) (fun i => m 3 (4 * i + 3)) which year known (m 2 0).toNat = b at *
  by_cases h0 : b = -1
  · rw [if_pos h0]; omega
  · rw [if_neg h0]
    exact (hR.2 b (by omega) (by omega)).2.2.2.2
theorem abest_cg {fr fr' : Int → Int} {day : Int} : ∀ n : Nat, (∀ i : Nat, i < n → fr' i = fr i) → abest fr' day n = abest fr day n
  | 0, _ => rfl
  | n + 1, hc => by
    have ih := abest_cg (fr := fr) (fr' := fr') (day := day) n (fun i hi => hc i (by omega))
    have hb := abest_b fr day n
    unfold abest
    rw [ih, hc n (by omega)]
    generalize abest fr day n = b at *
    by_cases h0 : b = -1
    · subst h0
      simp
    · have e : fr' b = fr b := by
        have := hc b.toNat (by omega)
        rw [show ((b.toNat : Nat) : Int) = b by omega] at this
        exact this
      rw [e]
theorem lastv_h {kd on : Int → Int} {w v0 : Int} : ∀ (cs : List Cl) (k : Nat), (∀ i : Nat, i < cs.length → kd ((k + i : Nat) : Int) = (cs.getD i (0, 0, 0, [], [], [], 0)).1 ∧ on ((k + i : Nat) : Int) = (cs.getD i (0, 0, 0, [], [], [], 0)).2.1) → lastv kd on w v0 (k + cs.length) = hvl w cs (lastv kd on w v0 k)
  | [], k, _ => rfl
  | c :: cs, k, hc => by
    have ih := lastv_h (kd := kd) (on := on) (w := w) (v0 := v0) cs (k + 1) (fun i hi => by
      have := hc (i + 1) (by rw [List.length_cons]; omega)
      rw [show k + (i + 1) = k + 1 + i by omega] at this
      exact this)
    have h0 := hc 0 (by rw [List.length_cons]; omega)
    rw [Nat.add_zero] at h0
    rw [List.length_cons, show k + (cs.length + 1) = k + 1 + cs.length by omega, ih]
    show hvl w cs (if kd ((k : Nat) : Int) = w then on ((k : Nat) : Int) else lastv kd on w v0 k) = hvl w cs (if c.1 = w then c.2.1 else lastv kd on w v0 k)
    rw [h0.1, h0.2]
    rfl
theorem lastv_hvl {kd on : Int → Int} {w v0 : Int} (cs : List Cl) (hc : ∀ i : Nat, i < cs.length → kd i = (cs.getD i (0, 0, 0, [], [], [], 0)).1 ∧ on i = (cs.getD i (0, 0, 0, [], [], [], 0)).2.1) : lastv kd on w v0 cs.length = hvl w cs v0 := by
  have := lastv_h (kd := kd) (on := on) (w := w) (v0 := v0) cs 0 (fun i hi => by rw [Nat.zero_add]; exact hc i hi)
  rw [Nat.zero_add] at this
  exact this
theorem rowsR_at {r b : Int} : ∀ (cs : List Cl) (r b : Int), rowsR m r b cs → ∀ i : Nat, i < cs.length → m 7 (r + i) = (cs.getD i (0, 0, 0, [], [], [], 0)).1 ∧ m 8 (r + i) = (cs.getD i (0, 0, 0, [], [], [], 0)).2.1
  | [], _, _, _, i, hi => absurd hi (Nat.not_lt_zero _)
  | c :: cs, r, b, hr, 0, _ => by
    rw [show r + ((0 : Nat) : Int) = r by omega]
    exact ⟨hr.1.1, hr.1.2.1⟩
  | c :: cs, r, b, hr, i + 1, hi => by
    have := rowsR_at (r := r) (b := b) cs _ _ hr.2 i (by rw [List.length_cons] at hi; omega)
    rw [show r + ((i + 1 : Nat) : Int) = r + 1 + i by omega]
    exact this
theorem hvl_b {w : Int} (hw : 0 ≤ w ∧ w < 6) : ∀ (cs : List Cl) (v : Int), (∀ c ∈ cs, rlOk c) → rLo w ≤ v ∧ v ≤ rHi w → rLo w ≤ hvl w cs v ∧ hvl w cs v ≤ rHi w
  | [], v, _, hv => hv
  | c :: cs, v, hc, hv => by
    refine hvl_b hw cs _ (fun x hx => hc x (List.mem_cons_of_mem _ hx)) ?_
    by_cases h0 : c.1 = w
    · rw [if_pos h0]
      rcases (hc c List.mem_cons_self).2 with h1 | h1
      · omega
      · rw [← h0]; exact h1.2.2
    · rw [if_neg h0]; exact hv
theorem tdef_b {w : Int} (hw : 0 ≤ w ∧ w < 6) : rLo w ≤ tdef w ∧ tdef w ≤ rHi w := by
  have : w = 0 ∨ w = 1 ∨ w = 2 ∨ w = 3 ∨ w = 4 ∨ w = 5 := by omega
  rcases this with h | h | h | h | h | h <;> subst h <;> decide
/-- the act of a day, in both -/
def actS (h : mD) (m : sg) (day : Int) (cs : List Cl) : Prop := (∃ lo hi, ACp lo hi h (dAOn h day) cs ∧ 1008 ≤ lo ∧ hi ≤ h.2.2.1) ∧ akOk 400 cs ∧ (∀ w, 0 ≤ w → w < 6 → tOf m (aOn m day) w = hvl w cs (tdef w) ∧ rLo w ≤ hvl w cs (tdef w) ∧ hvl w cs (tdef w) ≤ rHi w) ∧ (aOn m day = -1 ∧ cs = [] ∨ (0 ≤ aOn m day ∧ aOn m day < m 27 0) ∧ TX m (aOn m day) cs)
theorem RAc.on (hR : RAc h m) (hn : 1076 ≤ h.2.2.1) (day : Int) : ∃ cs, actS h m day cs := by
  obtain ⟨⟨a1, a2, a3, a4⟩, a5, a6⟩ := hR
  have e : abest (fun k => h.1 302 ((h.1 10109 1006 k)) 0) day ((h.1 20109 1006 0)).toNat = aOn m day := by
    rw [a2]
    exact abest_cg (fr := m 28) _ (fun i hi => (a6 i (by omega) (by omega)).1)
  have hb := abest_b (m 28) day (m 27 0).toNat
  have hb : -1 ≤ aOn m day ∧ aOn m day < ((m 27 0).toNat : Nat) := hb
  unfold actS dAOn
  rw [e]
  generalize aOn m day = k at *
  by_cases h0 : k = -1
  · subst h0
    rw [if_pos rfl]
    refine ⟨[], ⟨1008, 1012, a5, by omega, by omega⟩, ⟨by show (0 : Int) ≤ 400; omega, by show 0 ≤ 20; omega, fun c hc => absurd hc (by simp)⟩, fun w w0 w1 => ?_, Or.inl ⟨rfl, rfl⟩⟩
    have := tdef_b ⟨w0, w1⟩
    exact ⟨rfl, this.1, this.2⟩
  · rw [if_neg h0]
    obtain ⟨b1, cs, b2, b3, b4⟩ := a6 k (by omega) (by omega)
    refine ⟨cs, ⟨1076, h.2.2.1, b2, by omega, Int.le_refl _⟩, b4, fun w w0 w1 => ⟨?_, hvl_b ⟨w0, w1⟩ cs _ b4.2.2 (tdef_b ⟨w0, w1⟩)⟩, Or.inr ⟨by omega, b3⟩⟩
    unfold tOf
    rw [if_neg h0, b3.2.1]
    exact lastv_hvl cs (fun i hi => rowsR_at (r := 0) (b := 0) cs _ _ b3.2.2.1 i hi)
theorem RAc.m6 (hR : RAc h m) : ∀ a, 0 ≤ a → a < m 27 0 → 0 ≤ m 6 a ∧ m 6 a ≤ 20 := fun a a0 a1 => by
  obtain ⟨-, cs, -, b3, b4⟩ := hR.2.2 a a0 a1
  rw [b3.2.1]
  have := b4.2.1
  omega
theorem RAc.kA (hR : RAc h m) : ∀ k, 0 ≤ k → k < (h.1 20109 1006 0) → h.2.1 ((h.1 10109 1006 k)) = 3 ∧ 1008 < (h.1 10109 1006 k) := fun k k0 k1 => by
  obtain ⟨-, cs, b2, -, -⟩ := hR.2.2 k k0 (by rw [← hR.1.2.1]; exact k1)
  exact ⟨b2.1.2.1, by have := b2.1.1.1; omega⟩
theorem D_actOnR {day : Int} {x2 x3 x4 : Option mV} (hR : RAc h m) (hn : 1076 ≤ h.2.2.1) (hQ : ∀ cs, actS h m day cs → Q (rR (dAOn h day)) h) : RD (d + 1) 13 (0, [some (mR 1000), some (mI day), x2, x3, x4], [], h) Q := by
  obtain ⟨cs, hA⟩ := hR.on hn day
  exact D_actOn hR.1.1 (by rw [hR.1.2.1]; exact hR.1.2.2) hR.kA (hQ cs hA)
/-- an act's answer -/
theorem actS.hold {day : Int} {cs : List Cl} (hA : actS h m day cs) {w : Int} (hw : 0 ≤ w ∧ w < 6) : h.2.1 (dAOn h day) = 3 ∧ h.2.1 (h.1 301 (dAOn h day) 0) = 10301 ∧ h.1 10301 (h.1 301 (dAOn h day) 0) w = tOf m (aOn m day) w ∧ rLo w ≤ tOf m (aOn m day) w ∧ tOf m (aOn m day) w ≤ rHi w := by
  obtain ⟨⟨lo, hi, a1, a2, a3⟩, b, c, -⟩ := hA
  have := c w hw.1 hw.2
  exact ⟨a1.1.2.1, a1.1.2.2.2, by rw [a1.2.2.1 w hw.1 hw.2, this.1], by rw [this.1]; exact this.2.1, by rw [this.1]; exact this.2.2⟩
/-- the relation stays: nothing of it is touched -/
theorem Rc.same {c : Int} (hR : Rc (c + 1) h m) (hc : 0 ≤ c) (hF : Fr [10119] h h') (hb : h.2.2.2 - 60000 ≤ h'.2.2.2) (hM : FrJ [0, 15, 16, 17, 18, 19, 20, 22, 23, 24, 25, 26, 29, 30, 31, 63, 64, 65, 67, 68, 69] m m') : Rc c h' m' := ⟨hR.1.fr hF hM, hc, by
  have := hR.2.2
  rw [hM 14 (by decide)]
  omega⟩
theorem Rc.s0 {c : Int} (hR : Rc (c + 1) h m) (hc : 0 ≤ c) : Rc c h (upm m 0 0 0) := hR.same hc Fr.rf (by omega) (FrJ.rf.up (by decide))
end
