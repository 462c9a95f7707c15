/-! THE MINI-VM AGAINST THE MACHINE: values, locals, memory -/
def gr (ad : Int → Nat) (z : Int) : Option Nat := if z = 0 then none else some (ad z)
def gvv (ad : Int → Nat) : mV → Value
  | .inl z => .int (Int32.ofInt z)
  | .inr (.inl z) => .long (Int64.ofInt z)
  | .inr (.inr z) => va_rf (gr ad z)
def wfv (nx : Int) : mV → Prop
  | .inl z => i32 z
  | .inr (.inl z) => i64 z
  | .inr (.inr z) => 0 ≤ z ∧ z < nx
theorem gvv_same {ad ad' : Int → Nat} {nx : Int} (h : ∀ z, z < nx → ad' z = ad z) {v : mV} (hv : wfv nx v) : gvv ad' v = gvv ad v := by
  rcases v with z | z | z
  · rfl
  · rfl
  · show va_rf (gr ad' z) = va_rf (gr ad z)
    unfold gr
    rw [h z hv.2]
theorem wfv_up {nx nx' : Int} (h : nx ≤ nx') {v : mV} (hv : wfv nx v) : wfv nx' v := by
  rcases v with z | z | z
  · exact hv
  · exact hv
  · exact ⟨hv.1, Int.lt_of_lt_of_le hv.2 h⟩
theorem gvv_cat1 (ad : Int → Nat) (v : mV) (h : m_isJv v = false) : (gvv ad v).category = 1 := by
  rcases v with z | z | z
  · rfl
  · cases h
  · show (va_rf (gr ad z)).category = 1
    unfold gr
    split <;> rfl
theorem gvv_cat2 (ad : Int → Nat) (v : mV) (h : m_isJv v = true) : (gvv ad v).category = 2 := by
  rcases v with z | z | z
  · cases h
  · rfl
  · cases h
theorem map_same {ad ad' : Int → Nat} {nx : Int} (h : ∀ z, z < nx → ad' z = ad z) : ∀ (S : List mV), (∀ v ∈ S, wfv nx v) → S.map (gvv ad') = S.map (gvv ad)
  | [], _ => rfl
  | v :: S, hS => by
    rw [List.map_cons, List.map_cons, gvv_same h (hS v List.mem_cons_self), map_same h S (fun w hw => hS w (List.mem_cons_of_mem _ hw))]
/-- the locals -/
def LH (ad : Int → Nat) (ls : Array Slot) (L : mL) : Prop := ls.size = L.length ∧ lv_wf ls ∧ ∀ (k : Nat) (v : mV), L[k]? = some (some v) → ls[k]? = some (.val (gvv ad v))
def wfL (nx : Int) (L : mL) : Prop := ∀ (k : Nat) (v : mV), L[k]? = some (some v) → wfv nx v
theorem LH_same {ad ad' : Int → Nat} {nx : Int} (h : ∀ z, z < nx → ad' z = ad z) {ls : Array Slot} {L : mL} (hw : wfL nx L) (hl : LH ad ls L) : LH ad' ls L :=
  ⟨hl.1, hl.2.1, fun k v hk => by rw [gvv_same h (hw k v hk)]; exact hl.2.2 k v hk⟩
theorem wfL_up {nx nx' : Int} (h : nx ≤ nx') {L : mL} (hw : wfL nx L) : wfL nx' L := fun k v hk => wfv_up h (hw k v hk)
def lvL (ad : Int → Nat) : Nat → mL → List (Nat × Value)
  | _, [] => []
  | i, none :: r => lvL ad (i + 1) r
  | i, some v :: r => (i, gvv ad v) :: lvL ad (i + 1) r
theorem lvL_mem (ad : Int → Nat) : ∀ (L : mL) (i : Nat) (q : Nat × Value), q ∈ lvL ad i L ↔ ∃ (k : Nat) (v : mV), L[k]? = some (some v) ∧ q = (i + k, gvv ad v)
  | [], i, q => by simp [lvL]
  | none :: r, i, q => by
    show q ∈ lvL ad (i + 1) r ↔ _
    rw [lvL_mem ad r (i + 1) q]
    constructor
    · rintro ⟨k, v, h1, h2⟩
      exact ⟨k + 1, v, by simpa using h1, by rw [h2]; congr 1; omega⟩
    · rintro ⟨k, v, h1, h2⟩
      cases k with
      | zero => simp at h1
      | succ k => exact ⟨k, v, by simpa using h1, by rw [h2]; congr 1; omega⟩
  | some w :: r, i, q => by
    show q ∈ (i, gvv ad w) :: lvL ad (i + 1) r ↔ _
    rw [List.mem_cons, lvL_mem ad r (i + 1) q]
    constructor
    · rintro (h | ⟨k, v, h1, h2⟩)
      · exact ⟨0, w, rfl, by rw [h]; rfl⟩
      · exact ⟨k + 1, v, by simpa using h1, by rw [h2]; congr 1; omega⟩
    · rintro ⟨k, v, h1, h2⟩
      cases k with
      | zero =>
        left
        have h3 : w = v := by simpa using h1
        rw [h2, h3]; rfl
      | succ k => exact Or.inr ⟨k, v, by simpa using h1, by rw [h2]; congr 1; omega⟩
theorem LH.has {ad : Int → Nat} {ls : Array Slot} {L : mL} (h : LH ad ls L) : lv_has ls L.length (lvL ad 0 L) := by
  refine ⟨h.1, h.2.1, fun q hq => ?_⟩
  obtain ⟨k, v, h1, h2⟩ := (lvL_mem ad L 0 q).mp hq
  rw [h2, Nat.zero_add]
  exact h.2.2 k v h1
/-- a load -/
theorem m_ld_spec {R : Type _} : ∀ (k : Nat) (L : mL) (f : mV → Option R) (r : R), m_ld k L f = some r → ∃ v, L[k]? = some (some v) ∧ f v = some r
  | 0, some v :: _, f, r, h => ⟨v, rfl, h⟩
  | 0, none :: _, f, r, h => by simp [m_ld] at h
  | 0, [], f, r, h => by simp [m_ld] at h
  | k + 1, [], f, r, h => by simp [m_ld] at h
  | k + 1, x :: t, f, r, h => by
    obtain ⟨v, h1, h2⟩ := m_ld_spec k t f r h
    exact ⟨v, by simpa using h1, h2⟩
/-- a store of one word -/
theorem m_st1_spec {R : Type _} : ∀ (k : Nat) (v : mV) (L : mL) (f : mL → Option R) (r : R), m_st1 k v L f = some r → ∃ L', f L' = some r ∧ L'.length = L.length ∧ k < L.length ∧
    ∀ (j : Nat) (w : mV), L'[j]? = some (some w) → (j = k ∧ w = v) ∨ (j ≠ k ∧ L[j]? = some (some w) ∧ ¬ (j + 1 = k ∧ m_isJv w = true))
  | 0, v, [], f, r, h => by simp [m_st1] at h
  | 0, v, x :: t, f, r, h => by
    refine ⟨some v :: t, h, rfl, by simp, fun j w hj => ?_⟩
    cases j with
    | zero => left; exact ⟨rfl, by simpa using hj.symm⟩
    | succ j => right; exact ⟨by omega, by simpa using hj, by omega⟩
  | 1, v, [], f, r, h => by simp [m_st1] at h
  | 1, v, [x], f, r, h => by rcases x with _ | z | z | z <;> simp [m_st1] at h
  | 1, v, x :: y :: t, f, r, h => by
    have hx : (∃ z, x = some (.inr (.inl z)) ∧ f (none :: some v :: t) = some r) ∨ ((∀ z, x ≠ some (.inr (.inl z))) ∧ f (x :: some v :: t) = some r) := by
      rcases x with _ | z | z | z
      · exact Or.inr ⟨fun z hz => (by cases hz), h⟩
      · exact Or.inr ⟨fun z hz => (by cases hz), h⟩
      · exact Or.inl ⟨z, rfl, h⟩
      · exact Or.inr ⟨fun z hz => (by cases hz), h⟩
    rcases hx with ⟨z, hz, hf⟩ | ⟨hz, hf⟩
    · refine ⟨_, hf, rfl, by simp, fun j w hj => ?_⟩
      match j with
      | 0 => simp at hj
      | 1 => left; exact ⟨rfl, by simpa using hj.symm⟩
      | j + 2 => right; exact ⟨by omega, by simpa using hj, by omega⟩
    · refine ⟨_, hf, rfl, by simp, fun j w hj => ?_⟩
      match j with
      | 0 =>
        right
        have hw : x = some w := by simpa using hj
        refine ⟨by omega, by simpa using hw, fun hc => ?_⟩
        rcases w with z | z | z
        · cases hc.2
        · exact hz z hw
        · cases hc.2
      | 1 => left; exact ⟨rfl, by simpa using hj.symm⟩
      | j + 2 => right; exact ⟨by omega, by simpa using hj, by omega⟩
  | n + 2, v, [], f, r, h => by simp [m_st1] at h
  | n + 2, v, x :: t, f, r, h => by
    obtain ⟨L', h1, h2, h3, h4⟩ := m_st1_spec (n + 1) v t (fun r' => f (x :: r')) r h
    refine ⟨x :: L', h1, by simp [h2], by simp; omega, fun j w hj => ?_⟩
    cases j with
    | zero => right; exact ⟨by omega, by simpa using hj, by omega⟩
    | succ j =>
      rcases h4 j w (by simpa using hj) with ⟨e1, e2⟩ | ⟨e1, e2, e3⟩
      · left; exact ⟨by omega, e2⟩
      · right; exact ⟨by omega, by simpa using e2, fun hc => e3 ⟨by omega, hc.2⟩⟩
theorem m_st2_spec {R : Type _} : ∀ (k : Nat) (v : mV) (L : mL) (f : mL → Option R) (r : R), m_st2 k v L f = some r → ∃ L', f L' = some r ∧ L'.length = L.length ∧ k + 1 < L.length ∧
    ∀ (j : Nat) (w : mV), L'[j]? = some (some w) → (j = k ∧ w = v) ∨ (j ≠ k ∧ j ≠ k + 1 ∧ L[j]? = some (some w) ∧ ¬ (j + 1 = k ∧ m_isJv w = true))
  | 0, v, [], f, r, h => by simp [m_st2] at h
  | 0, v, [_], f, r, h => by simp [m_st2] at h
  | 0, v, x :: y :: t, f, r, h => by
    refine ⟨some v :: none :: t, h, rfl, by simp, fun j w hj => ?_⟩
    match j with
    | 0 => left; exact ⟨rfl, by simpa using hj.symm⟩
    | 1 => simp at hj
    | j + 2 => right; exact ⟨by omega, by omega, by simpa using hj, by omega⟩
  | 1, v, [], f, r, h => by simp [m_st2] at h
  | 1, v, [x], f, r, h => by rcases x with _ | z | z | z <;> simp [m_st2] at h
  | 1, v, [x, y], f, r, h => by rcases x with _ | z | z | z <;> simp [m_st2] at h
  | 1, v, x :: y :: y' :: t, f, r, h => by
    have hx : (∃ z, x = some (.inr (.inl z)) ∧ f (none :: some v :: none :: t) = some r) ∨ ((∀ z, x ≠ some (.inr (.inl z))) ∧ f (x :: some v :: none :: t) = some r) := by
      rcases x with _ | z | z | z
      · exact Or.inr ⟨fun z hz => (by cases hz), h⟩
      · exact Or.inr ⟨fun z hz => (by cases hz), h⟩
      · exact Or.inl ⟨z, rfl, h⟩
      · exact Or.inr ⟨fun z hz => (by cases hz), h⟩
    rcases hx with ⟨z, hz, hf⟩ | ⟨hz, hf⟩
    · refine ⟨_, hf, rfl, by simp, fun j w hj => ?_⟩
      match j with
      | 0 => simp at hj
      | 1 => left; exact ⟨rfl, by simpa using hj.symm⟩
      | 2 => simp at hj
      | j + 3 => right; exact ⟨by omega, by omega, by simpa using hj, by omega⟩
    · refine ⟨_, hf, rfl, by simp, fun j w hj => ?_⟩
      match j with
      | 0 =>
        right
        have hw : x = some w := by simpa using hj
        refine ⟨by omega, by omega, by simpa using hw, fun hc => ?_⟩
        rcases w with z | z | z
        · cases hc.2
        · exact hz z hw
        · cases hc.2
      | 1 => left; exact ⟨rfl, by simpa using hj.symm⟩
      | 2 => simp at hj
      | j + 3 => right; exact ⟨by omega, by omega, by simpa using hj, by omega⟩
  | n + 2, v, [], f, r, h => by simp [m_st2] at h
  | n + 2, v, x :: t, f, r, h => by
    obtain ⟨L', h1, h2, h3, h4⟩ := m_st2_spec (n + 1) v t (fun r' => f (x :: r')) r h
    refine ⟨x :: L', h1, by simp [h2], by simp; omega, fun j w hj => ?_⟩
    cases j with
    | zero => right; exact ⟨by omega, by omega, by simpa using hj, by omega⟩
    | succ j =>
      rcases h4 j w (by simpa using hj) with ⟨e1, e2⟩ | ⟨e1, e1', e2, e3⟩
      · left; exact ⟨by omega, e2⟩
      · right; exact ⟨by omega, by omega, by simpa using e2, fun hc => e3 ⟨by omega, hc.2⟩⟩
theorem LH.st1 {ad : Int → Nat} {ls' : Array Slot} {L L' : mL} {k : Nat} {v : mV} (hlen : L'.length = L.length)
    (hj : ∀ (j : Nat) (w : mV), L'[j]? = some (some w) → (j = k ∧ w = v) ∨ (j ≠ k ∧ L[j]? = some (some w) ∧ ¬ (j + 1 = k ∧ m_isJv w = true)))
    (h : lv_has ls' L.length ((k, gvv ad v) :: (lvL ad 0 L).filter (fun q => !(q.1 == k) && !(q.1 + 1 == k && q.2.category == 2)))) : LH ad ls' L' := by
  refine ⟨h.1.trans hlen.symm, h.2.1, fun j w hw => ?_⟩
  rcases hj j w hw with ⟨e1, e2⟩ | ⟨e1, e2, e3⟩
  · rw [e1, e2]
    exact h.2.2 (k, gvv ad v) List.mem_cons_self
  · refine h.2.2 (j, gvv ad w) (List.mem_cons_of_mem _ (List.mem_filter.mpr ⟨(lvL_mem ad L 0 _).mpr ⟨j, w, e2, by rw [Nat.zero_add]⟩, ?_⟩))
    have h1 : (j == k) = false := by simpa using e1
    have h2 : (j + 1 == k && (gvv ad w).category == 2) = false := by
      cases hw2 : m_isJv w with
      | true =>
        have h3 : ¬ j + 1 = k := fun hc => e3 ⟨hc, hw2⟩
        simp [h3]
      | false => simp [gvv_cat1 ad w hw2]
    simp only [h1, h2, Bool.not_false, Bool.and_self]
theorem LH.st2 {ad : Int → Nat} {ls' : Array Slot} {L L' : mL} {k : Nat} {v : mV} (hlen : L'.length = L.length)
    (hj : ∀ (j : Nat) (w : mV), L'[j]? = some (some w) → (j = k ∧ w = v) ∨ (j ≠ k ∧ j ≠ k + 1 ∧ L[j]? = some (some w) ∧ ¬ (j + 1 = k ∧ m_isJv w = true)))
    (h : lv_has ls' L.length ((k, gvv ad v) :: (lvL ad 0 L).filter (fun q => !(q.1 == k) && (!(q.1 == k + 1) && !(q.1 + 1 == k && q.2.category == 2))))) : LH ad ls' L' := by
  refine ⟨h.1.trans hlen.symm, h.2.1, fun j w hw => ?_⟩
  rcases hj j w hw with ⟨e1, e2⟩ | ⟨e1, e1', e2, e3⟩
  · rw [e1, e2]
    exact h.2.2 (k, gvv ad v) List.mem_cons_self
  · refine h.2.2 (j, gvv ad w) (List.mem_cons_of_mem _ (List.mem_filter.mpr ⟨(lvL_mem ad L 0 _).mpr ⟨j, w, e2, by rw [Nat.zero_add]⟩, ?_⟩))
    have h1 : (j == k) = false := by simpa using e1
    have h1' : (j == k + 1) = false := by simpa using e1'
    have h2 : (j + 1 == k && (gvv ad w).category == 2) = false := by
      cases hw2 : m_isJv w with
      | true =>
        have h3 : ¬ j + 1 = k := fun hc => e3 ⟨hc, hw2⟩
        simp [h3]
      | false => simp [gvv_cat1 ad w hw2]
    simp only [h1, h1', h2, Bool.not_false, Bool.and_self]
theorem wfL.st {nx : Int} {L L' : mL} {k : Nat} {v : mV} (hw : wfL nx L) (hv : wfv nx v) (hj : ∀ (j : Nat) (w : mV), L'[j]? = some (some w) → (j = k ∧ w = v) ∨ (j ≠ k ∧ L[j]? = some (some w) ∧ ¬ (j + 1 = k ∧ m_isJv w = true))) : wfL nx L' := by
  intro j w hjw
  rcases hj j w hjw with ⟨-, e2⟩ | ⟨-, e2, -⟩
  · rw [e2]; exact hv
  · exact hw j w e2
theorem wfL.st2 {nx : Int} {L L' : mL} {k : Nat} {v : mV} (hw : wfL nx L) (hv : wfv nx v) (hj : ∀ (j : Nat) (w : mV), L'[j]? = some (some w) → (j = k ∧ w = v) ∨ (j ≠ k ∧ j ≠ k + 1 ∧ L[j]? = some (some w) ∧ ¬ (j + 1 = k ∧ m_isJv w = true))) : wfL nx L' := by
  intro j w hjw
  rcases hj j w hjw with ⟨-, e2⟩ | ⟨-, -, e2, -⟩
  · rw [e2]; exact hv
  · exact hw j w e2
