/-! THE PASSAGE for the Desk: its memory in the raw one -/
set_option maxHeartbeats 3200000
set_option maxRecDepth 100000
theorem mst_1 (m : mM) (a i v : Int) : (mst m a i v).1 = fun b j => if b = a ∧ j = i then v else m.1 b j := rfl
theorem mst_2 (m : mM) (a i v : Int) : (mst m a i v).2 = m.2 := rfl
theorem mst_o {m : mM} {a i v b : Int} (h : b ≠ a) : (mst m a i v).1 b = m.1 b := by
  funext j
  rw [mst_1]
  dsimp only
  rw [if_neg (fun e => h e.1)]
theorem mst_i {m : mM} {a i v j : Int} (h : j ≠ i) : (mst m a i v).1 a j = m.1 a j := by
  rw [mst_1]
  dsimp only
  rw [if_neg (fun e => h e.2)]
theorem mst_s {m : mM} {a i v : Int} : (mst m a i v).1 a i = v := by
  rw [mst_1]
  dsimp only
  rw [if_pos ⟨rfl, rfl⟩]
/-- arrays: the raw kind and the length -/
def arD (k : Nat) : Nat × Int :=
  bif m_has [10100, 10101, 10102, 10103] k then (105, 300) else bif m_has [10114, 10115, 10116, 10117] k then (105, 600) else bif m_has [10121, 10122] k then (105, 200) else bif Nat.beq k 10301 then (105, 6) else bif Nat.beq k 11405 then (105, 12)
  else bif m_has [12303, 12304, 12305, 12306] k then (105, 8) else bif Nat.beq k 10106 then (103, 400) else bif Nat.beq k 10113 then (106, 12) else bif Nat.beq k 10119 then (106, 13) else bif m_has [12301, 12302] k then (106, 8) else bif Nat.beq k 12300 then (108, 8) else (0, 0)
def isLs (k : Nat) : Bool := m_has [10109, 10111, 10112, 10120, 10300, 11201, 11403, 11404, 11500, 11604, 11904, 11905] k
/-- the region of a field -/
def rgn (k j : Nat) : Nat := bif (Nat.ble 19 k && (Nat.ble k 22 && Nat.ble j 9)) then 1900 + j else 100 * k + j
def trk (k j : Nat) : Bool := Nat.ble j 99 && (Nat.ble k 4 || (Nat.ble 7 k || Nat.ble 6 j))
/-- names that stand: 1000, its arrays -/
def nkD (z : Nat) : Nat := bif Nat.beq z 1000 then 1 else bif (Nat.ble 1001 z && Nat.ble z 1004) then 9099 + z else bif Nat.beq z 1005 then 10106 else bif Nat.beq z 1006 then 10109 else bif Nat.beq z 1008 then 3 else bif Nat.beq z 1012 then 10111 else bif Nat.beq z 1014 then 10112 else bif Nat.beq z 1016 then 10113 else bif (Nat.ble 1017 z && Nat.ble z 1020) then 9097 + z else bif Nat.beq z 1021 then 10119 else bif Nat.beq z 1022 then 10120 else bif Nat.beq z 1024 then 10121 else bif Nat.beq z 1025 then 10122 else 0
def fxN (z : Nat) : Bool := m_has [1000, 1001, 1002, 1003, 1004, 1005, 1006, 1008, 1012, 1014, 1016, 1017, 1018, 1019, 1020, 1021, 1022, 1024, 1025] z
/-- constants of the TrustDesk: a region, a name -/
def czD (g : Nat) : Nat := bif Nat.ble g 103 then 901 + g else bif Nat.beq g 106 then 1005 else bif Nat.beq g 109 then 1006 else bif Nat.beq g 110 then 1008 else bif Nat.beq g 111 then 1012 else bif Nat.beq g 112 then 1014 else bif Nat.ble g 112 then 0 else bif Nat.ble g 117 then 903 + g else bif Nat.beq g 119 then 1021 else bif Nat.beq g 120 then 1022 else bif Nat.beq g 121 then 1024 else bif Nat.beq g 122 then 1025 else 0
theorem ar_lo {k : Nat} (h : k < 10000) : arD k = (0, 0) := by
  unfold arD
  have hb : ∀ c, 10000 ≤ c → Nat.beq k c = false := fun c hc => by
    cases e : Nat.beq k c with
    | false => rfl
    | true => exact absurd (Nat.eq_of_beq_eq_true e) (by omega)
  have hb2 : ∀ c, 10000 ≤ c → Nat.beq c k = false := fun c hc => by
    cases e : Nat.beq c k with
    | false => rfl
    | true => exact absurd (Nat.eq_of_beq_eq_true e) (by omega)
  simp only [m_has, hb 10301 (by omega), hb 11405 (by omega), hb 10106 (by omega), hb 10113 (by omega), hb 10119 (by omega), hb 12300 (by omega), hb2 10100 (by omega), hb2 10101 (by omega), hb2 10102 (by omega), hb2 10103 (by omega), hb2 10114 (by omega), hb2 10115 (by omega), hb2 10116 (by omega), hb2 10117 (by omega), hb2 10121 (by omega), hb2 10122 (by omega), hb2 12303 (by omega), hb2 12304 (by omega), hb2 12305 (by omega), hb2 12306 (by omega), hb2 12301 (by omega), hb2 12302 (by omega), cond_false]
theorem ls_in {k : Nat} (h : isLs k = true) : k ∈ [10109, 10111, 10112, 10120, 10300, 11201, 11403, 11404, 11500, 11604, 11904, 11905] := m_has_mem h
theorem ls_lo {k : Nat} (h : isLs k = true) : 10000 ≤ k ∧ k < 12000 ∧ arD k = (0, 0) := by
  have hm := ls_in h
  have : ∀ k ∈ [10109, 10111, 10112, 10120, 10300, 11201, 11403, 11404, 11500, 11604, 11904, 11905], 10000 ≤ k ∧ k < 12000 ∧ arD k = (0, 0) := by decide
  exact this k hm
/-- one cell of the Desk's memory in the raw one -/
def CRd (md : mD) (m : mM) (z : Int) (k : Nat) : Prop :=
  (1 ≤ k ∧ k ≤ 23 ∧ m.2.1 z = k ∧ ∀ j : Nat, trk k j = true → m.1 z j = md.1 (rgn k j) z 0) ∨
  ((arD k).1 ≠ 0 ∧ m.2.1 z = (arD k).1 ∧ m.2.2.1 z = (arD k).2 ∧ ∀ i, m.1 z i = md.1 k z i) ∨
  (isLs k = true ∧ m.2.1 z = 24 ∧ m.1 z 2 = md.1 (k + 10000) z 0 ∧ m.2.1 (m.1 z 1) = 107 ∧ (0 ≤ m.1 z 2 ∧ m.1 z 2 ≤ m.2.2.1 (m.1 z 1) ∧ 1 ≤ m.2.2.1 (m.1 z 1) ∧ m.2.2.1 (m.1 z 1) ≤ 20000) ∧ (0 ≤ m.1 z 0 ∧ m.1 z 0 + md.2.2.2 ≤ 5000000) ∧ ∀ i, 0 ≤ i → i < m.1 z 2 → m.1 (m.1 z 1) i = md.1 k z i) ∨
  (k = 27 ∧ m.2.1 z = 27 ∧ m.1 z 1 = 0 ∧ m.2.1 (m.1 z 0) = 103 ∧ m.2.2.1 (m.1 z 0) = md.1 22700 z 0 ∧ (0 ≤ md.1 22700 z 0 ∧ md.1 22700 z 0 ≤ 65536) ∧ ∀ i, 0 ≤ i → i < md.1 22700 z 0 → (0 ≤ md.1 12700 z i ∧ md.1 12700 z i ≤ 255) ∧ m.1 (m.1 z 0) i = zi2b (md.1 12700 z i)) ∨
  (k = 12500 ∧ m.2.1 z = 25 ∧ m.1 z 1 = 0 ∧ m.2.1 (m.1 z 0) = 103 ∧ m.2.2.1 (m.1 z 0) = 8 ∧ m.1 z 3 = md.1 22500 z 0 ∧ (0 ≤ m.1 z 3 ∧ m.1 z 3 ≤ 8) ∧ ∀ i, 0 ≤ i → i < m.1 z 3 → (0 ≤ md.1 12500 z i ∧ md.1 12500 z i ≤ 255) ∧ m.1 (m.1 z 0) i = zi2b (md.1 12500 z i)) ∨
  (k = 26 ∧ (m.2.1 z = 26 ∨ m.2.1 z = 30) ∧ m.1 z 0 = md.1 2600 z 0) ∨
  (k = 99 ∧ m.2.1 z = 24 ∧ ∀ j, m.1 z j = 0) ∨
  (k = 98 ∧ m.2.1 z = 25 ∧ ∀ j, m.1 z j = 0)
/-- the hidden array of a cell; 0 -/
def hdn (m : mM) (z : Int) (k : Nat) : Int := bif isLs k then m.1 z 1 else bif (Nat.beq k 27 || Nat.beq k 12500) then m.1 z 0 else 0
/-- names that aren't the Desk's -/
abbrev notD (z : Int) : Prop := z < 1000 ∨ (1026 ≤ z ∧ z ≤ 1075)
/-- what is leant on of old cells -/
def okO (mb : mM) : Prop := okB mb ∧ (mb.2.1 59 = 109 ∧ mb.2.2.1 59 = 256 ∧ mb.1 (-1) 2 = 59) ∧ (∀ i : Int, 0 ≤ i → i < 256 → mb.1 59 i = 500 + i) ∧ (∀ z : Int, 500 ≤ z → z ≤ 755 → mb.2.1 z = 30 ∧ mb.1 z 0 = z - 628)
def ED (mb : mM) (md : mD) (m : mM) : Prop :=
  (1076 ≤ md.2.2.1 ∧ md.2.2.1 ≤ m.2.2.2.1 ∧ 4 * m.2.2.2.1 + md.2.2.2 ≤ 4 * CXm ∧ m.2.2.2.2 + md.2.2.2 ≤ SXm ∧ md.2.2.2 ≤ 5000000) ∧
  (∀ z, notD z → m.1 z = mb.1 z ∧ m.2.1 z = mb.2.1 z ∧ m.2.2.1 z = mb.2.2.1 z) ∧
  (∀ z, md.2.1 z ≠ 0 → z < m.2.2.2.1 ∧ ((500 ≤ z ∧ z ≤ 755) ∨ ¬ notD z) ∧ CRd md m z (md.2.1 z)) ∧
  (∀ z, md.2.1 z ≠ 0 → hdn m z (md.2.1 z) ≠ 0 → (hdn m z (md.2.1 z) < m.2.2.2.1 ∧ ¬ notD (hdn m z (md.2.1 z)) ∧ md.2.1 (hdn m z (md.2.1 z)) = 0) ∧ ∀ w, w ≠ z → md.2.1 w ≠ 0 → hdn m w (md.2.1 w) ≠ hdn m z (md.2.1 z)) ∧
  (∀ z : Nat, fxN z = true → md.2.1 z = nkD z) ∧
  (∀ z : Int, 500 ≤ z → z ≤ 755 → md.2.1 z = 26 ∧ md.1 2600 z 0 = z - 628) ∧
  (∀ g : Nat, 100 ≤ g → g ≤ 122 → czD g ≠ 0 → md.1 g 1000 0 = czD g)
theorem CRd_cg {md md' : mD} {m m' : mM} {z : Int} {k : Nat} (h : CRd md m z k) (hr : ∀ r, md'.1 r z = md.1 r z) (hb : md'.2.2.2 ≤ md.2.2.2) (h1 : m'.1 z = m.1 z) (h2 : m'.2.1 z = m.2.1 z) (h3 : m'.2.2.1 z = m.2.2.1 z)
    (hh : hdn m z k ≠ 0 → m'.1 (hdn m z k) = m.1 (hdn m z k) ∧ m'.2.1 (hdn m z k) = m.2.1 (hdn m z k) ∧ m'.2.2.1 (hdn m z k) = m.2.2.1 (hdn m z k)) (hk0 : m.2.1 0 = 0) : CRd md' m' z k := by
  rcases h with ⟨a1, a2, a3, a4⟩ | ⟨a1, a2, a3, a4⟩ | ⟨a1, a2, a3, a4, a5, a6, a7⟩ | ⟨a1, a2, a3, a4, a5, a6, a7⟩ | ⟨a1, a2, a3, a4, a5, a6, a7, a8⟩ | ⟨a1, a2, a3⟩ | ⟨a1, a2, a3⟩ | ⟨a1, a2, a3⟩
  · exact Or.inl ⟨a1, a2, by rw [h2]; exact a3, fun j hj => by rw [h1, hr]; exact a4 j hj⟩
  · exact Or.inr (Or.inl ⟨a1, by rw [h2]; exact a2, by rw [h3]; exact a3, fun i => by rw [h1, hr]; exact a4 i⟩)
  · have e : hdn m z k = m.1 z 1 := by unfold hdn; rw [a1]; rfl
    rw [e] at hh
    have hz : m.1 z 1 ≠ 0 := by
      intro e0
      rw [e0, hk0] at a4
      cases a4
    obtain ⟨q1, q2, q3⟩ := hh hz
    refine Or.inr (Or.inr (Or.inl ⟨a1, by rw [h2]; exact a2, by rw [h1, hr]; exact a3, by rw [h1, q2]; exact a4, by rw [h1, q3]; exact a5, ⟨by rw [h1]; exact a6.1, by rw [h1]; omega⟩, fun i i0 i1 => ?_⟩))
    rw [h1] at i1 ⊢
    rw [q1, hr]
    exact a7 i i0 i1
  · have e : hdn m z k = m.1 z 0 := by subst a1; rfl
    rw [e] at hh
    have hz : m.1 z 0 ≠ 0 := by
      intro e0
      rw [e0, hk0] at a4
      cases a4
    obtain ⟨q1, q2, q3⟩ := hh hz
    refine Or.inr (Or.inr (Or.inr (Or.inl ⟨a1, by rw [h2]; exact a2, by rw [h1]; exact a3, by rw [h1, q2]; exact a4, by rw [h1, q3, hr]; exact a5, by rw [hr]; exact a6, fun i i0 i1 => ?_⟩)))
    rw [hr] at i1
    rw [h1, q1, hr]
    exact a7 i i0 i1
  · have e : hdn m z k = m.1 z 0 := by subst a1; rfl
    rw [e] at hh
    have hz : m.1 z 0 ≠ 0 := by
      intro e0
      rw [e0, hk0] at a4
      cases a4
    obtain ⟨q1, q2, q3⟩ := hh hz
    refine Or.inr (Or.inr (Or.inr (Or.inr (Or.inl ⟨a1, by rw [h2]; exact a2, by rw [h1]; exact a3, by rw [h1, q2]; exact a4, by rw [h1, q3]; exact a5, by rw [h1, hr]; exact a6, by rw [h1]; exact a7, fun i i0 i1 => ?_⟩))))
    rw [h1] at i1 ⊢
    rw [q1, hr]
    exact a8 i i0 i1
  · exact Or.inr (Or.inr (Or.inr (Or.inr (Or.inr (Or.inl ⟨a1, by rw [h2]; exact a2, by rw [h1, hr]; exact a3⟩)))))
  · exact Or.inr (Or.inr (Or.inr (Or.inr (Or.inr (Or.inr (Or.inl ⟨a1, by rw [h2]; exact a2, fun j => by rw [h1]; exact a3 j⟩))))))
  · exact Or.inr (Or.inr (Or.inr (Or.inr (Or.inr (Or.inr (Or.inr ⟨a1, by rw [h2]; exact a2, fun j => by rw [h1]; exact a3 j⟩))))))
/-- one cell changes (a), and its hidden array (h; 0: none) -/
theorem E_upd {mb : mM} {md md' : mD} {m m' : mM} (hE : ED mb md m) (hk0 : mb.2.1 0 = 0) (a h : Int) (ha : (md.2.1 a ≠ 0 ∨ m.2.2.2.1 ≤ a) ∧ ¬ notD a ∧ a < m'.2.2.2.1)
    (hh : h = 0 ∨ (md.2.1 a ≠ 0 ∧ hdn m a (md.2.1 a) = h) ∨ (m.2.2.2.1 ≤ h ∧ h < m'.2.2.2.1 ∧ h ≠ a))
    (h1 : ∀ z, z ≠ a → md'.2.1 z = md.2.1 z ∧ ∀ r, md'.1 r z = md.1 r z)
    (h2 : ∀ w, w ≠ a → (h = 0 ∨ w ≠ h) → w < m.2.2.2.1 → m'.1 w = m.1 w ∧ m'.2.1 w = m.2.1 w ∧ m'.2.2.1 w = m.2.2.1 w)
    (h3 : md'.2.1 a ≠ 0 ∧ CRd md' m' a (md'.2.1 a) ∧ (hdn m' a (md'.2.1 a) = 0 ∨ hdn m' a (md'.2.1 a) = h))
    (h4 : md.2.2.1 ≤ md'.2.2.1 ∧ md'.2.2.1 ≤ m'.2.2.2.1 ∧ m.2.2.2.1 ≤ m'.2.2.2.1 ∧ 4 * m'.2.2.2.1 + md'.2.2.2 ≤ 4 * m.2.2.2.1 + md.2.2.2 ∧ m'.2.2.2.2 + md'.2.2.2 ≤ m.2.2.2.2 + md.2.2.2 ∧ md'.2.2.2 ≤ md.2.2.2)
    (h5 : ∀ z : Nat, fxN z = true → (z : Int) = a → md'.2.1 a = md.2.1 a) (h6 : a = 1000 → ∀ g : Nat, 100 ≤ g → g ≤ 122 → czD g ≠ 0 → md'.1 g 1000 0 = md.1 g 1000 0) : ED mb md' m' := by
  obtain ⟨⟨b1, b2, b3, b4, b5⟩, hf, hc, hs, hn, hi, hz⟩ := hE
  have hk0' : m.2.1 0 = 0 := by rw [(hf 0 (Or.inl (by omega))).2.1]; exact hk0
  have hnk : ∀ z, m.2.2.2.1 ≤ z → md.2.1 z = 0 := by
    intro z hz
    by_cases h0 : md.2.1 z = 0
    · exact h0
    · have := (hc z h0).1
      omega
  -- the hidden name
  have hh' : h ≠ 0 → ¬ notD h ∧ md.2.1 h = 0 ∧ h ≠ a ∧ h < m'.2.2.2.1 ∧ ∀ w, w ≠ a → md.2.1 w ≠ 0 → hdn m w (md.2.1 w) ≠ h := by
    intro h0
    rcases hh with q | ⟨q1, q2⟩ | ⟨q1, q2, q3⟩
    · exact absurd q h0
    · obtain ⟨⟨s1, s2, s3⟩, s4⟩ := hs a q1 (by rw [q2]; exact h0)
      rw [q2] at s1 s2 s3 s4
      refine ⟨s2, s3, fun e => ?_, by omega, s4⟩
      rw [e] at s3
      exact q1 s3
    · refine ⟨by unfold notD; omega, hnk h q1, q3, q2, fun w _ hw e => ?_⟩
      have := (hs w hw (by rw [e]; exact h0)).1.1
      omega
  have hsame : ∀ w, w ≠ a → (h = 0 ∨ w ≠ h) → w < m.2.2.2.1 → m'.1 w = m.1 w ∧ m'.2.1 w = m.2.1 w ∧ m'.2.2.1 w = m.2.2.1 w := h2
  have hne : ∀ w, (md.2.1 w ≠ 0 ∨ notD w) → (h = 0 ∨ w ≠ h) := by
    intro w hw
    by_cases h0 : h = 0
    · exact Or.inl h0
    · refine Or.inr (fun e => ?_)
      obtain ⟨s1, s2, -⟩ := hh' h0
      rcases hw with q | q
      · rw [e] at q; exact q s2
      · rw [e] at q; exact s1 q
  -- cells but a
  have hcell : ∀ z, z ≠ a → md.2.1 z ≠ 0 → (m'.1 z = m.1 z ∧ m'.2.1 z = m.2.1 z ∧ m'.2.2.1 z = m.2.2.1 z) ∧ (hdn m z (md.2.1 z) ≠ 0 → hdn m z (md.2.1 z) ≠ a ∧ hdn m z (md.2.1 z) ≠ h ∧ m'.1 (hdn m z (md.2.1 z)) = m.1 (hdn m z (md.2.1 z)) ∧ m'.2.1 (hdn m z (md.2.1 z)) = m.2.1 (hdn m z (md.2.1 z)) ∧ m'.2.2.1 (hdn m z (md.2.1 z)) = m.2.2.1 (hdn m z (md.2.1 z))) := by
    intro z hza hz
    refine ⟨hsame z hza (hne z (Or.inl hz)) (hc z hz).1, fun h0 => ?_⟩
    obtain ⟨⟨s1, s2, s3⟩, s4⟩ := hs z hz h0
    have e1 : hdn m z (md.2.1 z) ≠ a := by
      intro e
      rcases ha.1 with q | q
      · rw [← e] at q; exact q s3
      · omega
    have e2 : hdn m z (md.2.1 z) ≠ h := by
      by_cases h00 : h = 0
      · rw [h00]; exact h0
      · exact (hh' h00).2.2.2.2 z hza hz
    exact ⟨e1, e2, hsame _ e1 (Or.inr e2) s1⟩
  have hhd : ∀ z, z ≠ a → md.2.1 z ≠ 0 → hdn m' z (md.2.1 z) = hdn m z (md.2.1 z) := by
    intro z hza hz
    unfold hdn
    rw [(hcell z hza hz).1.1]
  refine ⟨⟨by omega, by omega, by omega, by omega, by omega⟩, fun z hz => ?_, fun z hz => ?_, fun z hz h0 => ?_, fun z hz' => ?_, fun z z0 z1 => ?_, fun g g0 g1 g2 => ?_⟩
  · have hza : z ≠ a := fun e => ha.2.1 (by rw [← e]; exact hz)
    have hzn : z < m.2.2.2.1 := by unfold notD at hz; omega
    obtain ⟨e1, e2, e3⟩ := hsame z hza (hne z (Or.inr hz)) hzn
    rw [e1, e2, e3]
    exact hf z hz
  · by_cases hza : z = a
    · subst hza
      exact ⟨ha.2.2, Or.inr ha.2.1, h3.2.1⟩
    · have e := (h1 z hza)
      rw [e.1] at hz ⊢
      obtain ⟨c1, c2, c3⟩ := hc z hz
      obtain ⟨⟨e1, e2, e3⟩, e4⟩ := hcell z hza hz
      exact ⟨by omega, c2, CRd_cg c3 e.2 h4.2.2.2.2.2 e1 e2 e3 (fun h0 => (e4 h0).2.2) hk0'⟩
  · by_cases hza : z = a
    · subst hza
      have eh : hdn m' z (md'.2.1 z) = h := h3.2.2.resolve_left h0
      rw [eh] at h0 ⊢
      obtain ⟨s1, s2, s3, s4, s5⟩ := hh' h0
      refine ⟨⟨s4, s1, by rw [(h1 h s3).1]; exact s2⟩, fun w hw hw0 => ?_⟩
      have e := (h1 w hw).1
      rw [e] at hw0 ⊢
      rw [hhd w hw hw0]
      exact s5 w hw hw0
    · have e := (h1 z hza).1
      rw [e] at hz h0 ⊢
      rw [hhd z hza hz] at h0 ⊢
      obtain ⟨⟨s1, s2, s3⟩, s4⟩ := hs z hz h0
      obtain ⟨e1, e2, -⟩ := (hcell z hza hz).2 h0
      refine ⟨⟨by omega, s2, by rw [(h1 _ e1).1]; exact s3⟩, fun w hw hw0 => ?_⟩
      by_cases hwa : w = a
      · subst hwa
        rcases h3.2.2 with q | q
        · rw [q]; exact fun e => h0 e.symm
        · rw [q]; exact fun e => e2 e.symm
      · have ew := (h1 w hwa).1
        rw [ew] at hw0 ⊢
        rw [hhd w hwa hw0]
        exact s4 w hw hw0
  · by_cases hza : (z : Int) = a
    · have := h5 z hz' hza
      rw [hza, this, ← hza]
      exact hn z hz'
    · rw [(h1 z hza).1]
      exact hn z hz'
  · have hza : z ≠ a := fun e => ha.2.1 (by rw [← e]; exact Or.inl (by omega))
    rw [(h1 z hza).1, (h1 z hza).2]
    exact hi z z0 z1
  · by_cases hza : a = 1000
    · rw [h6 hza g g0 g1 g2]
      exact hz g g0 g1 g2
    · rw [(h1 1000 (fun e => hza e.symm)).2]
      exact hz g g0 g1 g2
