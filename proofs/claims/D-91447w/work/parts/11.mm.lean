/-! THE MODEL MACHINE (printed by tools/modelmach.py): the memory is m j i: the place i of the field j of the one TrustDeskModel (1026), a number field at place 0 -/
abbrev sg : Type := Nat → Int → Int
def upd1 (f : Int → Int) (i v : Int) : Int → Int := fun b => if b = i then v else f b
def upm (m : sg) (j : Nat) (i v : Int) : sg := fun a => if a = j then upd1 (m j) i v else m a
theorem upm_ap (m : sg) (j : Nat) (i v : Int) (a : Nat) : upm m j i v a = if a = j then upd1 (m j) i v else m a := rfl
theorem upd1_ap (f : Int → Int) (i v b : Int) : upd1 f i v b = if b = i then v else f b := rfl
def nmM (j : Nat) : Int := bif Nat.ble j 40 then (bif Nat.ble j 25 then (bif Nat.ble j 8 then (bif Nat.ble j 5 then (bif Nat.ble j 3 then (1027) else (bif Nat.ble j 4 then (1028) else (1029))) else (bif Nat.ble j 6 then (1030) else (bif Nat.ble j 7 then (1031) else (1032)))) else (bif Nat.ble j 11 then (bif Nat.ble j 9 then (1033) else (bif Nat.ble j 10 then (1034) else (1035))) else (bif Nat.ble j 12 then (1036) else (bif Nat.ble j 13 then (1037) else (1038))))) else (bif Nat.ble j 34 then (bif Nat.ble j 29 then (bif Nat.ble j 26 then (1039) else (bif Nat.ble j 28 then (1040) else (1041))) else (bif Nat.ble j 30 then (1042) else (bif Nat.ble j 33 then (1043) else (1044)))) else (bif Nat.ble j 37 then (bif Nat.ble j 35 then (1045) else (bif Nat.ble j 36 then (1046) else (1047))) else (bif Nat.ble j 38 then (1048) else (bif Nat.ble j 39 then (1049) else (1050)))))) else (bif Nat.ble j 55 then (bif Nat.ble j 46 then (bif Nat.ble j 43 then (bif Nat.ble j 41 then (1051) else (bif Nat.ble j 42 then (1052) else (1053))) else (bif Nat.ble j 44 then (1054) else (bif Nat.ble j 45 then (1055) else (1056)))) else (bif Nat.ble j 50 then (bif Nat.ble j 47 then (1057) else (bif Nat.ble j 48 then (1058) else (1059))) else (bif Nat.ble j 52 then (1060) else (bif Nat.ble j 54 then (1061) else (1062))))) else (bif Nat.ble j 61 then (bif Nat.ble j 58 then (bif Nat.ble j 56 then (1063) else (bif Nat.ble j 57 then (1064) else (1065))) else (bif Nat.ble j 59 then (1066) else (bif Nat.ble j 60 then (1067) else (1068)))) else (bif Nat.ble j 64 then (bif Nat.ble j 62 then (1069) else (bif Nat.ble j 63 then (1070) else (1071))) else (bif Nat.ble j 65 then (1072) else (bif Nat.ble j 66 then (1073) else (1074))))))
def rgN (n : Nat) : Nat × Int × Nat := bif Nat.ble n 1050 then (bif Nat.ble n 1037 then (bif Nat.ble n 1031 then (bif Nat.ble n 1028 then (bif Nat.ble n 1026 then ((999, 0, 0)) else (bif Nat.ble n 1027 then ((3, 1200, 105)) else ((4, 18900, 105)))) else (bif Nat.ble n 1029 then ((5, 45, 105)) else (bif Nat.ble n 1030 then ((6, 45, 105)) else ((7, 900, 105))))) else (bif Nat.ble n 1034 then (bif Nat.ble n 1032 then ((8, 900, 105)) else (bif Nat.ble n 1033 then ((9, 900, 105)) else ((10, 900, 105)))) else (bif Nat.ble n 1035 then ((11, 900, 105)) else (bif Nat.ble n 1036 then ((12, 900, 105)) else ((13, 400, 103)))))) else (bif Nat.ble n 1043 then (bif Nat.ble n 1040 then (bif Nat.ble n 1038 then ((25, 6, 105)) else (bif Nat.ble n 1039 then ((26, 6, 105)) else ((28, 20, 105)))) else (bif Nat.ble n 1041 then ((29, 13, 105)) else (bif Nat.ble n 1042 then ((30, 420, 105)) else ((33, 12, 105))))) else (bif Nat.ble n 1046 then (bif Nat.ble n 1044 then ((34, 12, 105)) else (bif Nat.ble n 1045 then ((35, 12, 106)) else ((36, 12, 105)))) else (bif Nat.ble n 1048 then (bif Nat.ble n 1047 then ((37, 12, 105)) else ((38, 12, 105))) else (bif Nat.ble n 1049 then ((39, 12, 105)) else ((40, 1200, 104))))))) else (bif Nat.ble n 1062 then (bif Nat.ble n 1056 then (bif Nat.ble n 1053 then (bif Nat.ble n 1051 then ((41, 144, 105)) else (bif Nat.ble n 1052 then ((42, 12, 106)) else ((43, 12, 105)))) else (bif Nat.ble n 1054 then ((44, 960, 105)) else (bif Nat.ble n 1055 then ((45, 960, 105)) else ((46, 960, 105))))) else (bif Nat.ble n 1059 then (bif Nat.ble n 1057 then ((47, 960, 105)) else (bif Nat.ble n 1058 then ((48, 960, 105)) else ((50, 12, 105)))) else (bif Nat.ble n 1060 then ((52, 2400, 105)) else (bif Nat.ble n 1061 then ((54, 40, 105)) else ((55, 40, 105)))))) else (bif Nat.ble n 1068 then (bif Nat.ble n 1065 then (bif Nat.ble n 1063 then ((56, 40, 105)) else (bif Nat.ble n 1064 then ((57, 40, 105)) else ((58, 40, 105)))) else (bif Nat.ble n 1066 then ((59, 40, 105)) else (bif Nat.ble n 1067 then ((60, 40, 105)) else ((61, 4000, 104))))) else (bif Nat.ble n 1071 then (bif Nat.ble n 1069 then ((62, 4000, 105)) else (bif Nat.ble n 1070 then ((63, 12, 106)) else ((64, 12, 105)))) else (bif Nat.ble n 1073 then (bif Nat.ble n 1072 then ((65, 12, 105)) else ((66, 12, 105))) else (bif Nat.ble n 1074 then ((71, 1212, 104)) else ((999, 0, 0)))))))
def litN (n : Nat) : List Int := bif Nat.ble n 128 then (bif Nat.ble n 113 then (bif Nat.ble n 106 then (bif Nat.ble n 102 then (bif Nat.ble n 100 then ([109, 97, 114, 107]) else (bif Nat.ble n 101 then ([101, 110, 100]) else ([116, 114, 117, 115, 116]))) else (bif Nat.ble n 104 then (bif Nat.ble n 103 then ([59]) else ([112, 97, 121, 115])) else (bif Nat.ble n 105 then ([105, 102]) else ([112, 97, 114, 116])))) else (bif Nat.ble n 109 then (bif Nat.ble n 107 then ([32, 102, 97, 105, 108, 32, 107, 101, 101, 112, 32, 100, 97, 121, 115, 32, 108, 97, 116, 101, 32, 103, 97, 105, 110, 32, 115, 101, 108, 108, 32]) else (bif Nat.ble n 108 then ([98, 97, 114]) else ([32, 110, 101, 97, 114, 32, 106, 111, 105, 110, 32, 115, 97, 108, 101, 32, 115, 116, 114, 105, 107, 101, 32]))) else (bif Nat.ble n 111 then (bif Nat.ble n 110 then ([111, 114]) else ([97, 110, 100])) else (bif Nat.ble n 112 then ([110, 111, 116]) else ([91]))))) else (bif Nat.ble n 120 then (bif Nat.ble n 116 then (bif Nat.ble n 114 then ([93]) else (bif Nat.ble n 115 then ([60]) else ([62]))) else (bif Nat.ble n 118 then (bif Nat.ble n 117 then ([61]) else ([43])) else (bif Nat.ble n 119 then ([45]) else ([42])))) else (bif Nat.ble n 124 then (bif Nat.ble n 122 then (bif Nat.ble n 121 then ([40]) else ([41])) else (bif Nat.ble n 123 then ([32, 112, 111, 111, 114, 32, 109, 97, 105, 100, 115, 32, 98, 111, 121, 115, 32, 115, 105, 99, 107, 32, 98, 114, 101, 97, 100, 32, 99, 111, 97, 108, 32, 114, 101, 110, 116, 32, 108, 97, 107, 101, 32, 105, 110, 99, 111, 109, 101, 32, 99, 111, 105, 110, 32, 108, 105, 118, 105, 110, 103, 32, 100, 101, 97, 100, 32, 109, 97, 114, 107, 115, 32]) else ([112, 111, 111, 114]))) else (bif Nat.ble n 126 then (bif Nat.ble n 125 then ([109, 97, 105, 100, 115]) else ([98, 111, 121, 115])) else (bif Nat.ble n 127 then ([115, 105, 99, 107]) else ([98, 114, 101, 97, 100])))))) else (bif Nat.ble n 143 then (bif Nat.ble n 135 then (bif Nat.ble n 131 then (bif Nat.ble n 129 then ([99, 111, 97, 108]) else (bif Nat.ble n 130 then ([114, 101, 110, 116]) else ([108, 97, 107, 101]))) else (bif Nat.ble n 133 then (bif Nat.ble n 132 then ([105, 110, 99, 111, 109, 101]) else ([99, 111, 105, 110])) else (bif Nat.ble n 134 then ([108, 105, 118, 105, 110, 103]) else ([100, 101, 97, 100])))) else (bif Nat.ble n 139 then (bif Nat.ble n 137 then (bif Nat.ble n 136 then ([109, 97, 114, 107, 115]) else ([110, 111, 116])) else (bif Nat.ble n 138 then ([97, 110, 100]) else ([111, 114]))) else (bif Nat.ble n 141 then (bif Nat.ble n 140 then ([112, 97, 121, 115]) else ([105, 102])) else (bif Nat.ble n 142 then ([112, 97, 114, 116]) else ([101, 110, 100]))))) else (bif Nat.ble n 150 then (bif Nat.ble n 146 then (bif Nat.ble n 144 then ([109, 97, 114, 107]) else (bif Nat.ble n 145 then ([116, 114, 117, 115, 116]) else ([102, 97, 105, 108]))) else (bif Nat.ble n 148 then (bif Nat.ble n 147 then ([107, 101, 101, 112]) else ([100, 97, 121, 115])) else (bif Nat.ble n 149 then ([108, 97, 116, 101]) else ([103, 97, 105, 110])))) else (bif Nat.ble n 154 then (bif Nat.ble n 152 then (bif Nat.ble n 151 then ([115, 101, 108, 108]) else ([98, 97, 114])) else (bif Nat.ble n 153 then ([110, 101, 97, 114]) else ([106, 111, 105, 110]))) else (bif Nat.ble n 156 then (bif Nat.ble n 155 then ([115, 97, 108, 101]) else ([115, 116, 114, 105, 107, 101])) else (bif Nat.ble n 157 then ([]) else ([]))))))
/-- the signs of a String constant -/
def lit (a : Int) : List Int := litN a.toNat
def isPM (c : Nat) : Bool := m_has [211, 219, 232, 233, 235, 234] c
abbrev rI (z : Int) : mO := Sum.inl (some (mI z))
abbrev rJ (z : Int) : mO := Sum.inl (some (mJ z))
abbrev rR (z : Int) : mO := Sum.inl (some (mR z))
abbrev rV : mO := Sum.inl none
def PM : mP2 sg := fun c _ as m Q => match as with
  | [.inr (.inr a)] => bif Nat.beq c 211 then (100 ≤ a ∧ a < 159) ∧ Q (rI (lit a).length) m else False
  | [.inr (.inr a), .inl i] => bif Nat.beq c 219 then ((100 ≤ a ∧ a < 159) ∧ 0 ≤ i ∧ i < (lit a).length) ∧ Q (rI ((lit a).getD i.toNat 0)) m else False
  | [.inl x, .inl y] => bif Nat.beq c 232 then Q (rI (max x y)) m else bif Nat.beq c 233 then Q (rI (min x y)) m else False
  | [.inr (.inl x), .inr (.inl y)] => bif Nat.beq c 235 then Q (rJ (max x y)) m else bif Nat.beq c 234 then Q (rJ (min x y)) m else False
  | _ => False
def oM : mH2 sg := fun it S m K => match it with
  | (ins, _, _, au, _) => match ins with
  | .getfield _ => match S, au with
    | .inr (.inr a) :: r, j :: t :: _ => bif Nat.beq a.toNat 1026 then (match t with | 0 => K (mI (m j 0) :: r) m | 1 => K (mJ (m j 0) :: r) m | _ => K (mR (nmM j) :: r) m) else False
    | _, _ => False
  | .putfield _ => match S, au with
    | .inl v :: .inr (.inr a) :: r, j :: 0 :: _ => bif Nat.beq a.toNat 1026 then K r (upm m j 0 v) else False
    | .inl v :: .inr (.inr a) :: r, j :: 3 :: _ => bif Nat.beq a.toNat 1026 then (0 ≤ v ∧ v ≤ 1) ∧ K r (upm m j 0 v) else False
    | .inr (.inl v) :: .inr (.inr a) :: r, j :: 1 :: _ => bif Nat.beq a.toNat 1026 then K r (upm m j 0 v) else False
    | _, _ => False
  | .iaload => match S with
    | .inl i :: .inr (.inr a) :: r => match rgN a.toNat with | (j, n, k) => bif Nat.beq k 105 then (0 ≤ i ∧ i < n) ∧ K (mI (m j i) :: r) m else False
    | _ => False
  | .laload => match S with
    | .inl i :: .inr (.inr a) :: r => match rgN a.toNat with | (j, n, k) => bif Nat.beq k 106 then (0 ≤ i ∧ i < n) ∧ K (mJ (m j i) :: r) m else False
    | _ => False
  | .baload => match S, au with
    | .inl i :: .inr (.inr a) :: r, lo :: hi :: _ => match rgN a.toNat with | (j, n, k) => bif (Nat.ble lo k && Nat.ble k hi) then (0 ≤ i ∧ i < n) ∧ K (mI (m j i) :: r) m else False
    | _, _ => False
  | .iastore => match S with
    | .inl v :: .inl i :: .inr (.inr a) :: r => match rgN a.toNat with | (j, n, k) => bif Nat.beq k 105 then (0 ≤ i ∧ i < n) ∧ K r (upm m j i v) else False
    | _ => False
  | .lastore => match S with
    | .inr (.inl v) :: .inl i :: .inr (.inr a) :: r => match rgN a.toNat with | (j, n, k) => bif Nat.beq k 106 then (0 ≤ i ∧ i < n) ∧ K r (upm m j i v) else False
    | _ => False
  | .bastore => match S, au with
    | .inl v :: .inl i :: .inr (.inr a) :: r, 103 :: _ => match rgN a.toNat with | (j, n, k) => bif Nat.beq k 103 then (0 ≤ i ∧ i < n) ∧ K r (upm m j i (zi2b v)) else False
    | .inl v :: .inl i :: .inr (.inr a) :: r, 104 :: _ => match rgN a.toNat with | (j, n, k) => bif Nat.beq k 104 then (0 ≤ i ∧ i < n) ∧ (0 ≤ v ∧ v ≤ 1) ∧ K r (upm m j i v) else False
    | _, _ => False
  | _ => False
theorem bif_mono {b : Bool} {A A' B B' : Prop} (h1 : A → A') (h2 : B → B') (h : bif b then A else B) : bif b then A' else B' := by
  cases b
  · exact h2 h
  · exact h1 h
theorem oM_mono : mOk oM := by
  intro it S m K K' hK h
  obtain ⟨ins, np, tg, au, cz⟩ := it
  unfold oM at h ⊢
  dsimp only at h ⊢
  split at h
  · split at h
    · refine bif_mono (fun h => ?_) (fun h => h) h
      split at h
      · exact hK _ _ h
      · exact hK _ _ h
      · exact hK _ _ h
    · exact h
  · split at h
    · exact bif_mono (hK _ _) (fun h => h) h
    · exact bif_mono (fun h => ⟨h.1, hK _ _ h.2⟩) (fun h => h) h
    · exact bif_mono (hK _ _) (fun h => h) h
    · exact h
  all_goals first
    | (split at h
       · exact bif_mono (fun h => ⟨h.1, hK _ _ h.2⟩) (fun h => h) h
       · exact h)
    | (split at h
       · exact bif_mono (fun h => ⟨h.1, hK _ _ h.2⟩) (fun h => h) h
       · exact bif_mono (fun h => ⟨h.1, h.2.1, hK _ _ h.2.2⟩) (fun h => h) h
       · exact h)
    | exact h
theorem PM_mono : mPk PM := by
  intro c ex as m Q Q' hQ h
  unfold PM at h ⊢
  split at h
  · exact bif_mono (fun h => ⟨h.1, hQ _ _ h.2⟩) (fun h => h) h
  · exact bif_mono (fun h => ⟨h.1, hQ _ _ h.2⟩) (fun h => h) h
  · exact bif_mono (hQ _ _) (bif_mono (hQ _ _) (fun h => h)) h
  · exact bif_mono (hQ _ _) (bif_mono (hQ _ _) (fun h => h)) h
  · exact h
abbrev RM (d y : Nat) (g : mG sg) (Q : mQ sg) : Prop := Rn2 oM isPM PM (fun _ _ => 0) tP tU d y g Q
theorem RMr (inl stops : List Nat) (n : Nat) {d y : Nat} {g : mG sg} {Q : mQ sg} (h : wp2 oM isPM PM (fun _ _ => 0) tP tU (Rn2 oM isPM PM (fun _ _ => 0) tP tU) inl stops n d y g Q) : RM d y g Q := Rn2.run oM_mono PM_mono inl stops n h
theorem RM.mono {d y : Nat} {g : mG sg} {Q Q' : mQ sg} (h : RM d y g Q) (hQ : ∀ o m, Q o m → Q' o m) : RM d y g Q' := Rn2.mono oM_mono PM_mono h hQ
/-- a loop that counts up to n -/
theorem up_ind {n : Int} {P : Int → Prop} (hl : P n) (hs : ∀ k, 0 ≤ k → k < n → P (k + 1) → P k) : ∀ k, 0 ≤ k → k ≤ n → P k := by
  have : ∀ (j : Nat) (k : Int), 0 ≤ k → k + j = n → P k := by
    intro j
    induction j with
    | zero => intro k h0 h1; have : k = n := by omega
              rw [this]; exact hl
    | succ j ih => intro k h0 h1; exact hs k h0 (by omega) (ih (k + 1) (by omega) (by omega))
  intro k h0 h1
  exact this (n - k).toNat k h0 (by omega)
theorem dn_ind {P : Int → Prop} (hl : P (-1)) (hs : ∀ k, 0 ≤ k → P (k - 1) → P k) : ∀ k, -1 ≤ k → P k := by
  have : ∀ (j : Nat) (k : Int), -1 ≤ k → k + 1 = j → P k := by
    intro j
    induction j with
    | zero => intro k h0 h1; have : k = -1 := by omega
              rw [this]; exact hl
    | succ j ih => intro k h0 h1; exact hs k (by omega) (ih (k - 1) (by omega) (by omega))
  intro k h0
  exact this (k + 1).toNat k h0 (by omega)
/-- how many of the first n -/
def cntN (p : Int → Bool) : Nat → Int
  | 0 => 0
  | n + 1 => cntN p n + (if p n then 1 else 0)
theorem cnt_ex : ∃ f : (Int → Bool) → Int → Int, f = fun p n => cntN p n.toNat := ⟨_, rfl⟩
noncomputable def cnt : (Int → Bool) → Int → Int := Classical.choose cnt_ex
theorem cnt_eq (p : Int → Bool) (n : Int) : cnt p n = cntN p n.toNat := by
  have h : cnt = _ := Classical.choose_spec cnt_ex
  rw [h]
theorem cnt_0 (p : Int → Bool) : cnt p 0 = 0 := by rw [cnt_eq]; rfl
theorem cnt_s (p : Int → Bool) {k : Int} (h : 0 ≤ k) : cnt p (k + 1) = cnt p k + (if p k then 1 else 0) := by
  rw [cnt_eq, cnt_eq]
  have e : (k + 1).toNat = k.toNat + 1 := by omega
  have e2 : ((k.toNat : Nat) : Int) = k := by omega
  rw [e]
  show cntN p k.toNat + (if p (k.toNat : Nat) then 1 else 0) = _
  rw [e2]
theorem cnt_b (p : Int → Bool) : ∀ n : Int, 0 ≤ n → 0 ≤ cnt p n ∧ cnt p n ≤ n := by
  have : ∀ j : Nat, 0 ≤ cntN p j ∧ cntN p j ≤ j := by
    intro j
    induction j with
    | zero => exact ⟨Int.le_refl 0, Int.le_refl 0⟩
    | succ j ih =>
      show 0 ≤ cntN p j + (if p j then 1 else 0) ∧ cntN p j + (if p j then 1 else 0) ≤ _
      split <;> omega
  intro n h
  have := this n.toNat
  rw [cnt_eq]
  omega
