/-! what is known of old cells; ranges of kinds -/
set_option maxHeartbeats 800000
/-- what the start's old cells give -/
def gO (Γ : gT) : Prop := (isC Γ 28 "java/lang/String") ∧ (isC Γ 30 "java/lang/Integer") ∧ (oF Γ 28 "java/lang/String" "value" "[B" 0 2) ∧ (oF Γ 28 "java/lang/String" "coder" "B" 1 0) ∧ (oF Γ 30 "java/lang/Integer" "value" "I" 0 0) ∧ (∀ q ∈ strL, ∀ s ad, gC Γ s s.heap ad → vk_R q.1 q.2.1 q.2.2.1 (ad (q.2.2.2 : Int)) s) ∧ (∀ s ad, gC Γ s s.heap ad → va_Mi "[Ljava/lang/Object;" (ad ((60 : Nat) : Int)) s) ∧ (∀ s ad, gC Γ s s.heap ad → va_Z "java/util/ArrayList" "EMPTY_ELEMENTDATA" "[Ljava/lang/Object;" (va_rf (gr ad ((gM Γ).1 (-1) ((0 : Nat) : Int)))) (gA Γ) s s.heap ∧ 0 ≤ (gM Γ).1 (-1) ((0 : Nat) : Int) ∧ (gM Γ).1 (-1) ((0 : Nat) : Int) < NX0) ∧ (∀ s ad, gC Γ s s.heap ad → va_Z "java/util/ArrayList" "DEFAULTCAPACITY_EMPTY_ELEMENTDATA" "[Ljava/lang/Object;" (va_rf (gr ad ((gM Γ).1 (-1) ((1 : Nat) : Int)))) (gA Γ) s s.heap ∧ 0 ≤ (gM Γ).1 (-1) ((1 : Nat) : Int) ∧ (gM Γ).1 (-1) ((1 : Nat) : Int) < NX0) ∧ (∀ s ad, gC Γ s s.heap ad → va_Z "java/lang/Integer$IntegerCache" "cache" "[Ljava/lang/Integer;" (va_rf (gr ad ((gM Γ).1 (-1) ((2 : Nat) : Int)))) (gA Γ) s s.heap ∧ 0 ≤ (gM Γ).1 (-1) ((2 : Nat) : Int) ∧ (gM Γ).1 (-1) ((2 : Nat) : Int) < NX0) ∧ (∀ s ad, gC Γ s s.heap ad → va_Z "java/lang/Throwable" "UNASSIGNED_STACK" "[Ljava/lang/StackTraceElement;" (va_rf (gr ad ((gM Γ).1 (-1) ((3 : Nat) : Int)))) (gA Γ) s s.heap ∧ 0 ≤ (gM Γ).1 (-1) ((3 : Nat) : Int) ∧ (gM Γ).1 (-1) ((3 : Nat) : Int) < NX0) ∧ (∀ s ad, gC Γ s s.heap ad → va_Z "java/lang/Throwable" "SUPPRESSED_SENTINEL" "Ljava/util/List;" (va_rf (gr ad ((gM Γ).1 (-1) ((4 : Nat) : Int)))) (gA Γ) s s.heap ∧ 0 ≤ (gM Γ).1 (-1) ((4 : Nat) : Int) ∧ (gM Γ).1 (-1) ((4 : Nat) : Int) < NX0) ∧ (∀ s ad, gC Γ s s.heap ad → va_Z "jdk/internal/util/Preconditions" "SIOOBE_FORMATTER" "Ljava/util/function/BiFunction;" (va_rf (gr ad ((gM Γ).1 (-1) ((5 : Nat) : Int)))) (gA Γ) s s.heap ∧ 0 ≤ (gM Γ).1 (-1) ((5 : Nat) : Int) ∧ (gM Γ).1 (-1) ((5 : Nat) : Int) < NX0) ∧ (∀ s ad, gC Γ s s.heap ad → va_Z "java/lang/String" "COMPACT_STRINGS" "Z" (.int (Int32.ofInt ((1 : Nat) : Int))) (gA Γ) s s.heap) ∧ (∀ s ad, gC Γ s s.heap ad → va_Z "java/lang/Integer$IntegerCache" "high" "I" (.int (Int32.ofInt ((127 : Nat) : Int))) (gA Γ) s s.heap)
theorem gO.s28 {Γ : gT} (h : gO Γ) : isC Γ 28 "java/lang/String" := h.1
theorem gO.i30 {Γ : gT} (h : gO Γ) : isC Γ 30 "java/lang/Integer" := h.2.1
theorem gO.f280 {Γ : gT} (h : gO Γ) : oF Γ 28 "java/lang/String" "value" "[B" 0 2 := h.2.2.1
theorem gO.f281 {Γ : gT} (h : gO Γ) : oF Γ 28 "java/lang/String" "coder" "B" 1 0 := h.2.2.2.1
theorem gO.f300 {Γ : gT} (h : gO Γ) : oF Γ 30 "java/lang/Integer" "value" "I" 0 0 := h.2.2.2.2.1
theorem gO.str {Γ : gT} (h : gO Γ) : ∀ q ∈ strL, ∀ s ad, gC Γ s s.heap ad → vk_R q.1 q.2.1 q.2.2.1 (ad (q.2.2.2 : Int)) s := h.2.2.2.2.2.1
theorem gO.mir {Γ : gT} (h : gO Γ) : ∀ s ad, gC Γ s s.heap ad → va_Mi "[Ljava/lang/Object;" (ad ((60 : Nat) : Int)) s := h.2.2.2.2.2.2.1
theorem gO.z0 {Γ : gT} (h : gO Γ) : ∀ s ad, gC Γ s s.heap ad → va_Z "java/util/ArrayList" "EMPTY_ELEMENTDATA" "[Ljava/lang/Object;" (va_rf (gr ad ((gM Γ).1 (-1) ((0 : Nat) : Int)))) (gA Γ) s s.heap ∧ 0 ≤ (gM Γ).1 (-1) ((0 : Nat) : Int) ∧ (gM Γ).1 (-1) ((0 : Nat) : Int) < NX0 := h.2.2.2.2.2.2.2.1
theorem gO.z1 {Γ : gT} (h : gO Γ) : ∀ s ad, gC Γ s s.heap ad → va_Z "java/util/ArrayList" "DEFAULTCAPACITY_EMPTY_ELEMENTDATA" "[Ljava/lang/Object;" (va_rf (gr ad ((gM Γ).1 (-1) ((1 : Nat) : Int)))) (gA Γ) s s.heap ∧ 0 ≤ (gM Γ).1 (-1) ((1 : Nat) : Int) ∧ (gM Γ).1 (-1) ((1 : Nat) : Int) < NX0 := h.2.2.2.2.2.2.2.2.1
theorem gO.z2 {Γ : gT} (h : gO Γ) : ∀ s ad, gC Γ s s.heap ad → va_Z "java/lang/Integer$IntegerCache" "cache" "[Ljava/lang/Integer;" (va_rf (gr ad ((gM Γ).1 (-1) ((2 : Nat) : Int)))) (gA Γ) s s.heap ∧ 0 ≤ (gM Γ).1 (-1) ((2 : Nat) : Int) ∧ (gM Γ).1 (-1) ((2 : Nat) : Int) < NX0 := h.2.2.2.2.2.2.2.2.2.1
theorem gO.z3 {Γ : gT} (h : gO Γ) : ∀ s ad, gC Γ s s.heap ad → va_Z "java/lang/Throwable" "UNASSIGNED_STACK" "[Ljava/lang/StackTraceElement;" (va_rf (gr ad ((gM Γ).1 (-1) ((3 : Nat) : Int)))) (gA Γ) s s.heap ∧ 0 ≤ (gM Γ).1 (-1) ((3 : Nat) : Int) ∧ (gM Γ).1 (-1) ((3 : Nat) : Int) < NX0 := h.2.2.2.2.2.2.2.2.2.2.1
theorem gO.z4 {Γ : gT} (h : gO Γ) : ∀ s ad, gC Γ s s.heap ad → va_Z "java/lang/Throwable" "SUPPRESSED_SENTINEL" "Ljava/util/List;" (va_rf (gr ad ((gM Γ).1 (-1) ((4 : Nat) : Int)))) (gA Γ) s s.heap ∧ 0 ≤ (gM Γ).1 (-1) ((4 : Nat) : Int) ∧ (gM Γ).1 (-1) ((4 : Nat) : Int) < NX0 := h.2.2.2.2.2.2.2.2.2.2.2.1
theorem gO.z5 {Γ : gT} (h : gO Γ) : ∀ s ad, gC Γ s s.heap ad → va_Z "jdk/internal/util/Preconditions" "SIOOBE_FORMATTER" "Ljava/util/function/BiFunction;" (va_rf (gr ad ((gM Γ).1 (-1) ((5 : Nat) : Int)))) (gA Γ) s s.heap ∧ 0 ≤ (gM Γ).1 (-1) ((5 : Nat) : Int) ∧ (gM Γ).1 (-1) ((5 : Nat) : Int) < NX0 := h.2.2.2.2.2.2.2.2.2.2.2.2.1
theorem gO.iCOMPACT_STRINGS {Γ : gT} (h : gO Γ) : ∀ s ad, gC Γ s s.heap ad → va_Z "java/lang/String" "COMPACT_STRINGS" "Z" (.int (Int32.ofInt ((1 : Nat) : Int))) (gA Γ) s s.heap := h.2.2.2.2.2.2.2.2.2.2.2.2.2.1
theorem gO.ihigh {Γ : gT} (h : gO Γ) : ∀ s ad, gC Γ s s.heap ad → va_Z "java/lang/Integer$IntegerCache" "high" "I" (.int (Int32.ofInt ((127 : Nat) : Int))) (gA Γ) s s.heap := h.2.2.2.2.2.2.2.2.2.2.2.2.2.2
theorem ws_of {C : String} {T : u_T} {N : Nat} (h : ∀ k, k < N → u_lay C T k ∈ lw_all) : ∀ w ∈ u_ws C T N, w ∈ lw_all := by
  intro w hw
  obtain ⟨k, hk, rfl⟩ := List.mem_map.mp hw
  exact h k (List.mem_range.mp hk)
section
variable {Γ : gT}
theorem rk1 {P : Nat → Prop} {a : Nat} (h : P a) : ∀ k, a ≤ k → k ≤ a → P k := fun k h1 h2 => (Nat.le_antisymm h1 h2) ▸ h
theorem rk2 {P : Nat → Prop} {a : Nat} (h0 : P a) (h1 : P (a + 1)) : ∀ k, a ≤ k → k ≤ a + 1 → P k := fun k q1 q2 => by
  rcases (show k = a ∨ k = a + 1 by omega) with e | e
  · exact e ▸ h0
  · exact e ▸ h1
theorem rk3 {P : Nat → Prop} {a : Nat} (h0 : P a) (h1 : P (a + 1)) (h2 : P (a + 2)) : ∀ k, a ≤ k → k ≤ a + 2 → P k := fun k q1 q2 => by
  rcases (show k = a ∨ k = a + 1 ∨ k = a + 2 by omega) with e | e | e
  · exact e ▸ h0
  · exact e ▸ h1
  · exact e ▸ h2
theorem rk4 {P : Nat → Prop} {a : Nat} (h0 : P a) (h1 : P (a + 1)) (h2 : P (a + 2)) (h3 : P (a + 3)) : ∀ k, a ≤ k → k ≤ a + 3 → P k := fun k q1 q2 => by
  rcases (show k = a ∨ k = a + 1 ∨ k = a + 2 ∨ k = a + 3 by omega) with e | e | e | e
  · exact e ▸ h0
  · exact e ▸ h1
  · exact e ▸ h2
  · exact e ▸ h3
theorem rc1 {P : Nat → Prop} {a : Nat} (h : P a) : ∀ k, (a ≤ k ∧ k ≤ a) ∨ k = a → P k := fun k q => (show k = a by omega) ▸ h
theorem rc2 {P : Nat → Prop} {a b : Nat} (h : P a) (h' : P b) : ∀ k, (a ≤ k ∧ k ≤ a) ∨ k = b → P k := fun k q => by
  rcases (show k = a ∨ k = b by omega) with e | e
  · exact e ▸ h
  · exact e ▸ h'
theorem rc3r {P : Nat → Prop} {a : Nat} (h0 : P a) (h1 : P (a + 1)) (h2 : P (a + 2)) : ∀ k, (a ≤ k ∧ k ≤ a + 2) ∨ k = a → P k := fun k q => rk3 (P := P) h0 h1 h2 k (by omega) (by omega)
theorem rc4r {P : Nat → Prop} {a : Nat} (h0 : P a) (h1 : P (a + 1)) (h2 : P (a + 2)) (h3 : P (a + 3)) : ∀ k, (a ≤ k ∧ k ≤ a + 3) ∨ k = a → P k := fun k q => rk4 (P := P) h0 h1 h2 h3 k (by omega) (by omega)
theorem kd1 {P : String → Prop} {a : Nat} {C : String} (h : a ≠ 0) (hc : isC Γ a C) (hp : P C) : kOk Γ (fun k => a ≤ k ∧ k ≤ a) P := fun k q => by
  have e : k = a := by omega
  subst e
  exact ⟨h, C, hc, hp⟩
theorem kO1 {P : String → Prop} {a : Nat} {C : String} (h : a ≠ 0) (hc : isC Γ a C) (hp : P C) : kOk Γ (fun k => (a ≤ k ∧ k ≤ a) ∨ k = a) P := fun k q => by
  have e : k = a := by omega
  subst e
  exact ⟨h, C, hc, hp⟩
theorem kO2 {P : String → Prop} {a b : Nat} {C D : String} (h : a ≠ 0) (h' : b ≠ 0) (hc : isC Γ a C) (hp : P C) (hc' : isC Γ b D) (hp' : P D) : kOk Γ (fun k => (a ≤ k ∧ k ≤ a) ∨ k = b) P := fun k q => by
  rcases (show k = a ∨ k = b by omega) with e | e
  · subst e; exact ⟨h, C, hc, hp⟩
  · subst e; exact ⟨h', D, hc', hp'⟩
theorem kR3 {P : String → Prop} {a : Nat} {C D E : String} (h : a ≠ 0) (hc : isC Γ a C) (hp : P C) (hd : isC Γ (a + 1) D) (hq : P D) (he : isC Γ (a + 2) E) (hr : P E) : kOk Γ (fun k => (a ≤ k ∧ k ≤ a + 2) ∨ k = a) P := fun k q => by
  rcases (show k = a ∨ k = a + 1 ∨ k = a + 2 by omega) with e | e | e
  · subst e; exact ⟨h, C, hc, hp⟩
  · subst e; exact ⟨by omega, D, hd, hq⟩
  · subst e; exact ⟨by omega, E, he, hr⟩
theorem kR4 {P : String → Prop} {a : Nat} {C D E F : String} (h : a ≠ 0) (hc : isC Γ a C) (hp : P C) (hd : isC Γ (a + 1) D) (hq : P D) (he : isC Γ (a + 2) E) (hr : P E) (hf : isC Γ (a + 3) F) (hs : P F) : kOk Γ (fun k => (a ≤ k ∧ k ≤ a + 3) ∨ k = a) P := fun k q => by
  rcases (show k = a ∨ k = a + 1 ∨ k = a + 2 ∨ k = a + 3 by omega) with e | e | e | e
  · subst e; exact ⟨h, C, hc, hp⟩
  · subst e; exact ⟨by omega, D, hd, hq⟩
  · subst e; exact ⟨by omega, E, he, hr⟩
  · subst e; exact ⟨by omega, F, hf, hs⟩
end
