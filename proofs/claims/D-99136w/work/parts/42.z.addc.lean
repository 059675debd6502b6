set_option maxRecDepth 100000
/-! adding to a list, empty or not -/
def fJ5_addC_X17 (a0 : Nat) (a1 : Nat) (n : Nat) (K : Nat → pKd) (A : pA) (Lg : pL) (G : pG) (kc : Nat) (ks : Nat) (Q : Int32 → Nat → (Nat → pKd) → pA → pL → pG → Prop) : Prop := fJ5_addE_X17 a0 a1 n K A Lg G kc ks Q ∨ fJ5_addI_X17 a0 a1 n K A Lg G kc ks Q
theorem tJ5_addC_X17 {Γ : jG} {n : Nat} {K : Nat → pKd} {G : pG} {A : pA} {Lg : pL} {kc ks : Nat} (a0 : Nat) (a1 : Nat) (Q : Int32 → Nat → (Nat → pKd) → pA → pL → pG → Prop) (h : fJ5_addC_X17 a0 a1 n K A Lg G kc ks Q) : jMet Γ yJ5_add cJ5_add 2 (some .boolean) [] 4 kc ks [.ref a0, .ref a1] (n, K, A, Lg, G) (fun o u => ∃ (r : Int32) (n' : Nat) (K' : Nat → pKd) (A' : pA) (Lg' : pL) (G' : pG), o = .inl (some (.int r)) ∧ u = (n', K', A', Lg', G') ∧ Q r n' K' A' Lg' G') := by
  rcases h with h | h
  · exact tJ5_addE_X17 a0 a1 Q h
  · exact tJ5_addI_X17 a0 a1 Q h
def fJ5_addC_X18 (a0 : Nat) (a1 : Nat) (n : Nat) (K : Nat → pKd) (A : pA) (Lg : pL) (G : pG) (kc : Nat) (ks : Nat) (Q : Int32 → Nat → (Nat → pKd) → pA → pL → pG → Prop) : Prop := fJ5_addE_X18 a0 a1 n K A Lg G kc ks Q ∨ fJ5_addI_X18 a0 a1 n K A Lg G kc ks Q
theorem tJ5_addC_X18 {Γ : jG} {n : Nat} {K : Nat → pKd} {G : pG} {A : pA} {Lg : pL} {kc ks : Nat} (a0 : Nat) (a1 : Nat) (Q : Int32 → Nat → (Nat → pKd) → pA → pL → pG → Prop) (h : fJ5_addC_X18 a0 a1 n K A Lg G kc ks Q) : jMet Γ yJ5_add cJ5_add 2 (some .boolean) [] 4 kc ks [.ref a0, .ref a1] (n, K, A, Lg, G) (fun o u => ∃ (r : Int32) (n' : Nat) (K' : Nat → pKd) (A' : pA) (Lg' : pL) (G' : pG), o = .inl (some (.int r)) ∧ u = (n', K', A', Lg', G') ∧ Q r n' K' A' Lg' G') := by
  rcases h with h | h
  · exact tJ5_addE_X18 a0 a1 Q h
  · exact tJ5_addI_X18 a0 a1 Q h
def fJ5_addC_X19 (a0 : Nat) (a1 : Nat) (n : Nat) (K : Nat → pKd) (A : pA) (Lg : pL) (G : pG) (kc : Nat) (ks : Nat) (Q : Int32 → Nat → (Nat → pKd) → pA → pL → pG → Prop) : Prop := fJ5_addE_X19 a0 a1 n K A Lg G kc ks Q ∨ fJ5_addI_X19 a0 a1 n K A Lg G kc ks Q
theorem tJ5_addC_X19 {Γ : jG} {n : Nat} {K : Nat → pKd} {G : pG} {A : pA} {Lg : pL} {kc ks : Nat} (a0 : Nat) (a1 : Nat) (Q : Int32 → Nat → (Nat → pKd) → pA → pL → pG → Prop) (h : fJ5_addC_X19 a0 a1 n K A Lg G kc ks Q) : jMet Γ yJ5_add cJ5_add 2 (some .boolean) [] 4 kc ks [.ref a0, .ref a1] (n, K, A, Lg, G) (fun o u => ∃ (r : Int32) (n' : Nat) (K' : Nat → pKd) (A' : pA) (Lg' : pL) (G' : pG), o = .inl (some (.int r)) ∧ u = (n', K', A', Lg', G') ∧ Q r n' K' A' Lg' G') := by
  rcases h with h | h
  · exact tJ5_addE_X19 a0 a1 Q h
  · exact tJ5_addI_X19 a0 a1 Q h
