set_option maxRecDepth 100000
/-- what a sum is worth: by the class of its cell, d: how deep at most -/
def fSum (o n : Nat) (K : Nat → pKd) (G : pG) : Nat → Nat → pA → (Int32 → pA → Prop) → Prop
  | 0, _, _, _ => False
  | d + 1, a, A, Q => a < n ∧ ((K a = .inl 11 ∧ fX13_of a o A (fun r => Q r A)) ∨ (K a = .inl 12 ∧ fX14_of a o A (fun r => Q r A)) ∨ (K a = .inl 13 ∧ fX15_of a o (fSum o n K G d) n K A G Q))
theorem sum_ok {Γ : jG} {n : Nat} {K : Nat → pKd} {G : pG} {Lg : pL} (hf : fOK n K G) (o : Nat) (ho : isT o) : ∀ (d : Nat) (a : Nat) (A : pA) (Q : Int32 → pA → Prop), fSum o n K G d a A Q → jSumC Γ (d + 1) o n K Lg G a A Q := by
  intro d
  induction d with
  | zero => intro a A Q h; exact h.elim
  | succ d ih =>
    intro a A Q h
    unfold fSum at h
    obtain ⟨ha, h⟩ := h
    refine ⟨ha, ?_⟩
    rcases h with ⟨hk, h⟩ | ⟨hk, h⟩ | ⟨hk, h⟩
    · refine Or.inl ⟨hk, ?_⟩
      refine ⟨1, _, by omega, fun o9 u9 hq => ?_, tX13_of hf a ha hk o ho _ h⟩
      obtain ⟨r, e1, e2, hq⟩ := hq
      exact ⟨r, A, e1, e2, hq⟩
    · refine Or.inr (Or.inl ⟨hk, ?_⟩)
      refine ⟨1, _, by omega, fun o9 u9 hq => ?_, tX14_of hf a ha hk o ho _ h⟩
      obtain ⟨r, e1, e2, hq⟩ := hq
      exact ⟨r, A, e1, e2, hq⟩
    · exact Or.inr (Or.inr ⟨hk, d + 1 + 1, _, Nat.le_refl _, fun o9 u9 hq => hq, tX15_of hf a ha hk o ho _ (d + 1) ih Q h⟩)
