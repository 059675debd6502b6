set_option maxRecDepth 100000
set_option maxHeartbeats 4000000
theorem myX13_of : jY yX13_of cX13_of 2 (some .int) 1 := ⟨q1267, q145, by decide +kernel, by decide +kernel, by decide⟩
def fX13_of (a0 : Nat) (a1 : Nat) (A : pA) (Q : Int32 → Prop) : Prop :=
    Q (A a0 0)
theorem tX13_of {Γ : jG} {n : Nat} {K : Nat → pKd} {G : pG} {A : pA} {Lg : pL} (hf : fOK n K G) (a0 : Nat) (la0 : a0 < n) (ha0 : K a0 = .inl 11) (a1 : Nat) (ha1 : isT a1)  (Q : Int32 → Prop) (h : fX13_of a0 a1 A Q) : jMet Γ yX13_of cX13_of 2 (some .int) [] 1 0 0 [.ref a0, .ref (a1 + 21)] (n, K, A, Lg, G) (fun o u => ∃ (r : Int32), o = .inl (some (.int r)) ∧ u = (n, K, A, Lg, G) ∧ Q r) := by
  unfold fX13_of at h
  obtain ⟨P, hP⟩ : ∃ P : jO → pS → Prop, P = (fun o u => ∃ (r : Int32), o = .inl (some (.int r)) ∧ u = (n, K, A, Lg, G) ∧ Q r) := ⟨_, rfl⟩
  rw [← hP]
  refine jMet_of rfl rfl rfl (Nat.le_of_ble_eq_true rfl) ?_
  show J Γ RX13 cX13_of 2 (some .int) "of" [] 1 0 0 0 [(0, .ref a0), (1, .ref (a1 + 21))] [] (n, K, A, Lg, G) P
  refine j_aload_n 0 rfl dX13_of_0 ?_
  refine j_getfi fl_X13_7_11 rfl la0 ha0 dX13_of_1 ?_
  refine j_iret rfl ?_ dX13_of_4
  rw [hP]
  exact ⟨A a0 0, rfl, rfl, h⟩
theorem myX14_of : jY yX14_of cX14_of 2 (some .int) 1 := ⟨q1269, q146, by decide +kernel, by decide +kernel, by decide⟩
def fX14_of (a0 : Nat) (a1 : Nat) (A : pA) (Q : Int32 → Prop) : Prop :=
    (vp_in (A a0 0) 9) ∧ (Q (A (a1 + 22) (A a0 0).toNatClampNeg))
theorem tX14_of {Γ : jG} {n : Nat} {K : Nat → pKd} {G : pG} {A : pA} {Lg : pL} (hf : fOK n K G) (a0 : Nat) (la0 : a0 < n) (ha0 : K a0 = .inl 12) (a1 : Nat) (ha1 : isT a1)  (Q : Int32 → Prop) (h : fX14_of a0 a1 A Q) : jMet Γ yX14_of cX14_of 2 (some .int) [] 1 0 0 [.ref a0, .ref (a1 + 21)] (n, K, A, Lg, G) (fun o u => ∃ (r : Int32), o = .inl (some (.int r)) ∧ u = (n, K, A, Lg, G) ∧ Q r) := by
  unfold fX14_of at h
  obtain ⟨P, hP⟩ : ∃ P : jO → pS → Prop, P = (fun o u => ∃ (r : Int32), o = .inl (some (.int r)) ∧ u = (n, K, A, Lg, G) ∧ Q r) := ⟨_, rfl⟩
  rw [← hP]
  refine jMet_of rfl rfl rfl (Nat.le_of_ble_eq_true rfl) ?_
  show J Γ RX14 cX14_of 2 (some .int) "of" [] 1 0 0 0 [(0, .ref a0), (1, .ref (a1 + 21))] [] (n, K, A, Lg, G) P
  refine j_aload_n 1 rfl dX14_of_0 ?_
  refine j_getfr fl_X14_13_6 rfl (t_lt hf ha1 (j := 21) (by decide)) (tk_21 hf ha1) (tg_21_0 hf ha1) dX14_of_1 ?_
  refine j_aload_n 0 rfl dX14_of_4 ?_
  refine j_getfi fl_X14_7_12 rfl la0 ha0 dX14_of_5 ?_
  obtain ⟨b1, h⟩ := h
  refine j_ialdJ (j := (A a0 0).toNatClampNeg) (t_lt hf ha1 (j := 22) (by decide)) (tk_22 hf ha1) b1 rfl dX14_of_8 ?_
  refine j_iret rfl ?_ dX14_of_9
  rw [hP]
  exact ⟨A (a1 + 22) (A a0 0).toNatClampNeg, rfl, rfl, h⟩
