set_option maxRecDepth 100000
set_option maxHeartbeats 4000000
theorem myX3_isSign : jY yX3_isSign cX3_isSign 2 (some .boolean) 1 := ⟨q767, q127, by decide +kernel, by decide +kernel, by decide⟩
def fX3_isSign (A : pA) (p1 : Int32) (Q : Int32 → Prop) : Prop :=
    (vp_in (A 9 3) 2001) ∧ ((if (A 5 (A 9 3).toNatClampNeg) = 2 then (vp_in (A 9 3) 2001) ∧ ((if (A 8 (A 9 3).toNatClampNeg) = p1 then Q 1 else Q 0)) else Q 0))
theorem tX3_isSign {Γ : jG} {n : Nat} {K : Nat → pKd} {G : pG} {A : pA} {Lg : pL} (hf : fOK n K G) (p1 : Int32) (Q : Int32 → Prop) (h : fX3_isSign A p1 Q) : jMet Γ yX3_isSign cX3_isSign 2 (some .boolean) [] 1 0 0 [.ref 9, .int p1] (n, K, A, Lg, G) (fun o u => ∃ (r : Int32), o = .inl (some (.int r)) ∧ u = (n, K, A, Lg, G) ∧ Q r) := by
  unfold fX3_isSign at h
  obtain ⟨P, hP⟩ : ∃ P : jO → pS → Prop, P = (fun o u => ∃ (r : Int32), o = .inl (some (.int r)) ∧ u = (n, K, A, Lg, G) ∧ Q r) := ⟨_, rfl⟩
  rw [← hP]
  refine jMet_of rfl rfl rfl (Nat.le_of_ble_eq_true rfl) ?_
  show J Γ RX3 cX3_isSign 2 (some .boolean) "isSign" [] 1 0 0 0 [(0, .ref 9), (1, .int p1)] [] (n, K, A, Lg, G) P
  refine j_aload_n 0 rfl dX3_isSign_0 ?_
  refine j_getfr fl_X3_9_3 rfl (f_lt hf (by decide)) (fk_9 hf) (fg_9_0 hf) dX3_isSign_1 ?_
  refine j_getfr fl_X3_44_2 rfl (f_lt hf (by decide)) (fk_2 hf) (fg_2_3 hf) dX3_isSign_4 ?_
  refine j_aload_n 0 rfl dX3_isSign_7 ?_
  refine j_getfi fl_X3_31_3 rfl (f_lt hf (by decide)) (fk_9 hf) dX3_isSign_8 ?_
  obtain ⟨b1, h⟩ := h
  refine j_baldJ (j := (A 9 3).toNatClampNeg) (f_lt hf (by decide)) (fk_5 hf) b1 rfl dX3_isSign_11 ?_
  refine j_iconst (v := 2) dX3_isSign_12 (by decide) ?_
  refine j_icmp_ne (tgt := 36) dX3_isSign_13 (by decide) (fun c => ?_) (fun c => ?_)
  · rw [if_neg c] at h
    refine j_iconst (v := 0) dX3_isSign_36 (by decide) ?_
    refine j_zret rfl (by decide) ?_ dX3_isSign_37
    rw [hP]
    exact ⟨0, rfl, rfl, h⟩
  · rw [if_pos c] at h
    refine j_aload_n 0 rfl dX3_isSign_16 ?_
    refine j_getfr fl_X3_9_3 rfl (f_lt hf (by decide)) (fk_9 hf) (fg_9_0 hf) dX3_isSign_17 ?_
    refine j_getfr fl_X3_52_2 rfl (f_lt hf (by decide)) (fk_2 hf) (fg_2_6 hf) dX3_isSign_20 ?_
    refine j_aload_n 0 rfl dX3_isSign_23 ?_
    refine j_getfi fl_X3_31_3 rfl (f_lt hf (by decide)) (fk_9 hf) dX3_isSign_24 ?_
    obtain ⟨b2, h⟩ := h
    refine j_saldJ (j := (A 9 3).toNatClampNeg) (f_lt hf (by decide)) (fk_8 hf) b2 rfl dX3_isSign_27 ?_
    refine j_iload_n 1 rfl dX3_isSign_28 ?_
    refine j_icmp_ne (tgt := 36) dX3_isSign_29 (by decide) (fun c => ?_) (fun c => ?_)
    · rw [if_neg c] at h
      refine j_iconst (v := 0) dX3_isSign_36 (by decide) ?_
      refine j_zret rfl (by decide) ?_ dX3_isSign_37
      rw [hP]
      exact ⟨0, rfl, rfl, h⟩
    · rw [if_pos c] at h
      refine j_iconst (v := 1) dX3_isSign_32 (by decide) ?_
      refine j_goto (tgt := 37) dX3_isSign_33 (by decide) ?_
      refine j_zret rfl (by decide) ?_ dX3_isSign_37
      rw [hP]
      exact ⟨1, rfl, rfl, h⟩
theorem myX3_isWord : jY yX3_isWord cX3_isWord 2 (some .boolean) 1 := ⟨q771, q127, by decide +kernel, by decide +kernel, by decide⟩
def fX3_isWord (A : pA) (p1 : Int32) (Q : Int32 → Prop) : Prop :=
    (vp_in (A 9 3) 2001) ∧ ((if (A 5 (A 9 3).toNatClampNeg) = 3 then (vp_in (A 9 3) 2001) ∧ ((if (A 8 (A 9 3).toNatClampNeg) = p1 then Q 1 else Q 0)) else Q 0))
theorem tX3_isWord {Γ : jG} {n : Nat} {K : Nat → pKd} {G : pG} {A : pA} {Lg : pL} (hf : fOK n K G) (p1 : Int32) (Q : Int32 → Prop) (h : fX3_isWord A p1 Q) : jMet Γ yX3_isWord cX3_isWord 2 (some .boolean) [] 1 0 0 [.ref 9, .int p1] (n, K, A, Lg, G) (fun o u => ∃ (r : Int32), o = .inl (some (.int r)) ∧ u = (n, K, A, Lg, G) ∧ Q r) := by
  unfold fX3_isWord at h
  obtain ⟨P, hP⟩ : ∃ P : jO → pS → Prop, P = (fun o u => ∃ (r : Int32), o = .inl (some (.int r)) ∧ u = (n, K, A, Lg, G) ∧ Q r) := ⟨_, rfl⟩
  rw [← hP]
  refine jMet_of rfl rfl rfl (Nat.le_of_ble_eq_true rfl) ?_
  show J Γ RX3 cX3_isWord 2 (some .boolean) "isWord" [] 1 0 0 0 [(0, .ref 9), (1, .int p1)] [] (n, K, A, Lg, G) P
  refine j_aload_n 0 rfl dX3_isWord_0 ?_
  refine j_getfr fl_X3_9_3 rfl (f_lt hf (by decide)) (fk_9 hf) (fg_9_0 hf) dX3_isWord_1 ?_
  refine j_getfr fl_X3_44_2 rfl (f_lt hf (by decide)) (fk_2 hf) (fg_2_3 hf) dX3_isWord_4 ?_
  refine j_aload_n 0 rfl dX3_isWord_7 ?_
  refine j_getfi fl_X3_31_3 rfl (f_lt hf (by decide)) (fk_9 hf) dX3_isWord_8 ?_
  obtain ⟨b1, h⟩ := h
  refine j_baldJ (j := (A 9 3).toNatClampNeg) (f_lt hf (by decide)) (fk_5 hf) b1 rfl dX3_isWord_11 ?_
  refine j_iconst (v := 3) dX3_isWord_12 (by decide) ?_
  refine j_icmp_ne (tgt := 36) dX3_isWord_13 (by decide) (fun c => ?_) (fun c => ?_)
  · rw [if_neg c] at h
    refine j_iconst (v := 0) dX3_isWord_36 (by decide) ?_
    refine j_zret rfl (by decide) ?_ dX3_isWord_37
    rw [hP]
    exact ⟨0, rfl, rfl, h⟩
  · rw [if_pos c] at h
    refine j_aload_n 0 rfl dX3_isWord_16 ?_
    refine j_getfr fl_X3_9_3 rfl (f_lt hf (by decide)) (fk_9 hf) (fg_9_0 hf) dX3_isWord_17 ?_
    refine j_getfr fl_X3_52_2 rfl (f_lt hf (by decide)) (fk_2 hf) (fg_2_6 hf) dX3_isWord_20 ?_
    refine j_aload_n 0 rfl dX3_isWord_23 ?_
    refine j_getfi fl_X3_31_3 rfl (f_lt hf (by decide)) (fk_9 hf) dX3_isWord_24 ?_
    obtain ⟨b2, h⟩ := h
    refine j_saldJ (j := (A 9 3).toNatClampNeg) (f_lt hf (by decide)) (fk_8 hf) b2 rfl dX3_isWord_27 ?_
    refine j_iload_n 1 rfl dX3_isWord_28 ?_
    refine j_icmp_ne (tgt := 36) dX3_isWord_29 (by decide) (fun c => ?_) (fun c => ?_)
    · rw [if_neg c] at h
      refine j_iconst (v := 0) dX3_isWord_36 (by decide) ?_
      refine j_zret rfl (by decide) ?_ dX3_isWord_37
      rw [hP]
      exact ⟨0, rfl, rfl, h⟩
    · rw [if_pos c] at h
      refine j_iconst (v := 1) dX3_isWord_32 (by decide) ?_
      refine j_goto (tgt := 37) dX3_isWord_33 (by decide) ?_
      refine j_zret rfl (by decide) ?_ dX3_isWord_37
      rw [hP]
      exact ⟨1, rfl, rfl, h⟩
theorem myX3_tell : jY yX3_tell cX3_tell 3 none 2 := ⟨q1033, q127, by decide +kernel, by decide +kernel, by decide⟩
def fX3_tell_J32   (Q : pA → Prop) (l1 : Int32) (l2 : Int32) (A : pA) : Prop :=
    ∀ A1 : pA, A1 = pup A 9 5 l1 → ∀ A2 : pA, A2 = pup A1 9 6 l2 → Q A2
theorem fX3_tell_J32_ok {Γ : jG} {n : Nat} {K : Nat → pKd} {G : pG} {Lg : pL} (hf : fOK n K G) (Q : pA → Prop) (P : jO → pS → Prop) (hP : P = (fun o u => ∃ (A' : pA), o = .inl none ∧ u = (n, K, A', Lg, G) ∧ Q A'))   (l1 : Int32) (l2 : Int32) (A : pA) (h : fX3_tell_J32   Q l1 l2 A) : J Γ RX3 cX3_tell 3 none "tell" [] 1 0 0 32 [(0, .ref 9), (1, .int l1), (2, .int l2)] [] (n, K, A, Lg, G) P := by
  unfold fX3_tell_J32 at h
  refine j_aload_n 0 rfl dX3_tell_32 ?_
  refine j_iload_n 1 rfl dX3_tell_33 ?_
  refine j_putfiE (fp_X3_38_3 _) rfl rfl rfl (f_lt hf (by decide)) (fk_9 hf) dX3_tell_34 (fun A1 eA1 => ?_)
  replace h := h A1 eA1
  refine j_aload_n 0 rfl dX3_tell_37 ?_
  refine j_iload_n 2 rfl dX3_tell_38 ?_
  refine j_putfiE (fp_X3_41_3 _) rfl rfl rfl (f_lt hf (by decide)) (fk_9 hf) dX3_tell_39 (fun A2 eA2 => ?_)
  replace h := h A2 eA2
  refine j_vret rfl ?_ dX3_tell_42
  rw [hP]
  exact ⟨A2, rfl, rfl, h⟩
def fX3_tell (A : pA) (p1 : Int32) (p2 : Int32) (Q : pA → Prop) : Prop :=
    (if (A 9 5) = 0 then fX3_tell_J32   Q p1 p2 A else (if (A 9 6) < p2 then Q A else (if p2 = (A 9 6) then (if p1 < (A 9 5) then fX3_tell_J32   Q p1 p2 A else Q A) else fX3_tell_J32   Q p1 p2 A)))
theorem tX3_tell {Γ : jG} {n : Nat} {K : Nat → pKd} {G : pG} {A : pA} {Lg : pL} (hf : fOK n K G) (p1 : Int32) (p2 : Int32) (Q : pA → Prop) (h : fX3_tell A p1 p2 Q) : jMet Γ yX3_tell cX3_tell 3 none [] 1 0 0 [.ref 9, .int p1, .int p2] (n, K, A, Lg, G) (fun o u => ∃ (A' : pA), o = .inl none ∧ u = (n, K, A', Lg, G) ∧ Q A') := by
  unfold fX3_tell at h
  obtain ⟨P, hP⟩ : ∃ P : jO → pS → Prop, P = (fun o u => ∃ (A' : pA), o = .inl none ∧ u = (n, K, A', Lg, G) ∧ Q A') := ⟨_, rfl⟩
  rw [← hP]
  refine jMet_of rfl rfl rfl (Nat.le_of_ble_eq_true rfl) ?_
  show J Γ RX3 cX3_tell 3 none "tell" [] 1 0 0 0 [(0, .ref 9), (1, .int p1), (2, .int p2)] [] (n, K, A, Lg, G) P
  refine j_aload_n 0 rfl dX3_tell_0 ?_
  refine j_getfi fl_X3_38_3 rfl (f_lt hf (by decide)) (fk_9 hf) dX3_tell_1 ?_
  refine j_if_eq (tgt := 32) dX3_tell_4 (by decide) (fun c => ?_) (fun c => ?_)
  · rw [if_pos c] at h
    exact fX3_tell_J32_ok hf Q P hP   p1 p2 A h
  · rw [if_neg c] at h
    refine j_iload_n 2 rfl dX3_tell_7 ?_
    refine j_aload_n 0 rfl dX3_tell_8 ?_
    refine j_getfi fl_X3_41_3 rfl (f_lt hf (by decide)) (fk_9 hf) dX3_tell_9 ?_
    refine j_icmp_gt (tgt := 31) dX3_tell_12 (by decide) (fun c => ?_) (fun c => ?_)
    · rw [if_pos c] at h
      refine j_vret rfl ?_ dX3_tell_31
      rw [hP]
      exact ⟨A, rfl, rfl, h⟩
    · rw [if_neg c] at h
      refine j_iload_n 2 rfl dX3_tell_15 ?_
      refine j_aload_n 0 rfl dX3_tell_16 ?_
      refine j_getfi fl_X3_41_3 rfl (f_lt hf (by decide)) (fk_9 hf) dX3_tell_17 ?_
      refine j_icmp_ne (tgt := 32) dX3_tell_20 (by decide) (fun c => ?_) (fun c => ?_)
      · rw [if_neg c] at h
        exact fX3_tell_J32_ok hf Q P hP   p1 p2 A h
      · rw [if_pos c] at h
        refine j_iload_n 1 rfl dX3_tell_23 ?_
        refine j_aload_n 0 rfl dX3_tell_24 ?_
        refine j_getfi fl_X3_38_3 rfl (f_lt hf (by decide)) (fk_9 hf) dX3_tell_25 ?_
        refine j_icmp_lt (tgt := 32) dX3_tell_28 (by decide) (fun c => ?_) (fun c => ?_)
        · rw [if_pos c] at h
          exact fX3_tell_J32_ok hf Q P hP   p1 p2 A h
        · rw [if_neg c] at h
          refine j_vret rfl ?_ dX3_tell_31
          rw [hP]
          exact ⟨A, rfl, rfl, h⟩
theorem myX1_of : jY yX1_of cX1_of 3 (some (.object "DogsHour$Fault"))  2 := ⟨q722, q125, by decide +kernel, by decide +kernel, by decide⟩
def fX1_of (n : Nat) (K : Nat → pKd) (A : pA) (Lg : pL) (G : pG) (kc : Nat) (ks : Nat) (p1 : Int32) (p2 : Int32) (Q : Nat → (Nat → pKd) → pA → pL → pG → Prop) : Prop :=
    (fOK n K G) ∧ (∀ A1 : pA, A1 = pup A 1 6 p1 → ∀ A2 : pA, A2 = pup A1 1 7 p2 → Q n K A2 Lg G)
theorem tX1_of {Γ : jG} {n : Nat} {K : Nat → pKd} {G : pG} {A : pA} {Lg : pL} {kc ks : Nat} (p1 : Int32) (p2 : Int32) (Q : Nat → (Nat → pKd) → pA → pL → pG → Prop) (h : fX1_of n K A Lg G kc ks p1 p2 Q) : jMet Γ yX1_of cX1_of 3 (some (.object "DogsHour$Fault")) [] 1 kc ks [.ref 1, .int p1, .int p2] (n, K, A, Lg, G) (fun o u => ∃ (n' : Nat) (K' : Nat → pKd) (A' : pA) (Lg' : pL) (G' : pG), o = .inl (some (.ref 1)) ∧ u = (n', K', A', Lg', G') ∧ Q n' K' A' Lg' G') := by
  unfold fX1_of at h
  obtain ⟨P, hP⟩ : ∃ P : jO → pS → Prop, P = (fun o u => ∃ (n' : Nat) (K' : Nat → pKd) (A' : pA) (Lg' : pL) (G' : pG), o = .inl (some (.ref 1)) ∧ u = (n', K', A', Lg', G') ∧ Q n' K' A' Lg' G') := ⟨_, rfl⟩
  rw [← hP]
  refine jMet_of rfl rfl rfl (Nat.le_of_ble_eq_true rfl) ?_
  show J Γ RX1 cX1_of 3 (some (.object "DogsHour$Fault")) "of" [] 1 kc ks 0 [(0, .ref 1), (1, .int p1), (2, .int p2)] [] (n, K, A, Lg, G) P
  refine j_aload_n 0 rfl dX1_of_0 ?_
  refine j_iload_n 1 rfl dX1_of_1 ?_
  obtain ⟨hf, h⟩ := h
  refine j_putfiE (fp_X1_9_1 _) rfl rfl rfl (f_lt hf (by decide)) (fk_1 hf) dX1_of_2 (fun A1 eA1 => ?_)
  replace h := h A1 eA1
  refine j_aload_n 0 rfl dX1_of_5 ?_
  refine j_iload_n 2 rfl dX1_of_6 ?_
  refine j_putfiE (fp_X1_15_1 _) rfl rfl rfl (f_lt hf (by decide)) (fk_1 hf) dX1_of_7 (fun A2 eA2 => ?_)
  replace h := h A2 eA2
  refine j_aload_n 0 rfl dX1_of_10 ?_
  refine j_aret rfl (by first | exact Or.inl ⟨_, rfl⟩ | exact Or.inr ⟨_, rfl⟩) (Or.inr ⟨_, rfl⟩) ?_ dX1_of_11
  rw [hP]
  exact ⟨n, K, A2, Lg, G, rfl, rfl, h⟩
theorem myX3_wrongAt : jY yX3_wrongAt cX3_wrongAt 3 (some (.object "DogsHour$Fault"))  2 := ⟨q718, q127, by decide +kernel, by decide +kernel, by decide⟩
def fX3_wrongAt (n : Nat) (K : Nat → pKd) (A : pA) (Lg : pL) (G : pG) (kc : Nat) (ks : Nat) (p1 : Int32) (p2 : Int32) (Q : Nat → (Nat → pKd) → pA → pL → pG → Prop) : Prop :=
    (fOK n K G) ∧ ((vp_in p2 2001) ∧ (∃ kY2 sY3 : Nat, kY2 ≤ kc ∧ sY3 ≤ ks ∧ (fX1_of n K A Lg G kY2 sY3 p1 (A 6 (p2).toNatClampNeg) (fun n4 K5 A6 Lg7 G8 => Q n4 K5 A6 Lg7 G8))))
theorem tX3_wrongAt {Γ : jG} {n : Nat} {K : Nat → pKd} {G : pG} {A : pA} {Lg : pL} {kc ks : Nat} (p1 : Int32) (p2 : Int32) (Q : Nat → (Nat → pKd) → pA → pL → pG → Prop) (h : fX3_wrongAt n K A Lg G kc ks p1 p2 Q) : jMet Γ yX3_wrongAt cX3_wrongAt 3 (some (.object "DogsHour$Fault")) [] 2 kc ks [.ref 9, .int p1, .int p2] (n, K, A, Lg, G) (fun o u => ∃ (n' : Nat) (K' : Nat → pKd) (A' : pA) (Lg' : pL) (G' : pG), o = .inl (some (.ref 1)) ∧ u = (n', K', A', Lg', G') ∧ Q n' K' A' Lg' G') := by
  unfold fX3_wrongAt at h
  obtain ⟨P, hP⟩ : ∃ P : jO → pS → Prop, P = (fun o u => ∃ (n' : Nat) (K' : Nat → pKd) (A' : pA) (Lg' : pL) (G' : pG), o = .inl (some (.ref 1)) ∧ u = (n', K', A', Lg', G') ∧ Q n' K' A' Lg' G') := ⟨_, rfl⟩
  rw [← hP]
  refine jMet_of rfl rfl rfl (Nat.le_of_ble_eq_true rfl) ?_
  show J Γ RX3 cX3_wrongAt 3 (some (.object "DogsHour$Fault")) "wrongAt" [] 2 kc ks 0 [(0, .ref 9), (1, .int p1), (2, .int p2)] [] (n, K, A, Lg, G) P
  refine j_aload_n 0 rfl dX3_wrongAt_0 ?_
  obtain ⟨hf, h⟩ := h
  refine j_getfr fl_X3_15_3 rfl (f_lt hf (by decide)) (fk_9 hf) (fg_9_1 hf) dX3_wrongAt_1 ?_
  refine j_iload_n 1 rfl dX3_wrongAt_4 ?_
  refine j_aload_n 0 rfl dX3_wrongAt_5 ?_
  refine j_getfr fl_X3_9_3 rfl (f_lt hf (by decide)) (fk_9 hf) (fg_9_0 hf) dX3_wrongAt_6 ?_
  refine j_getfr fl_X3_19_2 rfl (f_lt hf (by decide)) (fk_2 hf) (fg_2_4 hf) dX3_wrongAt_9 ?_
  refine j_iload_n 2 rfl dX3_wrongAt_12 ?_
  obtain ⟨b1, h⟩ := h
  refine j_saldJ (j := (p2).toNatClampNeg) (f_lt hf (by decide)) (fk_6 hf) b1 rfl dX3_wrongAt_13 ?_
  obtain ⟨kY2, sY3, kY2h, sY3h, h⟩ := h
  refine j_callV (b := 1) (As := [.int p1, .int (A 6 (p2).toNatClampNeg)]) (st := []) (C := RX1) (kc' := kc - kY2) (ks' := ks - sY3) (tX1_of  p1 (A 6 (p2).toNatClampNeg) _ h) myX1_of rfl q719 q720 q721 (by decide) (fun s9 H9 hK9 hR9 h69 => jIs_in hK9 hR9 h69 (f_lt hf (by decide)) (fk_1 hf) rfl) rfl (Nat.le_of_ble_eq_true rfl) rfl (by decide) (by omega) (by omega) dX3_wrongAt_14 (fun v9 u9 hq => ?_) (fun k9 u9 hq => by obtain ⟨_, _, _, _, _, e9, _⟩ := hq; cases e9)
  obtain ⟨n4, K5, A6, Lg7, G8, e9, rfl, h⟩ := hq
  obtain rfl := Sum.inl.inj e9
  show J Γ RX3 cX3_wrongAt 3 (some (.object "DogsHour$Fault")) "wrongAt" [] 2 (kc - kY2) (ks - sY3) 17 [(0, .ref 9), (1, .int p1), (2, .int p2)] [.ref 1] (n4, K5, A6, Lg7, G8) P
  refine j_aret rfl (by first | exact Or.inl ⟨_, rfl⟩ | exact Or.inr ⟨_, rfl⟩) (Or.inr ⟨_, rfl⟩) ?_ dX3_wrongAt_17
  rw [hP]
  exact ⟨n4, K5, A6, Lg7, G8, rfl, rfl, h⟩
theorem myX3_wrong : jY yX3_wrong cX3_wrong 2 (some (.object "DogsHour$Fault"))  1 := ⟨q714, q127, by decide +kernel, by decide +kernel, by decide⟩
def fX3_wrong (n : Nat) (K : Nat → pKd) (A : pA) (Lg : pL) (G : pG) (kc : Nat) (ks : Nat) (p1 : Int32) (Q : Nat → (Nat → pKd) → pA → pL → pG → Prop) : Prop :=
    (fOK n K G) ∧ (∃ kY1 sY2 : Nat, kY1 ≤ kc ∧ sY2 ≤ ks ∧ (fX3_wrongAt n K A Lg G kY1 sY2 p1 (A 9 3) (fun n3 K4 A5 Lg6 G7 => Q n3 K4 A5 Lg6 G7)))
theorem tX3_wrong {Γ : jG} {n : Nat} {K : Nat → pKd} {G : pG} {A : pA} {Lg : pL} {kc ks : Nat} (p1 : Int32) (Q : Nat → (Nat → pKd) → pA → pL → pG → Prop) (h : fX3_wrong n K A Lg G kc ks p1 Q) : jMet Γ yX3_wrong cX3_wrong 2 (some (.object "DogsHour$Fault")) [] 3 kc ks [.ref 9, .int p1] (n, K, A, Lg, G) (fun o u => ∃ (n' : Nat) (K' : Nat → pKd) (A' : pA) (Lg' : pL) (G' : pG), o = .inl (some (.ref 1)) ∧ u = (n', K', A', Lg', G') ∧ Q n' K' A' Lg' G') := by
  unfold fX3_wrong at h
  obtain ⟨P, hP⟩ : ∃ P : jO → pS → Prop, P = (fun o u => ∃ (n' : Nat) (K' : Nat → pKd) (A' : pA) (Lg' : pL) (G' : pG), o = .inl (some (.ref 1)) ∧ u = (n', K', A', Lg', G') ∧ Q n' K' A' Lg' G') := ⟨_, rfl⟩
  rw [← hP]
  refine jMet_of rfl rfl rfl (Nat.le_of_ble_eq_true rfl) ?_
  show J Γ RX3 cX3_wrong 2 (some (.object "DogsHour$Fault")) "wrong" [] 3 kc ks 0 [(0, .ref 9), (1, .int p1)] [] (n, K, A, Lg, G) P
  refine j_aload_n 0 rfl dX3_wrong_0 ?_
  refine j_iload_n 1 rfl dX3_wrong_1 ?_
  refine j_aload_n 0 rfl dX3_wrong_2 ?_
  obtain ⟨hf, h⟩ := h
  refine j_getfi fl_X3_31_3 rfl (f_lt hf (by decide)) (fk_9 hf) dX3_wrong_3 ?_
  obtain ⟨kY1, sY2, kY1h, sY2h, h⟩ := h
  refine j_callV (b := 9) (As := [.int p1, .int (A 9 3)]) (st := []) (C := RX3) (kc' := kc - kY1) (ks' := ks - sY2) (tX3_wrongAt  p1 (A 9 3) _ h) myX3_wrongAt rfl q715 q717 qs10 (by decide) (fun s9 H9 hK9 hR9 h69 => jIs_in hK9 hR9 h69 (f_lt hf (by decide)) (fk_9 hf) rfl) rfl (Nat.le_of_ble_eq_true rfl) rfl (by decide) (by omega) (by omega) dX3_wrong_6 (fun v9 u9 hq => ?_) (fun k9 u9 hq => by obtain ⟨_, _, _, _, _, e9, _⟩ := hq; cases e9)
  obtain ⟨n3, K4, A5, Lg6, G7, e9, rfl, h⟩ := hq
  obtain rfl := Sum.inl.inj e9
  show J Γ RX3 cX3_wrong 2 (some (.object "DogsHour$Fault")) "wrong" [] 3 (kc - kY1) (ks - sY2) 9 [(0, .ref 9), (1, .int p1)] [.ref 1] (n3, K4, A5, Lg6, G7) P
  refine j_aret rfl (by first | exact Or.inl ⟨_, rfl⟩ | exact Or.inr ⟨_, rfl⟩) (Or.inr ⟨_, rfl⟩) ?_ dX3_wrong_9
  rw [hP]
  exact ⟨n3, K4, A5, Lg6, G7, rfl, rfl, h⟩
theorem myX3_pass : jY yX3_pass cX3_pass 1 none  0 := ⟨q730, q127, by decide +kernel, by decide +kernel, by decide⟩
def fX3_pass (n : Nat) (K : Nat → pKd) (A : pA) (Lg : pL) (G : pG) (kc : Nat) (ks : Nat) (X : Nat → (Nat → pKd) → pA → pL → pG → Prop) (Q : Nat → (Nat → pKd) → pA → pL → pG → Prop) : Prop :=
    (fOK n K G) ∧ ((if (A 9 3) < 400 then ∀ A1 : pA, A1 = pup A 9 3 ((A 9 3) + 1) → Q n K A1 Lg G else ∃ kY2 sY3 : Nat, kY2 ≤ kc ∧ sY3 ≤ ks ∧ (fX3_wrong n K A Lg G kY2 sY3 2 (fun n4 K5 A6 Lg7 G8 => (fOK n4 K5 G8) ∧ (X n4 K5 A6 Lg7 G8)))))
theorem tX3_pass {Γ : jG} {n : Nat} {K : Nat → pKd} {G : pG} {A : pA} {Lg : pL} {kc ks : Nat}  (X : Nat → (Nat → pKd) → pA → pL → pG → Prop) (Q : Nat → (Nat → pKd) → pA → pL → pG → Prop) (h : fX3_pass n K A Lg G kc ks X Q) : jMet Γ yX3_pass cX3_pass 1 none [] 4 kc ks [.ref 9] (n, K, A, Lg, G) (fun o u => (∃ (n' : Nat) (K' : Nat → pKd) (A' : pA) (Lg' : pL) (G' : pG), o = .inl none ∧ u = (n', K', A', Lg', G') ∧ Q n' K' A' Lg' G') ∨ (∃ (n' : Nat) (K' : Nat → pKd) (A' : pA) (Lg' : pL) (G' : pG), o = .inr 1 ∧ u = (n', K', A', Lg', G') ∧ X n' K' A' Lg' G')) := by
  unfold fX3_pass at h
  obtain ⟨P, hP⟩ : ∃ P : jO → pS → Prop, P = (fun o u => (∃ (n' : Nat) (K' : Nat → pKd) (A' : pA) (Lg' : pL) (G' : pG), o = .inl none ∧ u = (n', K', A', Lg', G') ∧ Q n' K' A' Lg' G') ∨ (∃ (n' : Nat) (K' : Nat → pKd) (A' : pA) (Lg' : pL) (G' : pG), o = .inr 1 ∧ u = (n', K', A', Lg', G') ∧ X n' K' A' Lg' G')) := ⟨_, rfl⟩
  rw [← hP]
  refine jMet_of rfl rfl rfl (Nat.le_of_ble_eq_true rfl) ?_
  show J Γ RX3 cX3_pass 1 none "pass" [] 4 kc ks 0 [(0, .ref 9)] [] (n, K, A, Lg, G) P
  refine j_aload_n 0 rfl dX3_pass_0 ?_
  obtain ⟨hf, h⟩ := h
  refine j_getfi fl_X3_31_3 rfl (f_lt hf (by decide)) (fk_9 hf) dX3_pass_1 ?_
  refine j_sipush (v := 400) dX3_pass_4 (by decide) ?_
  refine j_icmp_lt (tgt := 16) dX3_pass_7 (by decide) (fun c => ?_) (fun c => ?_)
  · rw [if_pos c] at h
    refine j_aload_n 0 rfl dX3_pass_16 ?_
    refine j_dup rfl dX3_pass_17 ?_
    refine j_getfi fl_X3_31_3 rfl (f_lt hf (by decide)) (fk_9 hf) dX3_pass_18 ?_
    refine j_iconst (v := 1) dX3_pass_21 (by decide) ?_
    refine j_iadd dX3_pass_22 ?_
    refine j_putfiE (fp_X3_31_3 _) rfl rfl rfl (f_lt hf (by decide)) (fk_9 hf) dX3_pass_23 (fun A1 eA1 => ?_)
    replace h := h A1 eA1
    refine j_vret rfl ?_ dX3_pass_26
    rw [hP]
    exact Or.inl ⟨n, K, A1, Lg, G, rfl, rfl, h⟩
  · rw [if_neg c] at h
    refine j_aload_n 0 rfl dX3_pass_10 ?_
    refine j_iconst (v := 2) dX3_pass_11 (by decide) ?_
    obtain ⟨kY2, sY3, kY2h, sY3h, h⟩ := h
    refine j_callV (b := 9) (As := [.int 2]) (st := []) (C := RX3) (kc' := kc - kY2) (ks' := ks - sY3) (tX3_wrong  2 _ h) myX3_wrong rfl q711 q713 qs9 (by decide) (fun s9 H9 hK9 hR9 h69 => jIs_in hK9 hR9 h69 (f_lt hf (by decide)) (fk_9 hf) rfl) rfl (Nat.le_of_ble_eq_true rfl) rfl (by decide) (by omega) (by omega) dX3_pass_12 (fun v9 u9 hq => ?_) (fun k9 u9 hq => by obtain ⟨_, _, _, _, _, e9, _⟩ := hq; cases e9)
    obtain ⟨n4, K5, A6, Lg7, G8, e9, rfl, h⟩ := hq
    obtain rfl := Sum.inl.inj e9
    show J Γ RX3 cX3_pass 1 none "pass" [] 4 (kc - kY2) (ks - sY3) 15 [(0, .ref 9)] [.ref 1] (n4, K5, A6, Lg7, G8) P
    obtain ⟨hf, h⟩ := h
    refine j_athrow (k := 1) (f_lt hf (by decide)) (fk_1 hf) ?_ dX3_pass_15
    rw [hP]
    exact Or.inr ⟨n4, K5, A6, Lg7, G8, rfl, rfl, h⟩
theorem myX3_sort : jY yX3_sort cX3_sort 1 (some .int)  0 := ⟨q710, q127, by decide +kernel, by decide +kernel, by decide⟩
def fX3_sort (n : Nat) (K : Nat → pKd) (A : pA) (Lg : pL) (G : pG) (kc : Nat) (ks : Nat) (X : Nat → (Nat → pKd) → pA → pL → pG → Prop) (Q : Int32 → Nat → (Nat → pKd) → pA → pL → pG → Prop) : Prop :=
    (fOK n K G) ∧ ((vp_in (A 9 3) 2001) ∧ ((if (A 5 (A 9 3).toNatClampNeg) = 5 then ∃ kY3 sY4 : Nat, kY3 ≤ kc ∧ sY4 ≤ ks ∧ (fX3_wrong n K A Lg G kY3 sY4 1 (fun n5 K6 A7 Lg8 G9 => (fOK n5 K6 G9) ∧ (X n5 K6 A7 Lg8 G9))) else (vp_in (A 9 3) 2001) ∧ (Q (A 5 (A 9 3).toNatClampNeg) n K A Lg G))))
theorem tX3_sort {Γ : jG} {n : Nat} {K : Nat → pKd} {G : pG} {A : pA} {Lg : pL} {kc ks : Nat}  (X : Nat → (Nat → pKd) → pA → pL → pG → Prop) (Q : Int32 → Nat → (Nat → pKd) → pA → pL → pG → Prop) (h : fX3_sort n K A Lg G kc ks X Q) : jMet Γ yX3_sort cX3_sort 1 (some .int) [] 4 kc ks [.ref 9] (n, K, A, Lg, G) (fun o u => (∃ (r : Int32) (n' : Nat) (K' : Nat → pKd) (A' : pA) (Lg' : pL) (G' : pG), o = .inl (some (.int r)) ∧ u = (n', K', A', Lg', G') ∧ Q r n' K' A' Lg' G') ∨ (∃ (n' : Nat) (K' : Nat → pKd) (A' : pA) (Lg' : pL) (G' : pG), o = .inr 1 ∧ u = (n', K', A', Lg', G') ∧ X n' K' A' Lg' G')) := by
  unfold fX3_sort at h
  obtain ⟨P, hP⟩ : ∃ P : jO → pS → Prop, P = (fun o u => (∃ (r : Int32) (n' : Nat) (K' : Nat → pKd) (A' : pA) (Lg' : pL) (G' : pG), o = .inl (some (.int r)) ∧ u = (n', K', A', Lg', G') ∧ Q r n' K' A' Lg' G') ∨ (∃ (n' : Nat) (K' : Nat → pKd) (A' : pA) (Lg' : pL) (G' : pG), o = .inr 1 ∧ u = (n', K', A', Lg', G') ∧ X n' K' A' Lg' G')) := ⟨_, rfl⟩
  rw [← hP]
  refine jMet_of rfl rfl rfl (Nat.le_of_ble_eq_true rfl) ?_
  show J Γ RX3 cX3_sort 1 (some .int) "sort" [] 4 kc ks 0 [(0, .ref 9)] [] (n, K, A, Lg, G) P
  refine j_aload_n 0 rfl dX3_sort_0 ?_
  obtain ⟨hf, h⟩ := h
  refine j_getfr fl_X3_9_3 rfl (f_lt hf (by decide)) (fk_9 hf) (fg_9_0 hf) dX3_sort_1 ?_
  refine j_getfr fl_X3_44_2 rfl (f_lt hf (by decide)) (fk_2 hf) (fg_2_3 hf) dX3_sort_4 ?_
  refine j_aload_n 0 rfl dX3_sort_7 ?_
  refine j_getfi fl_X3_31_3 rfl (f_lt hf (by decide)) (fk_9 hf) dX3_sort_8 ?_
  obtain ⟨b1, h⟩ := h
  refine j_baldJ (j := (A 9 3).toNatClampNeg) (f_lt hf (by decide)) (fk_5 hf) b1 rfl dX3_sort_11 ?_
  refine j_iconst (v := 5) dX3_sort_12 (by decide) ?_
  refine j_icmp_ne (tgt := 22) dX3_sort_13 (by decide) (fun c => ?_) (fun c => ?_)
  · rw [if_neg c] at h
    refine j_aload_n 0 rfl dX3_sort_22 ?_
    refine j_getfr fl_X3_9_3 rfl (f_lt hf (by decide)) (fk_9 hf) (fg_9_0 hf) dX3_sort_23 ?_
    refine j_getfr fl_X3_44_2 rfl (f_lt hf (by decide)) (fk_2 hf) (fg_2_3 hf) dX3_sort_26 ?_
    refine j_aload_n 0 rfl dX3_sort_29 ?_
    refine j_getfi fl_X3_31_3 rfl (f_lt hf (by decide)) (fk_9 hf) dX3_sort_30 ?_
    obtain ⟨b2, h⟩ := h
    refine j_baldJ (j := (A 9 3).toNatClampNeg) (f_lt hf (by decide)) (fk_5 hf) b2 rfl dX3_sort_33 ?_
    refine j_iret rfl ?_ dX3_sort_34
    rw [hP]
    exact Or.inl ⟨A 5 (A 9 3).toNatClampNeg, n, K, A, Lg, G, rfl, rfl, h⟩
  · rw [if_pos c] at h
    refine j_aload_n 0 rfl dX3_sort_16 ?_
    refine j_iconst (v := 1) dX3_sort_17 (by decide) ?_
    obtain ⟨kY3, sY4, kY3h, sY4h, h⟩ := h
    refine j_callV (b := 9) (As := [.int 1]) (st := []) (C := RX3) (kc' := kc - kY3) (ks' := ks - sY4) (tX3_wrong  1 _ h) myX3_wrong rfl q711 q713 qs9 (by decide) (fun s9 H9 hK9 hR9 h69 => jIs_in hK9 hR9 h69 (f_lt hf (by decide)) (fk_9 hf) rfl) rfl (Nat.le_of_ble_eq_true rfl) rfl (by decide) (by omega) (by omega) dX3_sort_18 (fun v9 u9 hq => ?_) (fun k9 u9 hq => by obtain ⟨_, _, _, _, _, e9, _⟩ := hq; cases e9)
    obtain ⟨n5, K6, A7, Lg8, G9, e9, rfl, h⟩ := hq
    obtain rfl := Sum.inl.inj e9
    show J Γ RX3 cX3_sort 1 (some .int) "sort" [] 4 (kc - kY3) (ks - sY4) 21 [(0, .ref 9)] [.ref 1] (n5, K6, A7, Lg8, G9) P
    obtain ⟨hf, h⟩ := h
    refine j_athrow (k := 1) (f_lt hf (by decide)) (fk_1 hf) ?_ dX3_sort_21
    rw [hP]
    exact Or.inr ⟨n5, K6, A7, Lg8, G9, rfl, rfl, h⟩
theorem myX3_sign : jY yX3_sign cX3_sign 2 none  1 := ⟨q763, q127, by decide +kernel, by decide +kernel, by decide⟩
def fX3_sign (n : Nat) (K : Nat → pKd) (A : pA) (Lg : pL) (G : pG) (kc : Nat) (ks : Nat) (p1 : Int32) (X : Nat → (Nat → pKd) → pA → pL → pG → Prop) (Q : Nat → (Nat → pKd) → pA → pL → pG → Prop) : Prop :=
    (fOK n K G) ∧ (fX3_isSign A p1 (fun r1 => (if r1 = 0 then ∃ kY9 sY10 : Nat, kY9 ≤ kc ∧ sY10 ≤ ks ∧ (fX3_wrong n K A Lg G kY9 sY10 1 (fun n11 K12 A13 Lg14 G15 => (fOK n11 K12 G15) ∧ (X n11 K12 A13 Lg14 G15))) else ∃ kY2 sY3 : Nat, kY2 ≤ kc ∧ sY3 ≤ ks ∧ (fX3_pass n K A Lg G kY2 sY3 X (fun n4 K5 A6 Lg7 G8 => Q n4 K5 A6 Lg7 G8)))))
theorem tX3_sign {Γ : jG} {n : Nat} {K : Nat → pKd} {G : pG} {A : pA} {Lg : pL} {kc ks : Nat} (p1 : Int32) (X : Nat → (Nat → pKd) → pA → pL → pG → Prop) (Q : Nat → (Nat → pKd) → pA → pL → pG → Prop) (h : fX3_sign n K A Lg G kc ks p1 X Q) : jMet Γ yX3_sign cX3_sign 2 none [] 5 kc ks [.ref 9, .int p1] (n, K, A, Lg, G) (fun o u => (∃ (n' : Nat) (K' : Nat → pKd) (A' : pA) (Lg' : pL) (G' : pG), o = .inl none ∧ u = (n', K', A', Lg', G') ∧ Q n' K' A' Lg' G') ∨ (∃ (n' : Nat) (K' : Nat → pKd) (A' : pA) (Lg' : pL) (G' : pG), o = .inr 1 ∧ u = (n', K', A', Lg', G') ∧ X n' K' A' Lg' G')) := by
  unfold fX3_sign at h
  obtain ⟨P, hP⟩ : ∃ P : jO → pS → Prop, P = (fun o u => (∃ (n' : Nat) (K' : Nat → pKd) (A' : pA) (Lg' : pL) (G' : pG), o = .inl none ∧ u = (n', K', A', Lg', G') ∧ Q n' K' A' Lg' G') ∨ (∃ (n' : Nat) (K' : Nat → pKd) (A' : pA) (Lg' : pL) (G' : pG), o = .inr 1 ∧ u = (n', K', A', Lg', G') ∧ X n' K' A' Lg' G')) := ⟨_, rfl⟩
  rw [← hP]
  refine jMet_of rfl rfl rfl (Nat.le_of_ble_eq_true rfl) ?_
  show J Γ RX3 cX3_sign 2 none "sign" [] 5 kc ks 0 [(0, .ref 9), (1, .int p1)] [] (n, K, A, Lg, G) P
  refine j_aload_n 0 rfl dX3_sign_0 ?_
  refine j_iload_n 1 rfl dX3_sign_1 ?_
  obtain ⟨hf, h⟩ := h
  refine j_callV (b := 9) (As := [.int p1]) (st := []) (C := RX3) (kc' := kc) (ks' := ks) (tX3_isSign hf p1 _ h) myX3_isSign rfl q764 q766 qs15 (by decide) (fun s9 H9 hK9 hR9 h69 => jIs_in hK9 hR9 h69 (f_lt hf (by decide)) (fk_9 hf) rfl) rfl (Nat.le_of_ble_eq_true rfl) rfl (by decide) (Nat.le_refl _) (Nat.le_refl _) dX3_sign_2 (fun v9 u9 hq => ?_) (fun k9 u9 hq => by obtain ⟨_, e9, _⟩ := hq; cases e9)
  obtain ⟨r1, e9, rfl, h⟩ := hq
  obtain rfl := Sum.inl.inj e9
  show J Γ RX3 cX3_sign 2 none "sign" [] 5 kc ks 5 [(0, .ref 9), (1, .int p1)] [.int r1] (n, K, A, Lg, G) P
  refine j_if_ne (tgt := 14) dX3_sign_5 (by decide) (fun c => ?_) (fun c => ?_)
  · rw [if_neg c] at h
    refine j_aload_n 0 rfl dX3_sign_14 ?_
    obtain ⟨kY2, sY3, kY2h, sY3h, h⟩ := h
    refine j_callV (b := 9) (As := []) (st := []) (C := RX3) (kc' := kc - kY2) (ks' := ks - sY3) (tX3_pass   X _ h) myX3_pass rfl q727 q729 qs12 (by decide) (fun s9 H9 hK9 hR9 h69 => jIs_in hK9 hR9 h69 (f_lt hf (by decide)) (fk_9 hf) rfl) rfl (Nat.le_of_ble_eq_true rfl) rfl (by decide) (by omega) (by omega) dX3_sign_15 (fun v9 u9 hq => ?_) (fun k9 u9 hq => by rcases hq with ⟨_, _, _, _, _, e9, _⟩ | ⟨n9, K9, A9, L9, G9, e9, e8, hX⟩; exact nomatch e9; rw [hP]; exact Or.inr ⟨n9, K9, A9, L9, G9, e9, e8, hX⟩)
    rcases hq with hq | ⟨n9, K9, A9, L9, G9, e9, e8, hX⟩
    rotate_left
    · exact nomatch e9
    obtain ⟨n4, K5, A6, Lg7, G8, e9, rfl, h⟩ := hq
    obtain rfl := Sum.inl.inj e9
    show J Γ RX3 cX3_sign 2 none "sign" [] 5 (kc - kY2) (ks - sY3) 18 [(0, .ref 9), (1, .int p1)] [] (n4, K5, A6, Lg7, G8) P
    refine j_vret rfl ?_ dX3_sign_18
    rw [hP]
    exact Or.inl ⟨n4, K5, A6, Lg7, G8, rfl, rfl, h⟩
  · rw [if_pos c] at h
    refine j_aload_n 0 rfl dX3_sign_8 ?_
    refine j_iconst (v := 1) dX3_sign_9 (by decide) ?_
    obtain ⟨kY9, sY10, kY9h, sY10h, h⟩ := h
    refine j_callV (b := 9) (As := [.int 1]) (st := []) (C := RX3) (kc' := kc - kY9) (ks' := ks - sY10) (tX3_wrong  1 _ h) myX3_wrong rfl q711 q713 qs9 (by decide) (fun s9 H9 hK9 hR9 h69 => jIs_in hK9 hR9 h69 (f_lt hf (by decide)) (fk_9 hf) rfl) rfl (Nat.le_of_ble_eq_true rfl) rfl (by decide) (by omega) (by omega) dX3_sign_10 (fun v9 u9 hq => ?_) (fun k9 u9 hq => by obtain ⟨_, _, _, _, _, e9, _⟩ := hq; cases e9)
    obtain ⟨n11, K12, A13, Lg14, G15, e9, rfl, h⟩ := hq
    obtain rfl := Sum.inl.inj e9
    show J Γ RX3 cX3_sign 2 none "sign" [] 5 (kc - kY9) (ks - sY10) 13 [(0, .ref 9), (1, .int p1)] [.ref 1] (n11, K12, A13, Lg14, G15) P
    obtain ⟨hf, h⟩ := h
    refine j_athrow (k := 1) (f_lt hf (by decide)) (fk_1 hf) ?_ dX3_sign_13
    rw [hP]
    exact Or.inr ⟨n11, K12, A13, Lg14, G15, rfl, rfl, h⟩
theorem myX3_word : jY yX3_word cX3_word 2 none  1 := ⟨q834, q127, by decide +kernel, by decide +kernel, by decide⟩
def fX3_word (n : Nat) (K : Nat → pKd) (A : pA) (Lg : pL) (G : pG) (kc : Nat) (ks : Nat) (p1 : Int32) (X : Nat → (Nat → pKd) → pA → pL → pG → Prop) (Q : Nat → (Nat → pKd) → pA → pL → pG → Prop) : Prop :=
    (fOK n K G) ∧ (fX3_isWord A p1 (fun r1 => (if r1 = 0 then ∃ kY9 sY10 : Nat, kY9 ≤ kc ∧ sY10 ≤ ks ∧ (fX3_wrong n K A Lg G kY9 sY10 1 (fun n11 K12 A13 Lg14 G15 => (fOK n11 K12 G15) ∧ (X n11 K12 A13 Lg14 G15))) else ∃ kY2 sY3 : Nat, kY2 ≤ kc ∧ sY3 ≤ ks ∧ (fX3_pass n K A Lg G kY2 sY3 X (fun n4 K5 A6 Lg7 G8 => Q n4 K5 A6 Lg7 G8)))))
theorem tX3_word {Γ : jG} {n : Nat} {K : Nat → pKd} {G : pG} {A : pA} {Lg : pL} {kc ks : Nat} (p1 : Int32) (X : Nat → (Nat → pKd) → pA → pL → pG → Prop) (Q : Nat → (Nat → pKd) → pA → pL → pG → Prop) (h : fX3_word n K A Lg G kc ks p1 X Q) : jMet Γ yX3_word cX3_word 2 none [] 5 kc ks [.ref 9, .int p1] (n, K, A, Lg, G) (fun o u => (∃ (n' : Nat) (K' : Nat → pKd) (A' : pA) (Lg' : pL) (G' : pG), o = .inl none ∧ u = (n', K', A', Lg', G') ∧ Q n' K' A' Lg' G') ∨ (∃ (n' : Nat) (K' : Nat → pKd) (A' : pA) (Lg' : pL) (G' : pG), o = .inr 1 ∧ u = (n', K', A', Lg', G') ∧ X n' K' A' Lg' G')) := by
  unfold fX3_word at h
  obtain ⟨P, hP⟩ : ∃ P : jO → pS → Prop, P = (fun o u => (∃ (n' : Nat) (K' : Nat → pKd) (A' : pA) (Lg' : pL) (G' : pG), o = .inl none ∧ u = (n', K', A', Lg', G') ∧ Q n' K' A' Lg' G') ∨ (∃ (n' : Nat) (K' : Nat → pKd) (A' : pA) (Lg' : pL) (G' : pG), o = .inr 1 ∧ u = (n', K', A', Lg', G') ∧ X n' K' A' Lg' G')) := ⟨_, rfl⟩
  rw [← hP]
  refine jMet_of rfl rfl rfl (Nat.le_of_ble_eq_true rfl) ?_
  show J Γ RX3 cX3_word 2 none "word" [] 5 kc ks 0 [(0, .ref 9), (1, .int p1)] [] (n, K, A, Lg, G) P
  refine j_aload_n 0 rfl dX3_word_0 ?_
  refine j_iload_n 1 rfl dX3_word_1 ?_
  obtain ⟨hf, h⟩ := h
  refine j_callV (b := 9) (As := [.int p1]) (st := []) (C := RX3) (kc' := kc) (ks' := ks) (tX3_isWord hf p1 _ h) myX3_isWord rfl q768 q770 qs16 (by decide) (fun s9 H9 hK9 hR9 h69 => jIs_in hK9 hR9 h69 (f_lt hf (by decide)) (fk_9 hf) rfl) rfl (Nat.le_of_ble_eq_true rfl) rfl (by decide) (Nat.le_refl _) (Nat.le_refl _) dX3_word_2 (fun v9 u9 hq => ?_) (fun k9 u9 hq => by obtain ⟨_, e9, _⟩ := hq; cases e9)
  obtain ⟨r1, e9, rfl, h⟩ := hq
  obtain rfl := Sum.inl.inj e9
  show J Γ RX3 cX3_word 2 none "word" [] 5 kc ks 5 [(0, .ref 9), (1, .int p1)] [.int r1] (n, K, A, Lg, G) P
  refine j_if_ne (tgt := 14) dX3_word_5 (by decide) (fun c => ?_) (fun c => ?_)
  · rw [if_neg c] at h
    refine j_aload_n 0 rfl dX3_word_14 ?_
    obtain ⟨kY2, sY3, kY2h, sY3h, h⟩ := h
    refine j_callV (b := 9) (As := []) (st := []) (C := RX3) (kc' := kc - kY2) (ks' := ks - sY3) (tX3_pass   X _ h) myX3_pass rfl q727 q729 qs12 (by decide) (fun s9 H9 hK9 hR9 h69 => jIs_in hK9 hR9 h69 (f_lt hf (by decide)) (fk_9 hf) rfl) rfl (Nat.le_of_ble_eq_true rfl) rfl (by decide) (by omega) (by omega) dX3_word_15 (fun v9 u9 hq => ?_) (fun k9 u9 hq => by rcases hq with ⟨_, _, _, _, _, e9, _⟩ | ⟨n9, K9, A9, L9, G9, e9, e8, hX⟩; exact nomatch e9; rw [hP]; exact Or.inr ⟨n9, K9, A9, L9, G9, e9, e8, hX⟩)
    rcases hq with hq | ⟨n9, K9, A9, L9, G9, e9, e8, hX⟩
    rotate_left
    · exact nomatch e9
    obtain ⟨n4, K5, A6, Lg7, G8, e9, rfl, h⟩ := hq
    obtain rfl := Sum.inl.inj e9
    show J Γ RX3 cX3_word 2 none "word" [] 5 (kc - kY2) (ks - sY3) 18 [(0, .ref 9), (1, .int p1)] [] (n4, K5, A6, Lg7, G8) P
    refine j_vret rfl ?_ dX3_word_18
    rw [hP]
    exact Or.inl ⟨n4, K5, A6, Lg7, G8, rfl, rfl, h⟩
  · rw [if_pos c] at h
    refine j_aload_n 0 rfl dX3_word_8 ?_
    refine j_iconst (v := 1) dX3_word_9 (by decide) ?_
    obtain ⟨kY9, sY10, kY9h, sY10h, h⟩ := h
    refine j_callV (b := 9) (As := [.int 1]) (st := []) (C := RX3) (kc' := kc - kY9) (ks' := ks - sY10) (tX3_wrong  1 _ h) myX3_wrong rfl q711 q713 qs9 (by decide) (fun s9 H9 hK9 hR9 h69 => jIs_in hK9 hR9 h69 (f_lt hf (by decide)) (fk_9 hf) rfl) rfl (Nat.le_of_ble_eq_true rfl) rfl (by decide) (by omega) (by omega) dX3_word_10 (fun v9 u9 hq => ?_) (fun k9 u9 hq => by obtain ⟨_, _, _, _, _, e9, _⟩ := hq; cases e9)
    obtain ⟨n11, K12, A13, Lg14, G15, e9, rfl, h⟩ := hq
    obtain rfl := Sum.inl.inj e9
    show J Γ RX3 cX3_word 2 none "word" [] 5 (kc - kY9) (ks - sY10) 13 [(0, .ref 9), (1, .int p1)] [.ref 1] (n11, K12, A13, Lg14, G15) P
    obtain ⟨hf, h⟩ := h
    refine j_athrow (k := 1) (f_lt hf (by decide)) (fk_1 hf) ?_ dX3_word_13
    rw [hP]
    exact Or.inr ⟨n11, K12, A13, Lg14, G15, rfl, rfl, h⟩
theorem myX3_take : jY yX3_take cX3_take 2 (some .int)  1 := ⟨q845, q127, by decide +kernel, by decide +kernel, by decide⟩
def fX3_take (n : Nat) (K : Nat → pKd) (A : pA) (Lg : pL) (G : pG) (kc : Nat) (ks : Nat) (p1 : Int32) (X : Nat → (Nat → pKd) → pA → pL → pG → Prop) (Q : Int32 → Nat → (Nat → pKd) → pA → pL → pG → Prop) : Prop :=
    ∃ kY1 sY2 : Nat, kY1 ≤ kc ∧ sY2 ≤ ks ∧ ((fOK n K G) ∧ (fX3_sort n K A Lg G kY1 sY2 X (fun r3 n4 K5 A6 Lg7 G8 => (if r3 = p1 then ∃ kY9 sY10 : Nat, kY9 ≤ kc - kY1 ∧ sY10 ≤ ks - sY2 ∧ ((fOK n4 K5 G8) ∧ (fX3_pass n4 K5 A6 Lg7 G8 kY9 sY10 X (fun n11 K12 A13 Lg14 G15 => (fOK n11 K12 G15) ∧ (Q ((A13 9 3) - 1) n11 K12 A13 Lg14 G15)))) else ∃ kY16 sY17 : Nat, kY16 ≤ kc - kY1 ∧ sY17 ≤ ks - sY2 ∧ ((fOK n4 K5 G8) ∧ (fX3_wrong n4 K5 A6 Lg7 G8 kY16 sY17 1 (fun n18 K19 A20 Lg21 G22 => (fOK n18 K19 G22) ∧ (X n18 K19 A20 Lg21 G22))))))))
theorem tX3_take {Γ : jG} {n : Nat} {K : Nat → pKd} {G : pG} {A : pA} {Lg : pL} {kc ks : Nat} (p1 : Int32) (X : Nat → (Nat → pKd) → pA → pL → pG → Prop) (Q : Int32 → Nat → (Nat → pKd) → pA → pL → pG → Prop) (h : fX3_take n K A Lg G kc ks p1 X Q) : jMet Γ yX3_take cX3_take 2 (some .int) [] 5 kc ks [.ref 9, .int p1] (n, K, A, Lg, G) (fun o u => (∃ (r : Int32) (n' : Nat) (K' : Nat → pKd) (A' : pA) (Lg' : pL) (G' : pG), o = .inl (some (.int r)) ∧ u = (n', K', A', Lg', G') ∧ Q r n' K' A' Lg' G') ∨ (∃ (n' : Nat) (K' : Nat → pKd) (A' : pA) (Lg' : pL) (G' : pG), o = .inr 1 ∧ u = (n', K', A', Lg', G') ∧ X n' K' A' Lg' G')) := by
  unfold fX3_take at h
  obtain ⟨P, hP⟩ : ∃ P : jO → pS → Prop, P = (fun o u => (∃ (r : Int32) (n' : Nat) (K' : Nat → pKd) (A' : pA) (Lg' : pL) (G' : pG), o = .inl (some (.int r)) ∧ u = (n', K', A', Lg', G') ∧ Q r n' K' A' Lg' G') ∨ (∃ (n' : Nat) (K' : Nat → pKd) (A' : pA) (Lg' : pL) (G' : pG), o = .inr 1 ∧ u = (n', K', A', Lg', G') ∧ X n' K' A' Lg' G')) := ⟨_, rfl⟩
  rw [← hP]
  refine jMet_of rfl rfl rfl (Nat.le_of_ble_eq_true rfl) ?_
  show J Γ RX3 cX3_take 2 (some .int) "take" [] 5 kc ks 0 [(0, .ref 9), (1, .int p1)] [] (n, K, A, Lg, G) P
  refine j_aload_n 0 rfl dX3_take_0 ?_
  obtain ⟨kY1, sY2, kY1h, sY2h, h⟩ := h
  obtain ⟨hf, h⟩ := h
  refine j_callV (b := 9) (As := []) (st := []) (C := RX3) (kc' := kc - kY1) (ks' := ks - sY2) (tX3_sort   X _ h) myX3_sort rfl q707 q709 qs8 (by decide) (fun s9 H9 hK9 hR9 h69 => jIs_in hK9 hR9 h69 (f_lt hf (by decide)) (fk_9 hf) rfl) rfl (Nat.le_of_ble_eq_true rfl) rfl (by decide) (by omega) (by omega) dX3_take_1 (fun v9 u9 hq => ?_) (fun k9 u9 hq => by rcases hq with ⟨_, _, _, _, _, _, e9, _⟩ | ⟨n9, K9, A9, L9, G9, e9, e8, hX⟩; exact nomatch e9; rw [hP]; exact Or.inr ⟨n9, K9, A9, L9, G9, e9, e8, hX⟩)
  rcases hq with hq | ⟨n9, K9, A9, L9, G9, e9, e8, hX⟩
  rotate_left
  · exact nomatch e9
  obtain ⟨r3, n4, K5, A6, Lg7, G8, e9, rfl, h⟩ := hq
  obtain rfl := Sum.inl.inj e9
  show J Γ RX3 cX3_take 2 (some .int) "take" [] 5 (kc - kY1) (ks - sY2) 4 [(0, .ref 9), (1, .int p1)] [.int r3] (n4, K5, A6, Lg7, G8) P
  refine j_iload_n 1 rfl dX3_take_4 ?_
  refine j_icmp_eq (tgt := 14) dX3_take_5 (by decide) (fun c => ?_) (fun c => ?_)
  · rw [if_pos c] at h
    refine j_aload_n 0 rfl dX3_take_14 ?_
    obtain ⟨kY9, sY10, kY9h, sY10h, h⟩ := h
    obtain ⟨hf, h⟩ := h
    refine j_callV (b := 9) (As := []) (st := []) (C := RX3) (kc' := kc - kY1 - kY9) (ks' := ks - sY2 - sY10) (tX3_pass   X _ h) myX3_pass rfl q727 q729 qs12 (by decide) (fun s9 H9 hK9 hR9 h69 => jIs_in hK9 hR9 h69 (f_lt hf (by decide)) (fk_9 hf) rfl) rfl (Nat.le_of_ble_eq_true rfl) rfl (by decide) (by omega) (by omega) dX3_take_15 (fun v9 u9 hq => ?_) (fun k9 u9 hq => by rcases hq with ⟨_, _, _, _, _, e9, _⟩ | ⟨n9, K9, A9, L9, G9, e9, e8, hX⟩; exact nomatch e9; rw [hP]; exact Or.inr ⟨n9, K9, A9, L9, G9, e9, e8, hX⟩)
    rcases hq with hq | ⟨n9, K9, A9, L9, G9, e9, e8, hX⟩
    rotate_left
    · exact nomatch e9
    obtain ⟨n11, K12, A13, Lg14, G15, e9, rfl, h⟩ := hq
    obtain rfl := Sum.inl.inj e9
    show J Γ RX3 cX3_take 2 (some .int) "take" [] 5 (kc - kY1 - kY9) (ks - sY2 - sY10) 18 [(0, .ref 9), (1, .int p1)] [] (n11, K12, A13, Lg14, G15) P
    refine j_aload_n 0 rfl dX3_take_18 ?_
    obtain ⟨hf, h⟩ := h
    refine j_getfi fl_X3_31_3 rfl (f_lt hf (by decide)) (fk_9 hf) dX3_take_19 ?_
    refine j_iconst (v := 1) dX3_take_22 (by decide) ?_
    refine j_isub dX3_take_23 ?_
    refine j_iret rfl ?_ dX3_take_24
    rw [hP]
    exact Or.inl ⟨(A13 9 3) - 1, n11, K12, A13, Lg14, G15, rfl, rfl, h⟩
  · rw [if_neg c] at h
    refine j_aload_n 0 rfl dX3_take_8 ?_
    refine j_iconst (v := 1) dX3_take_9 (by decide) ?_
    obtain ⟨kY16, sY17, kY16h, sY17h, h⟩ := h
    obtain ⟨hf, h⟩ := h
    refine j_callV (b := 9) (As := [.int 1]) (st := []) (C := RX3) (kc' := kc - kY1 - kY16) (ks' := ks - sY2 - sY17) (tX3_wrong  1 _ h) myX3_wrong rfl q711 q713 qs9 (by decide) (fun s9 H9 hK9 hR9 h69 => jIs_in hK9 hR9 h69 (f_lt hf (by decide)) (fk_9 hf) rfl) rfl (Nat.le_of_ble_eq_true rfl) rfl (by decide) (by omega) (by omega) dX3_take_10 (fun v9 u9 hq => ?_) (fun k9 u9 hq => by obtain ⟨_, _, _, _, _, e9, _⟩ := hq; cases e9)
    obtain ⟨n18, K19, A20, Lg21, G22, e9, rfl, h⟩ := hq
    obtain rfl := Sum.inl.inj e9
    show J Γ RX3 cX3_take 2 (some .int) "take" [] 5 (kc - kY1 - kY16) (ks - sY2 - sY17) 13 [(0, .ref 9), (1, .int p1)] [.ref 1] (n18, K19, A20, Lg21, G22) P
    obtain ⟨hf, h⟩ := h
    refine j_athrow (k := 1) (f_lt hf (by decide)) (fk_1 hf) ?_ dX3_take_13
    rw [hP]
    exact Or.inr ⟨n18, K19, A20, Lg21, G22, rfl, rfl, h⟩
theorem myX3_begins : jY yX3_begins cX3_begins 3 none  2 := ⟨q775, q127, by decide +kernel, by decide +kernel, by decide⟩
def fX3_begins (n : Nat) (K : Nat → pKd) (A : pA) (Lg : pL) (G : pG) (kc : Nat) (ks : Nat) (p1 : Int32) (p2 : Int32) (X : Nat → (Nat → pKd) → pA → pL → pG → Prop) (Q : Nat → (Nat → pKd) → pA → pL → pG → Prop) : Prop :=
    (if p1 = p2 then ∃ kY8 sY9 : Nat, kY8 ≤ kc ∧ sY9 ≤ ks ∧ ((fOK n K G) ∧ (fX3_wrong n K A Lg G kY8 sY9 2 (fun n10 K11 A12 Lg13 G14 => (fOK n10 K11 G14) ∧ (X n10 K11 A12 Lg13 G14)))) else ∃ kY1 sY2 : Nat, kY1 ≤ kc ∧ sY2 ≤ ks ∧ ((fOK n K G) ∧ (fX3_pass n K A Lg G kY1 sY2 X (fun n3 K4 A5 Lg6 G7 => Q n3 K4 A5 Lg6 G7))))
theorem tX3_begins {Γ : jG} {n : Nat} {K : Nat → pKd} {G : pG} {A : pA} {Lg : pL} {kc ks : Nat} (p1 : Int32) (p2 : Int32) (X : Nat → (Nat → pKd) → pA → pL → pG → Prop) (Q : Nat → (Nat → pKd) → pA → pL → pG → Prop) (h : fX3_begins n K A Lg G kc ks p1 p2 X Q) : jMet Γ yX3_begins cX3_begins 3 none [] 5 kc ks [.ref 9, .int p1, .int p2] (n, K, A, Lg, G) (fun o u => (∃ (n' : Nat) (K' : Nat → pKd) (A' : pA) (Lg' : pL) (G' : pG), o = .inl none ∧ u = (n', K', A', Lg', G') ∧ Q n' K' A' Lg' G') ∨ (∃ (n' : Nat) (K' : Nat → pKd) (A' : pA) (Lg' : pL) (G' : pG), o = .inr 1 ∧ u = (n', K', A', Lg', G') ∧ X n' K' A' Lg' G')) := by
  unfold fX3_begins at h
  obtain ⟨P, hP⟩ : ∃ P : jO → pS → Prop, P = (fun o u => (∃ (n' : Nat) (K' : Nat → pKd) (A' : pA) (Lg' : pL) (G' : pG), o = .inl none ∧ u = (n', K', A', Lg', G') ∧ Q n' K' A' Lg' G') ∨ (∃ (n' : Nat) (K' : Nat → pKd) (A' : pA) (Lg' : pL) (G' : pG), o = .inr 1 ∧ u = (n', K', A', Lg', G') ∧ X n' K' A' Lg' G')) := ⟨_, rfl⟩
  rw [← hP]
  refine jMet_of rfl rfl rfl (Nat.le_of_ble_eq_true rfl) ?_
  show J Γ RX3 cX3_begins 3 none "begins" [] 5 kc ks 0 [(0, .ref 9), (1, .int p1), (2, .int p2)] [] (n, K, A, Lg, G) P
  refine j_iload_n 1 rfl dX3_begins_0 ?_
  refine j_iload_n 2 rfl dX3_begins_1 ?_
  refine j_icmp_ne (tgt := 11) dX3_begins_2 (by decide) (fun c => ?_) (fun c => ?_)
  · rw [if_neg c] at h
    refine j_aload_n 0 rfl dX3_begins_11 ?_
    obtain ⟨kY1, sY2, kY1h, sY2h, h⟩ := h
    obtain ⟨hf, h⟩ := h
    refine j_callV (b := 9) (As := []) (st := []) (C := RX3) (kc' := kc - kY1) (ks' := ks - sY2) (tX3_pass   X _ h) myX3_pass rfl q727 q729 qs12 (by decide) (fun s9 H9 hK9 hR9 h69 => jIs_in hK9 hR9 h69 (f_lt hf (by decide)) (fk_9 hf) rfl) rfl (Nat.le_of_ble_eq_true rfl) rfl (by decide) (by omega) (by omega) dX3_begins_12 (fun v9 u9 hq => ?_) (fun k9 u9 hq => by rcases hq with ⟨_, _, _, _, _, e9, _⟩ | ⟨n9, K9, A9, L9, G9, e9, e8, hX⟩; exact nomatch e9; rw [hP]; exact Or.inr ⟨n9, K9, A9, L9, G9, e9, e8, hX⟩)
    rcases hq with hq | ⟨n9, K9, A9, L9, G9, e9, e8, hX⟩
    rotate_left
    · exact nomatch e9
    obtain ⟨n3, K4, A5, Lg6, G7, e9, rfl, h⟩ := hq
    obtain rfl := Sum.inl.inj e9
    show J Γ RX3 cX3_begins 3 none "begins" [] 5 (kc - kY1) (ks - sY2) 15 [(0, .ref 9), (1, .int p1), (2, .int p2)] [] (n3, K4, A5, Lg6, G7) P
    refine j_vret rfl ?_ dX3_begins_15
    rw [hP]
    exact Or.inl ⟨n3, K4, A5, Lg6, G7, rfl, rfl, h⟩
  · rw [if_pos c] at h
    refine j_aload_n 0 rfl dX3_begins_5 ?_
    refine j_iconst (v := 2) dX3_begins_6 (by decide) ?_
    obtain ⟨kY8, sY9, kY8h, sY9h, h⟩ := h
    obtain ⟨hf, h⟩ := h
    refine j_callV (b := 9) (As := [.int 2]) (st := []) (C := RX3) (kc' := kc - kY8) (ks' := ks - sY9) (tX3_wrong  2 _ h) myX3_wrong rfl q711 q713 qs9 (by decide) (fun s9 H9 hK9 hR9 h69 => jIs_in hK9 hR9 h69 (f_lt hf (by decide)) (fk_9 hf) rfl) rfl (Nat.le_of_ble_eq_true rfl) rfl (by decide) (by omega) (by omega) dX3_begins_7 (fun v9 u9 hq => ?_) (fun k9 u9 hq => by obtain ⟨_, _, _, _, _, e9, _⟩ := hq; cases e9)
    obtain ⟨n10, K11, A12, Lg13, G14, e9, rfl, h⟩ := hq
    obtain rfl := Sum.inl.inj e9
    show J Γ RX3 cX3_begins 3 none "begins" [] 5 (kc - kY8) (ks - sY9) 10 [(0, .ref 9), (1, .int p1), (2, .int p2)] [.ref 1] (n10, K11, A12, Lg13, G14) P
    obtain ⟨hf, h⟩ := h
    refine j_athrow (k := 1) (f_lt hf (by decide)) (fk_1 hf) ?_ dX3_begins_10
    rw [hP]
    exact Or.inr ⟨n10, K11, A12, Lg13, G14, rfl, rfl, h⟩
theorem myX3_number : jY yX3_number cX3_number 5 (some .int)  2 := ⟨q1144, q127, by decide +kernel, by decide +kernel, by decide⟩
def fX3_number_J28   (X : Nat → (Nat → pKd) → pA → pL → pG → Prop) (Q : Int32 → Nat → (Nat → pKd) → pA → pL → pG → Prop) (l3 : Int32) (l4 : Int32) (n : Nat) (K : Nat → pKd) (A : pA) (Lg : pL) (G : pG) (kc : Nat) (ks : Nat) : Prop :=
    (fOK n K G) ∧ (fX3_tell A 5 l3 (fun A1 => Q l4 n K A1 Lg G))
theorem fX3_number_J28_ok {Γ : jG} (X : Nat → (Nat → pKd) → pA → pL → pG → Prop) (Q : Int32 → Nat → (Nat → pKd) → pA → pL → pG → Prop) (P : jO → pS → Prop) (hP : P = (fun o u => (∃ (r : Int32) (n' : Nat) (K' : Nat → pKd) (A' : pA) (Lg' : pL) (G' : pG), o = .inl (some (.int r)) ∧ u = (n', K', A', Lg', G') ∧ Q r n' K' A' Lg' G') ∨ (∃ (n' : Nat) (K' : Nat → pKd) (A' : pA) (Lg' : pL) (G' : pG), o = .inr 1 ∧ u = (n', K', A', Lg', G') ∧ X n' K' A' Lg' G')))   (l3 : Int32) (l4 : Int32) (n : Nat) (K : Nat → pKd) (A : pA) (Lg : pL) (G : pG) (kc : Nat) (ks : Nat) (h : fX3_number_J28   X Q l3 l4 n K A Lg G kc ks) : J Γ RX3 cX3_number 5 (some .int) "number" [] 6 kc ks 28 [(0, .ref 9), (3, .int l3), (4, .int l4)] [] (n, K, A, Lg, G) P := by
  unfold fX3_number_J28 at h
  refine j_aload_n 0 rfl dX3_number_28 ?_
  refine j_iconst (v := 5) dX3_number_29 (by decide) ?_
  refine j_iload_n 1 rfl dX3_number_30 ?_
  obtain ⟨hf, h⟩ := h
  refine j_callV (b := 9) (As := [.int 5, .int l3]) (st := []) (C := RX3) (kc' := kc) (ks' := ks) (tX3_tell hf 5 l3 _ h) myX3_tell rfl q1030 q1032 qs24 (by decide) (fun s9 H9 hK9 hR9 h69 => jIs_in hK9 hR9 h69 (f_lt hf (by decide)) (fk_9 hf) rfl) rfl (Nat.le_of_ble_eq_true rfl) rfl (by decide) (Nat.le_refl _) (Nat.le_refl _) dX3_number_31 (fun v9 u9 hq => ?_) (fun k9 u9 hq => by obtain ⟨_, e9, _⟩ := hq; cases e9)
  obtain ⟨A1, e9, rfl, h⟩ := hq
  obtain rfl := Sum.inl.inj e9
  show J Γ RX3 cX3_number 5 (some .int) "number" [] 6 kc ks 34 [(0, .ref 9), (3, .int l3), (4, .int l4)] [] (n, K, A1, Lg, G) P
  refine j_iload 2 rfl dX3_number_34 ?_
  refine j_iret rfl ?_ dX3_number_36
  rw [hP]
  exact Or.inl ⟨l4, n, K, A1, Lg, G, rfl, rfl, h⟩
def fX3_number (n : Nat) (K : Nat → pKd) (A : pA) (Lg : pL) (G : pG) (kc : Nat) (ks : Nat) (p1 : Int32) (p2 : Int32) (X : Nat → (Nat → pKd) → pA → pL → pG → Prop) (Q : Int32 → Nat → (Nat → pKd) → pA → pL → pG → Prop) : Prop :=
    ∃ kY2 sY3 : Nat, kY2 ≤ kc ∧ sY3 ≤ ks ∧ ((fOK n K G) ∧ (fX3_take n K A Lg G kY2 sY3 1 X (fun r4 n5 K6 A7 Lg8 G9 => (fOK n5 K6 G9) ∧ (fX2_number A7 r4 (fun r10 => (if r10 < p1 then fX3_number_J28   X Q r4 r10 n5 K6 A7 Lg8 G9 (kc - kY2) (ks - sY3) else (if r10 ≤ p2 then Q r10 n5 K6 A7 Lg8 G9 else fX3_number_J28   X Q r4 r10 n5 K6 A7 Lg8 G9 (kc - kY2) (ks - sY3))))))))
theorem tX3_number {Γ : jG} {n : Nat} {K : Nat → pKd} {G : pG} {A : pA} {Lg : pL} {kc ks : Nat} (p1 : Int32) (p2 : Int32) (X : Nat → (Nat → pKd) → pA → pL → pG → Prop) (Q : Int32 → Nat → (Nat → pKd) → pA → pL → pG → Prop) (h : fX3_number n K A Lg G kc ks p1 p2 X Q) : jMet Γ yX3_number cX3_number 5 (some .int) [] 6 kc ks [.ref 9, .int p1, .int p2] (n, K, A, Lg, G) (fun o u => (∃ (r : Int32) (n' : Nat) (K' : Nat → pKd) (A' : pA) (Lg' : pL) (G' : pG), o = .inl (some (.int r)) ∧ u = (n', K', A', Lg', G') ∧ Q r n' K' A' Lg' G') ∨ (∃ (n' : Nat) (K' : Nat → pKd) (A' : pA) (Lg' : pL) (G' : pG), o = .inr 1 ∧ u = (n', K', A', Lg', G') ∧ X n' K' A' Lg' G')) := by
  unfold fX3_number at h
  obtain ⟨P, hP⟩ : ∃ P : jO → pS → Prop, P = (fun o u => (∃ (r : Int32) (n' : Nat) (K' : Nat → pKd) (A' : pA) (Lg' : pL) (G' : pG), o = .inl (some (.int r)) ∧ u = (n', K', A', Lg', G') ∧ Q r n' K' A' Lg' G') ∨ (∃ (n' : Nat) (K' : Nat → pKd) (A' : pA) (Lg' : pL) (G' : pG), o = .inr 1 ∧ u = (n', K', A', Lg', G') ∧ X n' K' A' Lg' G')) := ⟨_, rfl⟩
  rw [← hP]
  refine jMet_of rfl rfl rfl (Nat.le_of_ble_eq_true rfl) ?_
  show J Γ RX3 cX3_number 5 (some .int) "number" [] 6 kc ks 0 [(0, .ref 9), (1, .int p1), (2, .int p2)] [] (n, K, A, Lg, G) P
  refine j_aload_n 0 rfl dX3_number_0 ?_
  refine j_iconst (v := 1) dX3_number_1 (by decide) ?_
  obtain ⟨kY2, sY3, kY2h, sY3h, h⟩ := h
  obtain ⟨hf, h⟩ := h
  refine j_callV (b := 9) (As := [.int 1]) (st := []) (C := RX3) (kc' := kc - kY2) (ks' := ks - sY3) (tX3_take  1 X _ h) myX3_take rfl q842 q844 qs23 (by decide) (fun s9 H9 hK9 hR9 h69 => jIs_in hK9 hR9 h69 (f_lt hf (by decide)) (fk_9 hf) rfl) rfl (Nat.le_of_ble_eq_true rfl) rfl (by decide) (by omega) (by omega) dX3_number_2 (fun v9 u9 hq => ?_) (fun k9 u9 hq => by rcases hq with ⟨_, _, _, _, _, _, e9, _⟩ | ⟨n9, K9, A9, L9, G9, e9, e8, hX⟩; exact nomatch e9; rw [hP]; exact Or.inr ⟨n9, K9, A9, L9, G9, e9, e8, hX⟩)
  rcases hq with hq | ⟨n9, K9, A9, L9, G9, e9, e8, hX⟩
  rotate_left
  · exact nomatch e9
  obtain ⟨r4, n5, K6, A7, Lg8, G9, e9, rfl, h⟩ := hq
  obtain rfl := Sum.inl.inj e9
  show J Γ RX3 cX3_number 5 (some .int) "number" [] 6 (kc - kY2) (ks - sY3) 5 [(0, .ref 9), (1, .int p1), (2, .int p2)] [.int r4] (n5, K6, A7, Lg8, G9) P
  refine j_istore_n (by decide) rfl dX3_number_5 ?_
  refine j_aload_n 1 rfl dX3_number_6 ?_
  obtain ⟨hf, h⟩ := h
  refine j_getfr fl_X3_9_3 rfl (f_lt hf (by decide)) (fk_9 hf) (fg_9_0 hf) dX3_number_7 ?_
  refine j_iload_n 0 rfl dX3_number_10 ?_
  refine j_callV (b := 2) (As := [.int r4]) (st := []) (C := RX2) (kc' := kc - kY2) (ks' := ks - sY3) (tX2_number hf r4 _ h) myX2_number rfl q790 q791 q792 (by decide) (fun s9 H9 hK9 hR9 h69 => jIs_in hK9 hR9 h69 (f_lt hf (by decide)) (fk_2 hf) rfl) rfl (Nat.le_of_ble_eq_true rfl) rfl (by decide) (Nat.le_refl _) (Nat.le_refl _) dX3_number_11 (fun v9 u9 hq => ?_) (fun k9 u9 hq => by obtain ⟨_, e9, _⟩ := hq; cases e9)
  obtain ⟨r10, e9, rfl, h⟩ := hq
  obtain rfl := Sum.inl.inj e9
  show J Γ RX3 cX3_number 5 (some .int) "number" [] 6 (kc - kY2) (ks - sY3) 14 [(3, .int r4), (0, .ref 9), (1, .int p1), (2, .int p2)] [.int r10] (n5, K6, A7, Lg8, G9) P
  refine j_istore (by decide) rfl dX3_number_14 ?_
  refine j_iload 0 rfl dX3_number_16 ?_
  refine j_iload_n 3 rfl dX3_number_18 ?_
  refine j_icmp_lt (tgt := 28) dX3_number_19 (by decide) (fun c => ?_) (fun c => ?_)
  · rw [if_pos c] at h
    refine j_ls [2, 1, 0] rfl ?_
    exact fX3_number_J28_ok  X Q P hP   r4 r10 n5 K6 A7 Lg8 G9 (kc - kY2) (ks - sY3) h
  · rw [if_neg c] at h
    refine j_iload 0 rfl dX3_number_22 ?_
    refine j_iload_n 4 rfl dX3_number_24 ?_
    refine j_icmp_le (tgt := 34) dX3_number_25 (by decide) (fun c => ?_) (fun c => ?_)
    · rw [if_pos c] at h
      refine j_iload 0 rfl dX3_number_34 ?_
      refine j_iret rfl ?_ dX3_number_36
      rw [hP]
      exact Or.inl ⟨r10, n5, K6, A7, Lg8, G9, rfl, rfl, h⟩
    · rw [if_neg c] at h
      refine j_ls [2, 1, 0] rfl ?_
      exact fX3_number_J28_ok  X Q P hP   r4 r10 n5 K6 A7 Lg8 G9 (kc - kY2) (ks - sY3) h
theorem myX3_known : jY yX3_known cX3_known 4 (some .int)  1 := ⟨q1106, q127, by decide +kernel, by decide +kernel, by decide⟩
def fX3_known (a1 : Nat) (n : Nat) (K : Nat → pKd) (A : pA) (Lg : pL) (G : pG) (kc : Nat) (ks : Nat) (X : Nat → (Nat → pKd) → pA → pL → pG → Prop) (Q : Int32 → Nat → (Nat → pKd) → pA → pL → pG → Prop) : Prop :=
    ∃ kY1 sY2 : Nat, kY1 ≤ kc ∧ sY2 ≤ ks ∧ ((fOK n K G) ∧ (fX3_take n K A Lg G kY1 sY2 0 X (fun r3 n4 K5 A6 Lg7 G8 => (fOK n4 K5 G8) ∧ (∃ kY9 sY10 : Nat, kY9 ≤ kc - kY1 ∧ sY10 ≤ ks - sY2 ∧ (fX2_text n4 K5 A6 Lg7 G8 kY9 sY10 r3 X (fun r11 n12 K13 A14 Lg15 G16 => ∃ kY17 sY18 : Nat, kY17 ≤ kc - kY1 - kY9 ∧ sY18 ≤ ks - sY2 - sY10 ∧ (fX4_at a1 r11 n12 K13 A14 Lg15 G16 kY17 sY18 (fun r19 n20 K21 A22 Lg23 G24 => (if 0 ≤ r19 then Q r19 n20 K21 A22 Lg23 G24 else (fOK n20 K21 G24) ∧ (fX3_tell A22 4 r3 (fun A25 => Q r19 n20 K21 A25 Lg23 G24)))))))))))
theorem tX3_known {Γ : jG} {n : Nat} {K : Nat → pKd} {G : pG} {A : pA} {Lg : pL} {kc ks : Nat} (a1 : Nat)  (X : Nat → (Nat → pKd) → pA → pL → pG → Prop) (Q : Int32 → Nat → (Nat → pKd) → pA → pL → pG → Prop) (h : fX3_known a1 n K A Lg G kc ks X Q) : jMet Γ yX3_known cX3_known 4 (some .int) [] 8 kc ks [.ref 9, .ref a1] (n, K, A, Lg, G) (fun o u => (∃ (r : Int32) (n' : Nat) (K' : Nat → pKd) (A' : pA) (Lg' : pL) (G' : pG), o = .inl (some (.int r)) ∧ u = (n', K', A', Lg', G') ∧ Q r n' K' A' Lg' G') ∨ (∃ (n' : Nat) (K' : Nat → pKd) (A' : pA) (Lg' : pL) (G' : pG), o = .inr 1 ∧ u = (n', K', A', Lg', G') ∧ X n' K' A' Lg' G')) := by
  unfold fX3_known at h
  obtain ⟨P, hP⟩ : ∃ P : jO → pS → Prop, P = (fun o u => (∃ (r : Int32) (n' : Nat) (K' : Nat → pKd) (A' : pA) (Lg' : pL) (G' : pG), o = .inl (some (.int r)) ∧ u = (n', K', A', Lg', G') ∧ Q r n' K' A' Lg' G') ∨ (∃ (n' : Nat) (K' : Nat → pKd) (A' : pA) (Lg' : pL) (G' : pG), o = .inr 1 ∧ u = (n', K', A', Lg', G') ∧ X n' K' A' Lg' G')) := ⟨_, rfl⟩
  rw [← hP]
  refine jMet_of rfl rfl rfl (Nat.le_of_ble_eq_true rfl) ?_
  show J Γ RX3 cX3_known 4 (some .int) "known" [] 8 kc ks 0 [(0, .ref 9), (1, .ref a1)] [] (n, K, A, Lg, G) P
  refine j_aload_n 0 rfl dX3_known_0 ?_
  refine j_iconst (v := 0) dX3_known_1 (by decide) ?_
  obtain ⟨kY1, sY2, kY1h, sY2h, h⟩ := h
  obtain ⟨hf, h⟩ := h
  refine j_callV (b := 9) (As := [.int 0]) (st := []) (C := RX3) (kc' := kc - kY1) (ks' := ks - sY2) (tX3_take  0 X _ h) myX3_take rfl q842 q844 qs23 (by decide) (fun s9 H9 hK9 hR9 h69 => jIs_in hK9 hR9 h69 (f_lt hf (by decide)) (fk_9 hf) rfl) rfl (Nat.le_of_ble_eq_true rfl) rfl (by decide) (by omega) (by omega) dX3_known_2 (fun v9 u9 hq => ?_) (fun k9 u9 hq => by rcases hq with ⟨_, _, _, _, _, _, e9, _⟩ | ⟨n9, K9, A9, L9, G9, e9, e8, hX⟩; exact nomatch e9; rw [hP]; exact Or.inr ⟨n9, K9, A9, L9, G9, e9, e8, hX⟩)
  rcases hq with hq | ⟨n9, K9, A9, L9, G9, e9, e8, hX⟩
  rotate_left
  · exact nomatch e9
  obtain ⟨r3, n4, K5, A6, Lg7, G8, e9, rfl, h⟩ := hq
  obtain rfl := Sum.inl.inj e9
  show J Γ RX3 cX3_known 4 (some .int) "known" [] 8 (kc - kY1) (ks - sY2) 5 [(0, .ref 9), (1, .ref a1)] [.int r3] (n4, K5, A6, Lg7, G8) P
  refine j_istore_n (by decide) rfl dX3_known_5 ?_
  refine j_aload_n 2 rfl dX3_known_6 ?_
  refine j_aload_n 1 rfl dX3_known_7 ?_
  obtain ⟨hf, h⟩ := h
  refine j_getfr fl_X3_9_3 rfl (f_lt hf (by decide)) (fk_9 hf) (fg_9_0 hf) dX3_known_8 ?_
  refine j_iload_n 0 rfl dX3_known_11 ?_
  obtain ⟨kY9, sY10, kY9h, sY10h, h⟩ := h
  refine j_callV (b := 2) (As := [.int r3]) (st := [.ref a1]) (C := RX2) (kc' := kc - kY1 - kY9) (ks' := ks - sY2 - sY10) (tX2_text  r3 X _ h) myX2_text rfl q846 q847 q848 (by decide) (fun s9 H9 hK9 hR9 h69 => jIs_in hK9 hR9 h69 (f_lt hf (by decide)) (fk_2 hf) rfl) rfl (Nat.le_of_ble_eq_true rfl) rfl (by decide) (by omega) (by omega) dX3_known_12 (fun v9 u9 hq => ?_) (fun k9 u9 hq => by rcases hq with ⟨_, _, _, _, _, _, e9, _⟩ | ⟨n9, K9, A9, L9, G9, e9, e8, hX⟩; exact nomatch e9; rw [hP]; exact Or.inr ⟨n9, K9, A9, L9, G9, e9, e8, hX⟩)
  rcases hq with hq | ⟨n9, K9, A9, L9, G9, e9, e8, hX⟩
  rotate_left
  · exact nomatch e9
  obtain ⟨r11, n12, K13, A14, Lg15, G16, e9, rfl, h⟩ := hq
  obtain rfl := Sum.inl.inj e9
  show J Γ RX3 cX3_known 4 (some .int) "known" [] 8 (kc - kY1 - kY9) (ks - sY2 - sY10) 15 [(2, .int r3), (0, .ref 9), (1, .ref a1)] [.ref r11, .ref a1] (n12, K13, A14, Lg15, G16) P
  obtain ⟨kY17, sY18, kY17h, sY18h, h⟩ := h
  refine j_callS (As := [.ref a1, .ref r11]) (st := []) (kc' := kc - kY1 - kY9 - kY17) (ks' := ks - sY2 - sY10 - sY18) (tX4_at  a1 r11 _ h) myX4_at q1107 q1017 rfl (Nat.le_of_ble_eq_true rfl) rfl (by decide) (by omega) (by omega) dX3_known_15 (fun v9 u9 hq => ?_) (fun k9 u9 hq => by obtain ⟨_, _, _, _, _, _, e9, _⟩ := hq; cases e9)
  obtain ⟨r19, n20, K21, A22, Lg23, G24, e9, rfl, h⟩ := hq
  obtain rfl := Sum.inl.inj e9
  show J Γ RX3 cX3_known 4 (some .int) "known" [] 8 (kc - kY1 - kY9 - kY17) (ks - sY2 - sY10 - sY18) 18 [(2, .int r3), (0, .ref 9), (1, .ref a1)] [.int r19] (n20, K21, A22, Lg23, G24) P
  refine j_istore_n (by decide) rfl dX3_known_18 ?_
  refine j_iload_n 0 rfl dX3_known_19 ?_
  refine j_if_ge (tgt := 29) dX3_known_20 (by decide) (fun c => ?_) (fun c => ?_)
  · rw [if_pos c] at h
    refine j_iload_n 0 rfl dX3_known_29 ?_
    refine j_iret rfl ?_ dX3_known_30
    rw [hP]
    exact Or.inl ⟨r19, n20, K21, A22, Lg23, G24, rfl, rfl, h⟩
  · rw [if_neg c] at h
    refine j_aload_n 2 rfl dX3_known_23 ?_
    refine j_iconst (v := 4) dX3_known_24 (by decide) ?_
    refine j_iload_n 1 rfl dX3_known_25 ?_
    obtain ⟨hf, h⟩ := h
    refine j_callV (b := 9) (As := [.int 4, .int r3]) (st := []) (C := RX3) (kc' := kc - kY1 - kY9 - kY17) (ks' := ks - sY2 - sY10 - sY18) (tX3_tell hf 4 r3 _ h) myX3_tell rfl q1030 q1032 qs24 (by decide) (fun s9 H9 hK9 hR9 h69 => jIs_in hK9 hR9 h69 (f_lt hf (by decide)) (fk_9 hf) rfl) rfl (Nat.le_of_ble_eq_true rfl) rfl (by decide) (Nat.le_refl _) (Nat.le_refl _) dX3_known_26 (fun v9 u9 hq => ?_) (fun k9 u9 hq => by obtain ⟨_, e9, _⟩ := hq; cases e9)
    obtain ⟨A25, e9, rfl, h⟩ := hq
    obtain rfl := Sum.inl.inj e9
    show J Γ RX3 cX3_known 4 (some .int) "known" [] 8 (kc - kY1 - kY9 - kY17) (ks - sY2 - sY10 - sY18) 29 [(3, .int r19), (2, .int r3), (0, .ref 9), (1, .ref a1)] [] (n20, K21, A25, Lg23, G24) P
    refine j_iload_n 0 rfl dX3_known_29 ?_
    refine j_iret rfl ?_ dX3_known_30
    rw [hP]
    exact Or.inl ⟨r19, n20, K21, A25, Lg23, G24, rfl, rfl, h⟩
theorem myX3_name : jY yX3_name cX3_name 3 (some (.object "java/lang/String"))  0 := ⟨q841, q127, by decide +kernel, by decide +kernel, by decide⟩
def fX3_name_J32 (tx : Nat)  (X : Nat → (Nat → pKd) → pA → pL → pG → Prop) (Q : Nat → Nat → (Nat → pKd) → pA → pL → pG → Prop) (l2 : Nat) (n : Nat) (K : Nat → pKd) (A : pA) (Lg : pL) (G : pG) (kc : Nat) (ks : Nat) : Prop :=
    Q l2 n K A Lg G
theorem fX3_name_J32_ok {Γ : jG} (tx : Nat) (X : Nat → (Nat → pKd) → pA → pL → pG → Prop) (Q : Nat → Nat → (Nat → pKd) → pA → pL → pG → Prop) (P : jO → pS → Prop) (hP : P = (fun o u => (∃ (r : Nat) (n' : Nat) (K' : Nat → pKd) (A' : pA) (Lg' : pL) (G' : pG), o = .inl (some (.ref r)) ∧ u = (n', K', A', Lg', G') ∧ Q r n' K' A' Lg' G') ∨ (∃ (n' : Nat) (K' : Nat → pKd) (A' : pA) (Lg' : pL) (G' : pG), o = .inr 1 ∧ u = (n', K', A', Lg', G') ∧ X n' K' A' Lg' G')))   (l2 : Nat) (n : Nat) (K : Nat → pKd) (A : pA) (Lg : pL) (G : pG) (kc : Nat) (ks : Nat) (h : fX3_name_J32 tx  X Q l2 n K A Lg G kc ks) : J Γ RX3 cX3_name 3 (some (.object "java/lang/String")) "name" [] 8 kc ks 32 [(2, .ref l2)] [] (n, K, A, Lg, G) P := by
  unfold fX3_name_J32 at h
  refine j_aload_n 0 rfl dX3_name_32 ?_
  refine j_aret rfl (by first | exact Or.inl ⟨_, rfl⟩ | exact Or.inr ⟨_, rfl⟩) (Or.inr ⟨_, rfl⟩) ?_ dX3_name_33
  rw [hP]
  exact Or.inl ⟨l2, n, K, A, Lg, G, rfl, rfl, h⟩
def fX3_name (tx : Nat) (n : Nat) (K : Nat → pKd) (A : pA) (Lg : pL) (G : pG) (kc : Nat) (ks : Nat) (X : Nat → (Nat → pKd) → pA → pL → pG → Prop) (Q : Nat → Nat → (Nat → pKd) → pA → pL → pG → Prop) : Prop :=
    ∃ kY1 sY2 : Nat, kY1 ≤ kc ∧ sY2 ≤ ks ∧ ((fOK n K G) ∧ (fX3_take n K A Lg G kY1 sY2 0 X (fun r3 n4 K5 A6 Lg7 G8 => (fOK n4 K5 G8) ∧ (∃ kY9 sY10 : Nat, kY9 ≤ kc - kY1 ∧ sY10 ≤ ks - sY2 ∧ (fX2_text n4 K5 A6 Lg7 G8 kY9 sY10 r3 X (fun r11 n12 K13 A14 Lg15 G16 => (fOK n12 K13 G16) ∧ ((G16 9 2 = .ref tx) ∧ (∃ kY17 sY18 : Nat, kY17 ≤ kc - kY1 - kY9 ∧ sY18 ≤ ks - sY2 - sY10 ∧ ((n12 ≤ 1000000) ∧ ((xOK n12 K13 G16 tx) ∧ (fX4_has tx r11 n12 K13 A14 Lg15 G16 kY17 sY18 (fun r19 n20 K21 A22 Lg23 G24 => (if r19 = 0 then fX3_name_J32 tx  X Q r11 n20 K21 A22 Lg23 G24 (kc - kY1 - kY9 - kY17) (ks - sY2 - sY10 - sY18) else (fOK n20 K21 G24) ∧ (fX3_tell A22 3 r3 (fun A25 => fX3_name_J32 tx  X Q r11 n20 K21 A25 Lg23 G24 (kc - kY1 - kY9 - kY17) (ks - sY2 - sY10 - sY18))))))))))))))))
theorem tX3_name {Γ : jG} {n : Nat} {K : Nat → pKd} {G : pG} {A : pA} {Lg : pL} {kc ks : Nat} (tx : Nat)  (X : Nat → (Nat → pKd) → pA → pL → pG → Prop) (Q : Nat → Nat → (Nat → pKd) → pA → pL → pG → Prop) (h : fX3_name tx n K A Lg G kc ks X Q) : jMet Γ yX3_name cX3_name 3 (some (.object "java/lang/String")) [] 8 kc ks [.ref 9] (n, K, A, Lg, G) (fun o u => (∃ (r : Nat) (n' : Nat) (K' : Nat → pKd) (A' : pA) (Lg' : pL) (G' : pG), o = .inl (some (.ref r)) ∧ u = (n', K', A', Lg', G') ∧ Q r n' K' A' Lg' G') ∨ (∃ (n' : Nat) (K' : Nat → pKd) (A' : pA) (Lg' : pL) (G' : pG), o = .inr 1 ∧ u = (n', K', A', Lg', G') ∧ X n' K' A' Lg' G')) := by
  unfold fX3_name at h
  obtain ⟨P, hP⟩ : ∃ P : jO → pS → Prop, P = (fun o u => (∃ (r : Nat) (n' : Nat) (K' : Nat → pKd) (A' : pA) (Lg' : pL) (G' : pG), o = .inl (some (.ref r)) ∧ u = (n', K', A', Lg', G') ∧ Q r n' K' A' Lg' G') ∨ (∃ (n' : Nat) (K' : Nat → pKd) (A' : pA) (Lg' : pL) (G' : pG), o = .inr 1 ∧ u = (n', K', A', Lg', G') ∧ X n' K' A' Lg' G')) := ⟨_, rfl⟩
  rw [← hP]
  refine jMet_of rfl rfl rfl (Nat.le_of_ble_eq_true rfl) ?_
  show J Γ RX3 cX3_name 3 (some (.object "java/lang/String")) "name" [] 8 kc ks 0 [(0, .ref 9)] [] (n, K, A, Lg, G) P
  refine j_aload_n 0 rfl dX3_name_0 ?_
  refine j_iconst (v := 0) dX3_name_1 (by decide) ?_
  obtain ⟨kY1, sY2, kY1h, sY2h, h⟩ := h
  obtain ⟨hf, h⟩ := h
  refine j_callV (b := 9) (As := [.int 0]) (st := []) (C := RX3) (kc' := kc - kY1) (ks' := ks - sY2) (tX3_take  0 X _ h) myX3_take rfl q842 q844 qs23 (by decide) (fun s9 H9 hK9 hR9 h69 => jIs_in hK9 hR9 h69 (f_lt hf (by decide)) (fk_9 hf) rfl) rfl (Nat.le_of_ble_eq_true rfl) rfl (by decide) (by omega) (by omega) dX3_name_2 (fun v9 u9 hq => ?_) (fun k9 u9 hq => by rcases hq with ⟨_, _, _, _, _, _, e9, _⟩ | ⟨n9, K9, A9, L9, G9, e9, e8, hX⟩; exact nomatch e9; rw [hP]; exact Or.inr ⟨n9, K9, A9, L9, G9, e9, e8, hX⟩)
  rcases hq with hq | ⟨n9, K9, A9, L9, G9, e9, e8, hX⟩
  rotate_left
  · exact nomatch e9
  obtain ⟨r3, n4, K5, A6, Lg7, G8, e9, rfl, h⟩ := hq
  obtain rfl := Sum.inl.inj e9
  show J Γ RX3 cX3_name 3 (some (.object "java/lang/String")) "name" [] 8 (kc - kY1) (ks - sY2) 5 [(0, .ref 9)] [.int r3] (n4, K5, A6, Lg7, G8) P
  refine j_istore_n (by decide) rfl dX3_name_5 ?_
  refine j_aload_n 1 rfl dX3_name_6 ?_
  obtain ⟨hf, h⟩ := h
  refine j_getfr fl_X3_9_3 rfl (f_lt hf (by decide)) (fk_9 hf) (fg_9_0 hf) dX3_name_7 ?_
  refine j_iload_n 0 rfl dX3_name_10 ?_
  obtain ⟨kY9, sY10, kY9h, sY10h, h⟩ := h
  refine j_callV (b := 2) (As := [.int r3]) (st := []) (C := RX2) (kc' := kc - kY1 - kY9) (ks' := ks - sY2 - sY10) (tX2_text  r3 X _ h) myX2_text rfl q846 q847 q848 (by decide) (fun s9 H9 hK9 hR9 h69 => jIs_in hK9 hR9 h69 (f_lt hf (by decide)) (fk_2 hf) rfl) rfl (Nat.le_of_ble_eq_true rfl) rfl (by decide) (by omega) (by omega) dX3_name_11 (fun v9 u9 hq => ?_) (fun k9 u9 hq => by rcases hq with ⟨_, _, _, _, _, _, e9, _⟩ | ⟨n9, K9, A9, L9, G9, e9, e8, hX⟩; exact nomatch e9; rw [hP]; exact Or.inr ⟨n9, K9, A9, L9, G9, e9, e8, hX⟩)
  rcases hq with hq | ⟨n9, K9, A9, L9, G9, e9, e8, hX⟩
  rotate_left
  · exact nomatch e9
  obtain ⟨r11, n12, K13, A14, Lg15, G16, e9, rfl, h⟩ := hq
  obtain rfl := Sum.inl.inj e9
  show J Γ RX3 cX3_name 3 (some (.object "java/lang/String")) "name" [] 8 (kc - kY1 - kY9) (ks - sY2 - sY10) 14 [(1, .int r3), (0, .ref 9)] [.ref r11] (n12, K13, A14, Lg15, G16) P
  refine j_astore_n (by decide) rfl dX3_name_14 ?_
  refine j_aload_n 2 rfl dX3_name_15 ?_
  obtain ⟨hf, h⟩ := h
  obtain ⟨ht, h⟩ := h
  refine j_getfr fl_X3_83_3 rfl (f_lt hf (by decide)) (fk_9 hf) ht dX3_name_16 ?_
  refine j_aload_n 0 rfl dX3_name_19 ?_
  obtain ⟨kY17, sY18, kY17h, sY18h, h⟩ := h
  obtain ⟨hn6, h⟩ := h
  obtain ⟨hx, h⟩ := h
  refine j_callV (b := tx) (As := [.ref r11]) (st := []) (C := RX4) (kc' := kc - kY1 - kY9 - kY17) (ks' := ks - sY2 - sY10 - sY18) (tX4_has  tx r11 _ h) myX4_has rfl q1012 q1013 q1014 (j_l2 hn6 (x_lt hx (j := 0) (by decide))) (fun s9 H9 hK9 hR9 h69 => jIs_in hK9 hR9 h69 (x_lt hx (j := 0) (by decide)) (xk_0 hx) rfl) rfl (Nat.le_of_ble_eq_true rfl) rfl (by decide) (by omega) (by omega) dX3_name_20 (fun v9 u9 hq => ?_) (fun k9 u9 hq => by obtain ⟨_, _, _, _, _, _, e9, _⟩ := hq; cases e9)
  obtain ⟨r19, n20, K21, A22, Lg23, G24, e9, rfl, h⟩ := hq
  obtain rfl := Sum.inl.inj e9
  show J Γ RX3 cX3_name 3 (some (.object "java/lang/String")) "name" [] 8 (kc - kY1 - kY9 - kY17) (ks - sY2 - sY10 - sY18) 23 [(2, .ref r11), (1, .int r3), (0, .ref 9)] [.int r19] (n20, K21, A22, Lg23, G24) P
  refine j_if_eq (tgt := 32) dX3_name_23 (by decide) (fun c => ?_) (fun c => ?_)
  · rw [if_pos c] at h
    refine j_ls [0] rfl ?_
    exact fX3_name_J32_ok  tx X Q P hP   r11 n20 K21 A22 Lg23 G24 (kc - kY1 - kY9 - kY17) (ks - sY2 - sY10 - sY18) h
  · rw [if_neg c] at h
    refine j_aload_n 2 rfl dX3_name_26 ?_
    refine j_iconst (v := 3) dX3_name_27 (by decide) ?_
    refine j_iload_n 1 rfl dX3_name_28 ?_
    obtain ⟨hf, h⟩ := h
    refine j_callV (b := 9) (As := [.int 3, .int r3]) (st := []) (C := RX3) (kc' := kc - kY1 - kY9 - kY17) (ks' := ks - sY2 - sY10 - sY18) (tX3_tell hf 3 r3 _ h) myX3_tell rfl q1030 q1032 qs24 (by decide) (fun s9 H9 hK9 hR9 h69 => jIs_in hK9 hR9 h69 (f_lt hf (by decide)) (fk_9 hf) rfl) rfl (Nat.le_of_ble_eq_true rfl) rfl (by decide) (Nat.le_refl _) (Nat.le_refl _) dX3_name_29 (fun v9 u9 hq => ?_) (fun k9 u9 hq => by obtain ⟨_, e9, _⟩ := hq; cases e9)
    obtain ⟨A25, e9, rfl, h⟩ := hq
    obtain rfl := Sum.inl.inj e9
    show J Γ RX3 cX3_name 3 (some (.object "java/lang/String")) "name" [] 8 (kc - kY1 - kY9 - kY17) (ks - sY2 - sY10 - sY18) 32 [(2, .ref r11), (1, .int r3), (0, .ref 9)] [] (n20, K21, A25, Lg23, G24) P
    refine j_ls [0] rfl ?_
    exact fX3_name_J32_ok  tx X Q P hP   r11 n20 K21 A25 Lg23 G24 (kc - kY1 - kY9 - kY17) (ks - sY2 - sY10 - sY18) h
theorem myX3_joins : jY yX3_joins cX3_joins 4 none  3 := ⟨q1111, q127, by decide +kernel, by decide +kernel, by decide⟩
def fX3_joins_J23 (tx : Nat)  (Q : Nat → (Nat → pKd) → pA → pL → pG → Prop) (l1 : Int32) (l2 : Int32) (n : Nat) (K : Nat → pKd) (A : pA) (Lg : pL) (G : pG) (kc : Nat) (ks : Nat) : Prop :=
    (fOK n K G) ∧ ((G 9 2 = .ref tx) ∧ ((xOK n K G tx) ∧ ((n ≤ 1000000) ∧ (fJ5_get (tx + 1) n K A G l1 (fun r1 => (r1 < n) ∧ ((K r1 = .inl 14) ∧ (∀ A4 : pA, A4 = pup A r1 1 ((A r1 1) ||| ((1 : Int32) <<< (l2 &&& 31))) → fJ5_get (tx + 1) n K A4 G l2 (fun r5 => (r5 < n) ∧ ((K r5 = .inl 14) ∧ (∀ A8 : pA, A8 = pup A4 r5 1 ((A4 r5 1) ||| ((1 : Int32) <<< (l1 &&& 31))) → Q n K A8 Lg G))))))))))
theorem fX3_joins_J23_ok {Γ : jG} (tx : Nat) (Q : Nat → (Nat → pKd) → pA → pL → pG → Prop) (P : jO → pS → Prop) (hP : P = (fun o u => ∃ (n' : Nat) (K' : Nat → pKd) (A' : pA) (Lg' : pL) (G' : pG), o = .inl none ∧ u = (n', K', A', Lg', G') ∧ Q n' K' A' Lg' G'))   (l1 : Int32) (l2 : Int32) (n : Nat) (K : Nat → pKd) (A : pA) (Lg : pL) (G : pG) (kc : Nat) (ks : Nat) (h : fX3_joins_J23 tx  Q l1 l2 n K A Lg G kc ks) : J Γ RX3 cX3_joins 4 none "joins" [] 5 kc ks 23 [(0, .ref 9), (1, .int l1), (2, .int l2)] [] (n, K, A, Lg, G) P := by
  unfold fX3_joins_J23 at h
  refine j_aload_n 0 rfl dX3_joins_23 ?_
  obtain ⟨hf, h⟩ := h
  obtain ⟨ht, h⟩ := h
  refine j_getfr fl_X3_83_3 rfl (f_lt hf (by decide)) (fk_9 hf) ht dX3_joins_24 ?_
  obtain ⟨hx, h⟩ := h
  refine j_getfr fl_X3_120_4 rfl (x_lt hx (j := 0) (by decide)) (xk_0 hx) (xg_0_0 hx) dX3_joins_27 ?_
  refine j_iload_n 1 rfl dX3_joins_30 ?_
  obtain ⟨hn6, h⟩ := h
  refine j_callV (b := (tx + 1)) (As := [.int l1]) (st := []) (C := RJ5) (kc' := kc) (ks' := ks) (tJ5_get hf (tx + 1) (x_lt hx (j := 1) (by decide)) (xk_1 hx) l1 _ h) myJ5_get rfl q1117 q540 q541 (j_l2 hn6 (x_lt hx (j := 1) (by decide))) (fun s9 H9 hK9 hR9 h69 => jIs_in hK9 hR9 h69 (x_lt hx (j := 1) (by decide)) (xk_1 hx) rfl) rfl (Nat.le_of_ble_eq_true rfl) rfl (by decide) (Nat.le_refl _) (Nat.le_refl _) dX3_joins_31 (fun v9 u9 hq => ?_) (fun k9 u9 hq => by obtain ⟨_, e9, _⟩ := hq; cases e9)
  obtain ⟨r1, e9, rfl, h⟩ := hq
  obtain rfl := Sum.inl.inj e9
  show J Γ RX3 cX3_joins 4 none "joins" [] 5 kc ks 34 [(0, .ref 9), (1, .int l1), (2, .int l2)] [.ref r1] (n, K, A, Lg, G) P
  obtain ⟨b2, h⟩ := h
  obtain ⟨b3, h⟩ := h
  refine j_cast (C := "DogsHour$Spot") q836 (j_l2 hn6 b2) (fun s9 H9 hK9 hR9 h69 => jIs_in hK9 hR9 h69 b2 b3 rfl) (Or.inl rfl) dX3_joins_34 ?_
  refine j_dup rfl dX3_joins_37 ?_
  refine j_getfi fl_X3_209_14 rfl b2 b3 dX3_joins_38 ?_
  refine j_iconst (v := 1) dX3_joins_41 (by decide) ?_
  refine j_iload_n 2 rfl dX3_joins_42 ?_
  refine j_ishl dX3_joins_43 ?_
  refine j_ior dX3_joins_44 ?_
  refine j_putfiE (fp_X3_209_14 _) rfl rfl rfl b2 b3 dX3_joins_45 (fun A4 eA4 => ?_)
  replace h := h A4 eA4
  refine j_aload_n 0 rfl dX3_joins_48 ?_
  refine j_getfr fl_X3_83_3 rfl (f_lt hf (by decide)) (fk_9 hf) ht dX3_joins_49 ?_
  refine j_getfr fl_X3_120_4 rfl (x_lt hx (j := 0) (by decide)) (xk_0 hx) (xg_0_0 hx) dX3_joins_52 ?_
  refine j_iload_n 2 rfl dX3_joins_55 ?_
  refine j_callV (b := (tx + 1)) (As := [.int l2]) (st := []) (C := RJ5) (kc' := kc) (ks' := ks) (tJ5_get hf (tx + 1) (x_lt hx (j := 1) (by decide)) (xk_1 hx) l2 _ h) myJ5_get rfl q1117 q540 q541 (j_l2 hn6 (x_lt hx (j := 1) (by decide))) (fun s9 H9 hK9 hR9 h69 => jIs_in hK9 hR9 h69 (x_lt hx (j := 1) (by decide)) (xk_1 hx) rfl) rfl (Nat.le_of_ble_eq_true rfl) rfl (by decide) (Nat.le_refl _) (Nat.le_refl _) dX3_joins_56 (fun v9 u9 hq => ?_) (fun k9 u9 hq => by obtain ⟨_, e9, _⟩ := hq; cases e9)
  obtain ⟨r5, e9, rfl, h⟩ := hq
  obtain rfl := Sum.inl.inj e9
  show J Γ RX3 cX3_joins 4 none "joins" [] 5 kc ks 59 [(0, .ref 9), (1, .int l1), (2, .int l2)] [.ref r5] (n, K, A4, Lg, G) P
  obtain ⟨b6, h⟩ := h
  obtain ⟨b7, h⟩ := h
  refine j_cast (C := "DogsHour$Spot") q836 (j_l2 hn6 b6) (fun s9 H9 hK9 hR9 h69 => jIs_in hK9 hR9 h69 b6 b7 rfl) (Or.inl rfl) dX3_joins_59 ?_
  refine j_dup rfl dX3_joins_62 ?_
  refine j_getfi fl_X3_209_14 rfl b6 b7 dX3_joins_63 ?_
  refine j_iconst (v := 1) dX3_joins_66 (by decide) ?_
  refine j_iload_n 1 rfl dX3_joins_67 ?_
  refine j_ishl dX3_joins_68 ?_
  refine j_ior dX3_joins_69 ?_
  refine j_putfiE (fp_X3_209_14 _) rfl rfl rfl b6 b7 dX3_joins_70 (fun A8 eA8 => ?_)
  replace h := h A8 eA8
  refine j_vret rfl ?_ dX3_joins_73
  rw [hP]
  exact ⟨n, K, A8, Lg, G, rfl, rfl, h⟩
def fX3_joins_J17 (tx : Nat)  (Q : Nat → (Nat → pKd) → pA → pL → pG → Prop) (l1 : Int32) (l2 : Int32) (l3 : Int32) (n : Nat) (K : Nat → pKd) (A : pA) (Lg : pL) (G : pG) (kc : Nat) (ks : Nat) : Prop :=
    (fOK n K G) ∧ (fX3_tell A 3 l3 (fun A9 => fX3_joins_J23 tx  Q l1 l2 n K A9 Lg G kc ks))
theorem fX3_joins_J17_ok {Γ : jG} (tx : Nat) (Q : Nat → (Nat → pKd) → pA → pL → pG → Prop) (P : jO → pS → Prop) (hP : P = (fun o u => ∃ (n' : Nat) (K' : Nat → pKd) (A' : pA) (Lg' : pL) (G' : pG), o = .inl none ∧ u = (n', K', A', Lg', G') ∧ Q n' K' A' Lg' G'))   (l1 : Int32) (l2 : Int32) (l3 : Int32) (n : Nat) (K : Nat → pKd) (A : pA) (Lg : pL) (G : pG) (kc : Nat) (ks : Nat) (h : fX3_joins_J17 tx  Q l1 l2 l3 n K A Lg G kc ks) : J Γ RX3 cX3_joins 4 none "joins" [] 5 kc ks 17 [(0, .ref 9), (1, .int l1), (2, .int l2), (3, .int l3)] [] (n, K, A, Lg, G) P := by
  unfold fX3_joins_J17 at h
  refine j_aload_n 0 rfl dX3_joins_17 ?_
  refine j_iconst (v := 3) dX3_joins_18 (by decide) ?_
  refine j_iload_n 3 rfl dX3_joins_19 ?_
  obtain ⟨hf, h⟩ := h
  refine j_callV (b := 9) (As := [.int 3, .int l3]) (st := []) (C := RX3) (kc' := kc) (ks' := ks) (tX3_tell hf 3 l3 _ h) myX3_tell rfl q1030 q1032 qs24 (by decide) (fun s9 H9 hK9 hR9 h69 => jIs_in hK9 hR9 h69 (f_lt hf (by decide)) (fk_9 hf) rfl) rfl (Nat.le_of_ble_eq_true rfl) rfl (by decide) (Nat.le_refl _) (Nat.le_refl _) dX3_joins_20 (fun v9 u9 hq => ?_) (fun k9 u9 hq => by obtain ⟨_, e9, _⟩ := hq; cases e9)
  obtain ⟨A9, e9, rfl, h⟩ := hq
  obtain rfl := Sum.inl.inj e9
  show J Γ RX3 cX3_joins 4 none "joins" [] 5 kc ks 23 [(0, .ref 9), (1, .int l1), (2, .int l2), (3, .int l3)] [] (n, K, A9, Lg, G) P
  refine j_ls [0, 1, 2] rfl ?_
  exact fX3_joins_J23_ok  tx Q P hP   l1 l2 n K A9 Lg G kc ks h
def fX3_joins (tx : Nat) (n : Nat) (K : Nat → pKd) (A : pA) (Lg : pL) (G : pG) (kc : Nat) (ks : Nat) (p1 : Int32) (p2 : Int32) (p3 : Int32) (Q : Nat → (Nat → pKd) → pA → pL → pG → Prop) : Prop :=
    (if p1 = p2 then fX3_joins_J17 tx  Q p1 p2 p3 n K A Lg G kc ks else (fOK n K G) ∧ ((G 9 2 = .ref tx) ∧ ((xOK n K G tx) ∧ ((n ≤ 1000000) ∧ (fX4_areNext tx n K A G p1 p2 (fun r10 => (if r10 = 0 then fX3_joins_J23 tx  Q p1 p2 n K A Lg G kc ks else fX3_joins_J17 tx  Q p1 p2 p3 n K A Lg G kc ks)))))))
theorem tX3_joins {Γ : jG} {n : Nat} {K : Nat → pKd} {G : pG} {A : pA} {Lg : pL} {kc ks : Nat} (tx : Nat) (p1 : Int32) (p2 : Int32) (p3 : Int32) (Q : Nat → (Nat → pKd) → pA → pL → pG → Prop) (h : fX3_joins tx n K A Lg G kc ks p1 p2 p3 Q) : jMet Γ yX3_joins cX3_joins 4 none [] 5 kc ks [.ref 9, .int p1, .int p2, .int p3] (n, K, A, Lg, G) (fun o u => ∃ (n' : Nat) (K' : Nat → pKd) (A' : pA) (Lg' : pL) (G' : pG), o = .inl none ∧ u = (n', K', A', Lg', G') ∧ Q n' K' A' Lg' G') := by
  unfold fX3_joins at h
  obtain ⟨P, hP⟩ : ∃ P : jO → pS → Prop, P = (fun o u => ∃ (n' : Nat) (K' : Nat → pKd) (A' : pA) (Lg' : pL) (G' : pG), o = .inl none ∧ u = (n', K', A', Lg', G') ∧ Q n' K' A' Lg' G') := ⟨_, rfl⟩
  rw [← hP]
  refine jMet_of rfl rfl rfl (Nat.le_of_ble_eq_true rfl) ?_
  show J Γ RX3 cX3_joins 4 none "joins" [] 5 kc ks 0 [(0, .ref 9), (1, .int p1), (2, .int p2), (3, .int p3)] [] (n, K, A, Lg, G) P
  refine j_iload_n 1 rfl dX3_joins_0 ?_
  refine j_iload_n 2 rfl dX3_joins_1 ?_
  refine j_icmp_eq (tgt := 17) dX3_joins_2 (by decide) (fun c => ?_) (fun c => ?_)
  · rw [if_pos c] at h
    exact fX3_joins_J17_ok  tx Q P hP   p1 p2 p3 n K A Lg G kc ks h
  · rw [if_neg c] at h
    refine j_aload_n 0 rfl dX3_joins_5 ?_
    obtain ⟨hf, h⟩ := h
    obtain ⟨ht, h⟩ := h
    refine j_getfr fl_X3_83_3 rfl (f_lt hf (by decide)) (fk_9 hf) ht dX3_joins_6 ?_
    refine j_iload_n 1 rfl dX3_joins_9 ?_
    refine j_iload_n 2 rfl dX3_joins_10 ?_
    obtain ⟨hx, h⟩ := h
    obtain ⟨hn6, h⟩ := h
    refine j_callV (b := tx) (As := [.int p1, .int p2]) (st := []) (C := RX4) (kc' := kc) (ks' := ks) (tX4_areNext hf tx hx p1 p2 _ h) myX4_areNext rfl q1112 q1113 q1114 (j_l2 hn6 (x_lt hx (j := 0) (by decide))) (fun s9 H9 hK9 hR9 h69 => jIs_in hK9 hR9 h69 (x_lt hx (j := 0) (by decide)) (xk_0 hx) rfl) rfl (Nat.le_of_ble_eq_true rfl) rfl (by decide) (Nat.le_refl _) (Nat.le_refl _) dX3_joins_11 (fun v9 u9 hq => ?_) (fun k9 u9 hq => by obtain ⟨_, e9, _⟩ := hq; cases e9)
    obtain ⟨r10, e9, rfl, h⟩ := hq
    obtain rfl := Sum.inl.inj e9
    show J Γ RX3 cX3_joins 4 none "joins" [] 5 kc ks 14 [(0, .ref 9), (1, .int p1), (2, .int p2), (3, .int p3)] [.int r10] (n, K, A, Lg, G) P
    refine j_if_eq (tgt := 23) dX3_joins_14 (by decide) (fun c => ?_) (fun c => ?_)
    · rw [if_pos c] at h
      refine j_ls [0, 1, 2] rfl ?_
      exact fX3_joins_J23_ok  tx Q P hP   p1 p2 n K A Lg G kc ks h
    · rw [if_neg c] at h
      exact fX3_joins_J17_ok  tx Q P hP   p1 p2 p3 n K A Lg G kc ks h
theorem myX3_errandTold : jY yX3_errandTold cX3_errandTold 4 none  0 := ⟨q1168, q127, by decide +kernel, by decide +kernel, by decide⟩
def fX3_errandTold_J106 (tx : Nat)  (X : Nat → (Nat → pKd) → pA → pL → pG → Prop) (Q : Nat → (Nat → pKd) → pA → pL → pG → Prop) (l1 : Int32) (l3 : Int32) (n : Nat) (K : Nat → pKd) (A : pA) (Lg : pL) (G : pG) (kc : Nat) (ks : Nat) : Prop :=
    (fOK n K G) ∧ ((G 9 2 = .ref tx) ∧ ((xOK n K G tx) ∧ ((vp_in (A tx 8) 8) ∧ (∀ A2 : pA, A2 = pup A (tx + 4) (A tx 8).toNatClampNeg l1 → (vp_in (A2 tx 8) 8) ∧ (∀ A4 : pA, A4 = pup A2 (tx + 5) (A2 tx 8).toNatClampNeg l3 → ∀ A5 : pA, A5 = pup A4 tx 8 ((A4 tx 8) + 1) → Q n K A5 Lg G)))))
theorem fX3_errandTold_J106_ok {Γ : jG} (tx : Nat) (X : Nat → (Nat → pKd) → pA → pL → pG → Prop) (Q : Nat → (Nat → pKd) → pA → pL → pG → Prop) (P : jO → pS → Prop) (hP : P = (fun o u => (∃ (n' : Nat) (K' : Nat → pKd) (A' : pA) (Lg' : pL) (G' : pG), o = .inl none ∧ u = (n', K', A', Lg', G') ∧ Q n' K' A' Lg' G') ∨ (∃ (n' : Nat) (K' : Nat → pKd) (A' : pA) (Lg' : pL) (G' : pG), o = .inr 1 ∧ u = (n', K', A', Lg', G') ∧ X n' K' A' Lg' G')))   (l1 : Int32) (l3 : Int32) (n : Nat) (K : Nat → pKd) (A : pA) (Lg : pL) (G : pG) (kc : Nat) (ks : Nat) (h : fX3_errandTold_J106 tx  X Q l1 l3 n K A Lg G kc ks) : J Γ RX3 cX3_errandTold 4 none "errandTold" [] 9 kc ks 106 [(0, .ref 9), (1, .int l1), (3, .int l3)] [] (n, K, A, Lg, G) P := by
  unfold fX3_errandTold_J106 at h
  refine j_aload_n 0 rfl dX3_errandTold_106 ?_
  obtain ⟨hf, h⟩ := h
  obtain ⟨ht, h⟩ := h
  refine j_getfr fl_X3_83_3 rfl (f_lt hf (by decide)) (fk_9 hf) ht dX3_errandTold_107 ?_
  obtain ⟨hx, h⟩ := h
  refine j_getfr fl_X3_216_4 rfl (x_lt hx (j := 0) (by decide)) (xk_0 hx) (xg_0_3 hx) dX3_errandTold_110 ?_
  refine j_aload_n 0 rfl dX3_errandTold_113 ?_
  refine j_getfr fl_X3_83_3 rfl (f_lt hf (by decide)) (fk_9 hf) ht dX3_errandTold_114 ?_
  refine j_getfi fl_X3_212_4 rfl (x_lt hx (j := 0) (by decide)) (xk_0 hx) dX3_errandTold_117 ?_
  refine j_iload_n 1 rfl dX3_errandTold_120 ?_
  obtain ⟨b1, h⟩ := h
  refine j_iastJ (j := (A tx 8).toNatClampNeg) (x_lt hx (j := 4) (by decide)) (xk_4 hx) b1 rfl dX3_errandTold_121 (fun A2 eA2 => ?_)
  replace h := h A2 eA2
  refine j_aload_n 0 rfl dX3_errandTold_122 ?_
  refine j_getfr fl_X3_83_3 rfl (f_lt hf (by decide)) (fk_9 hf) ht dX3_errandTold_123 ?_
  refine j_getfr fl_X3_220_4 rfl (x_lt hx (j := 0) (by decide)) (xk_0 hx) (xg_0_4 hx) dX3_errandTold_126 ?_
  refine j_aload_n 0 rfl dX3_errandTold_129 ?_
  refine j_getfr fl_X3_83_3 rfl (f_lt hf (by decide)) (fk_9 hf) ht dX3_errandTold_130 ?_
  refine j_getfi fl_X3_212_4 rfl (x_lt hx (j := 0) (by decide)) (xk_0 hx) dX3_errandTold_133 ?_
  refine j_iload_n 2 rfl dX3_errandTold_136 ?_
  obtain ⟨b3, h⟩ := h
  refine j_iastJ (j := (A2 tx 8).toNatClampNeg) (x_lt hx (j := 5) (by decide)) (xk_5 hx) b3 rfl dX3_errandTold_137 (fun A4 eA4 => ?_)
  replace h := h A4 eA4
  refine j_aload_n 0 rfl dX3_errandTold_138 ?_
  refine j_getfr fl_X3_83_3 rfl (f_lt hf (by decide)) (fk_9 hf) ht dX3_errandTold_139 ?_
  refine j_dup rfl dX3_errandTold_142 ?_
  refine j_getfi fl_X3_212_4 rfl (x_lt hx (j := 0) (by decide)) (xk_0 hx) dX3_errandTold_143 ?_
  refine j_iconst (v := 1) dX3_errandTold_146 (by decide) ?_
  refine j_iadd dX3_errandTold_147 ?_
  refine j_putfiE (fp_X3_212_4 _) rfl rfl rfl (x_lt hx (j := 0) (by decide)) (xk_0 hx) dX3_errandTold_148 (fun A5 eA5 => ?_)
  replace h := h A5 eA5
  refine j_vret rfl ?_ dX3_errandTold_151
  rw [hP]
  exact Or.inl ⟨n, K, A5, Lg, G, rfl, rfl, h⟩
def fX3_errandTold_J81 (tx : Nat)  (X : Nat → (Nat → pKd) → pA → pL → pG → Prop) (Q : Nat → (Nat → pKd) → pA → pL → pG → Prop) (l1 : Int32) (l3 : Int32) (n : Nat) (K : Nat → pKd) (A : pA) (Lg : pL) (G : pG) (kc : Nat) (ks : Nat) : Prop :=
    (fOK n K G) ∧ ((G 9 2 = .ref tx) ∧ ((xOK n K G tx) ∧ ((n ≤ 1000000) ∧ (fJ5_get (tx + 3) n K A G l1 (fun r6 => (r6 < n) ∧ ((K r6 = .inl 16) ∧ (∀ A9 : pA, A9 = pup A r6 3 ((A r6 3) ||| ((1 : Int32) <<< (l3 &&& 31))) → fX3_errandTold_J106 tx  X Q l1 l3 n K A9 Lg G kc ks)))))))
theorem fX3_errandTold_J81_ok {Γ : jG} (tx : Nat) (X : Nat → (Nat → pKd) → pA → pL → pG → Prop) (Q : Nat → (Nat → pKd) → pA → pL → pG → Prop) (P : jO → pS → Prop) (hP : P = (fun o u => (∃ (n' : Nat) (K' : Nat → pKd) (A' : pA) (Lg' : pL) (G' : pG), o = .inl none ∧ u = (n', K', A', Lg', G') ∧ Q n' K' A' Lg' G') ∨ (∃ (n' : Nat) (K' : Nat → pKd) (A' : pA) (Lg' : pL) (G' : pG), o = .inr 1 ∧ u = (n', K', A', Lg', G') ∧ X n' K' A' Lg' G')))   (l1 : Int32) (l3 : Int32) (n : Nat) (K : Nat → pKd) (A : pA) (Lg : pL) (G : pG) (kc : Nat) (ks : Nat) (h : fX3_errandTold_J81 tx  X Q l1 l3 n K A Lg G kc ks) : J Γ RX3 cX3_errandTold 4 none "errandTold" [] 9 kc ks 81 [(0, .ref 9), (1, .int l1), (3, .int l3)] [] (n, K, A, Lg, G) P := by
  unfold fX3_errandTold_J81 at h
  refine j_aload_n 0 rfl dX3_errandTold_81 ?_
  obtain ⟨hf, h⟩ := h
  obtain ⟨ht, h⟩ := h
  refine j_getfr fl_X3_83_3 rfl (f_lt hf (by decide)) (fk_9 hf) ht dX3_errandTold_82 ?_
  obtain ⟨hx, h⟩ := h
  refine j_getfr fl_X3_174_4 rfl (x_lt hx (j := 0) (by decide)) (xk_0 hx) (xg_0_2 hx) dX3_errandTold_85 ?_
  refine j_iload_n 1 rfl dX3_errandTold_88 ?_
  obtain ⟨hn6, h⟩ := h
  refine j_callV (b := (tx + 3)) (As := [.int l1]) (st := []) (C := RJ5) (kc' := kc) (ks' := ks) (tJ5_get hf (tx + 3) (x_lt hx (j := 3) (by decide)) (xk_3 hx) l1 _ h) myJ5_get rfl q1117 q540 q541 (j_l2 hn6 (x_lt hx (j := 3) (by decide))) (fun s9 H9 hK9 hR9 h69 => jIs_in hK9 hR9 h69 (x_lt hx (j := 3) (by decide)) (xk_3 hx) rfl) rfl (Nat.le_of_ble_eq_true rfl) rfl (by decide) (Nat.le_refl _) (Nat.le_refl _) dX3_errandTold_89 (fun v9 u9 hq => ?_) (fun k9 u9 hq => by obtain ⟨_, e9, _⟩ := hq; cases e9)
  obtain ⟨r6, e9, rfl, h⟩ := hq
  obtain rfl := Sum.inl.inj e9
  show J Γ RX3 cX3_errandTold 4 none "errandTold" [] 9 kc ks 92 [(0, .ref 9), (1, .int l1), (3, .int l3)] [.ref r6] (n, K, A, Lg, G) P
  obtain ⟨b7, h⟩ := h
  obtain ⟨b8, h⟩ := h
  refine j_cast (C := "DogsHour$Person") q1145 (j_l2 hn6 b7) (fun s9 H9 hK9 hR9 h69 => jIs_in hK9 hR9 h69 b7 b8 rfl) (Or.inl rfl) dX3_errandTold_92 ?_
  refine j_dup rfl dX3_errandTold_95 ?_
  refine j_getfi fl_X3_215_16 rfl b7 b8 dX3_errandTold_96 ?_
  refine j_iconst (v := 1) dX3_errandTold_99 (by decide) ?_
  refine j_iload_n 2 rfl dX3_errandTold_100 ?_
  refine j_ishl dX3_errandTold_101 ?_
  refine j_ior dX3_errandTold_102 ?_
  refine j_putfiE (fp_X3_215_16 _) rfl rfl rfl b7 b8 dX3_errandTold_103 (fun A9 eA9 => ?_)
  replace h := h A9 eA9
  exact fX3_errandTold_J106_ok  tx X Q P hP   l1 l3 n K A9 Lg G kc ks h
def fX3_errandTold (tx : Nat) (n : Nat) (K : Nat → pKd) (A : pA) (Lg : pL) (G : pG) (kc : Nat) (ks : Nat) (X : Nat → (Nat → pKd) → pA → pL → pG → Prop) (Q : Nat → (Nat → pKd) → pA → pL → pG → Prop) : Prop :=
    (fOK n K G) ∧ ((G 9 2 = .ref tx) ∧ ((xOK n K G tx) ∧ (∃ kY10 sY11 : Nat, kY10 ≤ kc ∧ sY11 ≤ ks ∧ (fX3_begins n K A Lg G kY10 sY11 (A tx 8) 8 X (fun n12 K13 A14 Lg15 G16 => (fOK n12 K13 G16) ∧ ((G16 9 2 = .ref tx) ∧ ((xOK n12 K13 G16 tx) ∧ (∃ kY17 sY18 : Nat, kY17 ≤ kc - kY10 ∧ sY18 ≤ ks - sY11 ∧ (fX3_known (tx + 3) n12 K13 A14 Lg15 G16 kY17 sY18 X (fun r19 n20 K21 A22 Lg23 G24 => (fOK n20 K21 G24) ∧ ((G24 9 2 = .ref tx) ∧ ((xOK n20 K21 G24 tx) ∧ (∃ kY25 sY26 : Nat, kY25 ≤ kc - kY10 - kY17 ∧ sY26 ≤ ks - sY11 - sY18 ∧ (fX3_known (tx + 1) n20 K21 A22 Lg23 G24 kY25 sY26 X (fun r27 n28 K29 A30 Lg31 G32 => (if r19 < 0 then fX3_errandTold_J106 tx  X Q r19 r27 n28 K29 A30 Lg31 G32 (kc - kY10 - kY17 - kY25) (ks - sY11 - sY18 - sY26) else (if r27 < 0 then fX3_errandTold_J106 tx  X Q r19 r27 n28 K29 A30 Lg31 G32 (kc - kY10 - kY17 - kY25) (ks - sY11 - sY18 - sY26) else (fOK n28 K29 G32) ∧ ((G32 9 2 = .ref tx) ∧ ((xOK n28 K29 G32 tx) ∧ ((n28 ≤ 1000000) ∧ (fJ5_get (tx + 3) n28 K29 A30 G32 r19 (fun r33 => (r33 < n28) ∧ ((K29 r33 = .inl 16) ∧ ((if (((A30 r33 3) >>> (r27 &&& 31)) &&& 1) = 1 then fX3_tell A30 3 (A22 9 3) (fun A36 => fX3_errandTold_J81 tx  X Q r19 r27 n28 K29 A36 Lg31 G32 (kc - kY10 - kY17 - kY25) (ks - sY11 - sY18 - sY26)) else fX3_errandTold_J81 tx  X Q r19 r27 n28 K29 A30 Lg31 G32 (kc - kY10 - kY17 - kY25) (ks - sY11 - sY18 - sY26))))))))))))))))))))))))))
theorem tX3_errandTold {Γ : jG} {n : Nat} {K : Nat → pKd} {G : pG} {A : pA} {Lg : pL} {kc ks : Nat} (tx : Nat)  (X : Nat → (Nat → pKd) → pA → pL → pG → Prop) (Q : Nat → (Nat → pKd) → pA → pL → pG → Prop) (h : fX3_errandTold tx n K A Lg G kc ks X Q) : jMet Γ yX3_errandTold cX3_errandTold 4 none [] 9 kc ks [.ref 9] (n, K, A, Lg, G) (fun o u => (∃ (n' : Nat) (K' : Nat → pKd) (A' : pA) (Lg' : pL) (G' : pG), o = .inl none ∧ u = (n', K', A', Lg', G') ∧ Q n' K' A' Lg' G') ∨ (∃ (n' : Nat) (K' : Nat → pKd) (A' : pA) (Lg' : pL) (G' : pG), o = .inr 1 ∧ u = (n', K', A', Lg', G') ∧ X n' K' A' Lg' G')) := by
  unfold fX3_errandTold at h
  obtain ⟨P, hP⟩ : ∃ P : jO → pS → Prop, P = (fun o u => (∃ (n' : Nat) (K' : Nat → pKd) (A' : pA) (Lg' : pL) (G' : pG), o = .inl none ∧ u = (n', K', A', Lg', G') ∧ Q n' K' A' Lg' G') ∨ (∃ (n' : Nat) (K' : Nat → pKd) (A' : pA) (Lg' : pL) (G' : pG), o = .inr 1 ∧ u = (n', K', A', Lg', G') ∧ X n' K' A' Lg' G')) := ⟨_, rfl⟩
  rw [← hP]
  refine jMet_of rfl rfl rfl (Nat.le_of_ble_eq_true rfl) ?_
  show J Γ RX3 cX3_errandTold 4 none "errandTold" [] 9 kc ks 0 [(0, .ref 9)] [] (n, K, A, Lg, G) P
  refine j_aload_n 0 rfl dX3_errandTold_0 ?_
  refine j_aload_n 0 rfl dX3_errandTold_1 ?_
  obtain ⟨hf, h⟩ := h
  obtain ⟨ht, h⟩ := h
  refine j_getfr fl_X3_83_3 rfl (f_lt hf (by decide)) (fk_9 hf) ht dX3_errandTold_2 ?_
  obtain ⟨hx, h⟩ := h
  refine j_getfi fl_X3_212_4 rfl (x_lt hx (j := 0) (by decide)) (xk_0 hx) dX3_errandTold_5 ?_
  refine j_bipush (v := 8) dX3_errandTold_8 (by decide) ?_
  obtain ⟨kY10, sY11, kY10h, sY11h, h⟩ := h
  refine j_callV (b := 9) (As := [.int (A tx 8), .int 8]) (st := []) (C := RX3) (kc' := kc - kY10) (ks' := ks - sY11) (tX3_begins  (A tx 8) 8 X _ h) myX3_begins rfl q772 q774 qs17 (by decide) (fun s9 H9 hK9 hR9 h69 => jIs_in hK9 hR9 h69 (f_lt hf (by decide)) (fk_9 hf) rfl) rfl (Nat.le_of_ble_eq_true rfl) rfl (by decide) (by omega) (by omega) dX3_errandTold_10 (fun v9 u9 hq => ?_) (fun k9 u9 hq => by rcases hq with ⟨_, _, _, _, _, e9, _⟩ | ⟨n9, K9, A9, L9, G9, e9, e8, hX⟩; exact nomatch e9; rw [hP]; exact Or.inr ⟨n9, K9, A9, L9, G9, e9, e8, hX⟩)
  rcases hq with hq | ⟨n9, K9, A9, L9, G9, e9, e8, hX⟩
  rotate_left
  · exact nomatch e9
  obtain ⟨n12, K13, A14, Lg15, G16, e9, rfl, h⟩ := hq
  obtain rfl := Sum.inl.inj e9
  show J Γ RX3 cX3_errandTold 4 none "errandTold" [] 9 (kc - kY10) (ks - sY11) 13 [(0, .ref 9)] [] (n12, K13, A14, Lg15, G16) P
  refine j_aload_n 0 rfl dX3_errandTold_13 ?_
  refine j_aload_n 0 rfl dX3_errandTold_14 ?_
  obtain ⟨hf, h⟩ := h
  obtain ⟨ht, h⟩ := h
  refine j_getfr fl_X3_83_3 rfl (f_lt hf (by decide)) (fk_9 hf) ht dX3_errandTold_15 ?_
  obtain ⟨hx, h⟩ := h
  refine j_getfr fl_X3_174_4 rfl (x_lt hx (j := 0) (by decide)) (xk_0 hx) (xg_0_2 hx) dX3_errandTold_18 ?_
  obtain ⟨kY17, sY18, kY17h, sY18h, h⟩ := h
  refine j_callV (b := 9) (As := [.ref (tx + 3)]) (st := []) (C := RX3) (kc' := kc - kY10 - kY17) (ks' := ks - sY11 - sY18) (tX3_known  (tx + 3) X _ h) myX3_known rfl q1103 q1105 qs28 (by decide) (fun s9 H9 hK9 hR9 h69 => jIs_in hK9 hR9 h69 (f_lt hf (by decide)) (fk_9 hf) rfl) rfl (Nat.le_of_ble_eq_true rfl) rfl (by decide) (by omega) (by omega) dX3_errandTold_21 (fun v9 u9 hq => ?_) (fun k9 u9 hq => by rcases hq with ⟨_, _, _, _, _, _, e9, _⟩ | ⟨n9, K9, A9, L9, G9, e9, e8, hX⟩; exact nomatch e9; rw [hP]; exact Or.inr ⟨n9, K9, A9, L9, G9, e9, e8, hX⟩)
  rcases hq with hq | ⟨n9, K9, A9, L9, G9, e9, e8, hX⟩
  rotate_left
  · exact nomatch e9
  obtain ⟨r19, n20, K21, A22, Lg23, G24, e9, rfl, h⟩ := hq
  obtain rfl := Sum.inl.inj e9
  show J Γ RX3 cX3_errandTold 4 none "errandTold" [] 9 (kc - kY10 - kY17) (ks - sY11 - sY18) 24 [(0, .ref 9)] [.int r19] (n20, K21, A22, Lg23, G24) P
  refine j_istore_n (by decide) rfl dX3_errandTold_24 ?_
  refine j_aload_n 1 rfl dX3_errandTold_25 ?_
  obtain ⟨hf, h⟩ := h
  refine j_getfi fl_X3_31_3 rfl (f_lt hf (by decide)) (fk_9 hf) dX3_errandTold_26 ?_
  refine j_istore_n (by decide) rfl dX3_errandTold_29 ?_
  refine j_aload_n 2 rfl dX3_errandTold_30 ?_
  refine j_aload_n 2 rfl dX3_errandTold_31 ?_
  obtain ⟨ht, h⟩ := h
  refine j_getfr fl_X3_83_3 rfl (f_lt hf (by decide)) (fk_9 hf) ht dX3_errandTold_32 ?_
  obtain ⟨hx, h⟩ := h
  refine j_getfr fl_X3_120_4 rfl (x_lt hx (j := 0) (by decide)) (xk_0 hx) (xg_0_0 hx) dX3_errandTold_35 ?_
  obtain ⟨kY25, sY26, kY25h, sY26h, h⟩ := h
  refine j_callV (b := 9) (As := [.ref (tx + 1)]) (st := []) (C := RX3) (kc' := kc - kY10 - kY17 - kY25) (ks' := ks - sY11 - sY18 - sY26) (tX3_known  (tx + 1) X _ h) myX3_known rfl q1103 q1105 qs28 (by decide) (fun s9 H9 hK9 hR9 h69 => jIs_in hK9 hR9 h69 (f_lt hf (by decide)) (fk_9 hf) rfl) rfl (Nat.le_of_ble_eq_true rfl) rfl (by decide) (by omega) (by omega) dX3_errandTold_38 (fun v9 u9 hq => ?_) (fun k9 u9 hq => by rcases hq with ⟨_, _, _, _, _, _, e9, _⟩ | ⟨n9, K9, A9, L9, G9, e9, e8, hX⟩; exact nomatch e9; rw [hP]; exact Or.inr ⟨n9, K9, A9, L9, G9, e9, e8, hX⟩)
  rcases hq with hq | ⟨n9, K9, A9, L9, G9, e9, e8, hX⟩
  rotate_left
  · exact nomatch e9
  obtain ⟨r27, n28, K29, A30, Lg31, G32, e9, rfl, h⟩ := hq
  obtain rfl := Sum.inl.inj e9
  show J Γ RX3 cX3_errandTold 4 none "errandTold" [] 9 (kc - kY10 - kY17 - kY25) (ks - sY11 - sY18 - sY26) 41 [(2, .int (A22 9 3)), (1, .int r19), (0, .ref 9)] [.int r27] (n28, K29, A30, Lg31, G32) P
  refine j_istore_n (by decide) rfl dX3_errandTold_41 ?_
  refine j_iload_n 2 rfl dX3_errandTold_42 ?_
  refine j_if_lt (tgt := 106) dX3_errandTold_43 (by decide) (fun c => ?_) (fun c => ?_)
  · rw [if_pos c] at h
    refine j_ls [3, 2, 0] rfl ?_
    exact fX3_errandTold_J106_ok  tx X Q P hP   r19 r27 n28 K29 A30 Lg31 G32 (kc - kY10 - kY17 - kY25) (ks - sY11 - sY18 - sY26) h
  · rw [if_neg c] at h
    refine j_iload_n 0 rfl dX3_errandTold_46 ?_
    refine j_if_lt (tgt := 106) dX3_errandTold_47 (by decide) (fun c => ?_) (fun c => ?_)
    · rw [if_pos c] at h
      refine j_ls [3, 2, 0] rfl ?_
      exact fX3_errandTold_J106_ok  tx X Q P hP   r19 r27 n28 K29 A30 Lg31 G32 (kc - kY10 - kY17 - kY25) (ks - sY11 - sY18 - sY26) h
    · rw [if_neg c] at h
      refine j_aload_n 3 rfl dX3_errandTold_50 ?_
      obtain ⟨hf, h⟩ := h
      obtain ⟨ht, h⟩ := h
      refine j_getfr fl_X3_83_3 rfl (f_lt hf (by decide)) (fk_9 hf) ht dX3_errandTold_51 ?_
      obtain ⟨hx, h⟩ := h
      refine j_getfr fl_X3_174_4 rfl (x_lt hx (j := 0) (by decide)) (xk_0 hx) (xg_0_2 hx) dX3_errandTold_54 ?_
      refine j_iload_n 2 rfl dX3_errandTold_57 ?_
      obtain ⟨hn6, h⟩ := h
      refine j_callV (b := (tx + 3)) (As := [.int r19]) (st := []) (C := RJ5) (kc' := kc - kY10 - kY17 - kY25) (ks' := ks - sY11 - sY18 - sY26) (tJ5_get hf (tx + 3) (x_lt hx (j := 3) (by decide)) (xk_3 hx) r19 _ h) myJ5_get rfl q1117 q540 q541 (j_l2 hn6 (x_lt hx (j := 3) (by decide))) (fun s9 H9 hK9 hR9 h69 => jIs_in hK9 hR9 h69 (x_lt hx (j := 3) (by decide)) (xk_3 hx) rfl) rfl (Nat.le_of_ble_eq_true rfl) rfl (by decide) (Nat.le_refl _) (Nat.le_refl _) dX3_errandTold_58 (fun v9 u9 hq => ?_) (fun k9 u9 hq => by obtain ⟨_, e9, _⟩ := hq; cases e9)
      obtain ⟨r33, e9, rfl, h⟩ := hq
      obtain rfl := Sum.inl.inj e9
      show J Γ RX3 cX3_errandTold 4 none "errandTold" [] 9 (kc - kY10 - kY17 - kY25) (ks - sY11 - sY18 - sY26) 61 [(3, .int r27), (2, .int (A22 9 3)), (1, .int r19), (0, .ref 9)] [.ref r33] (n28, K29, A30, Lg31, G32) P
      obtain ⟨b34, h⟩ := h
      obtain ⟨b35, h⟩ := h
      refine j_cast (C := "DogsHour$Person") q1145 (j_l2 hn6 b34) (fun s9 H9 hK9 hR9 h69 => jIs_in hK9 hR9 h69 b34 b35 rfl) (Or.inl rfl) dX3_errandTold_61 ?_
      refine j_getfi fl_X3_215_16 rfl b34 b35 dX3_errandTold_64 ?_
      refine j_iload_n 0 rfl dX3_errandTold_67 ?_
      refine j_ishr dX3_errandTold_68 ?_
      refine j_iconst (v := 1) dX3_errandTold_69 (by decide) ?_
      refine j_iand dX3_errandTold_70 ?_
      refine j_iconst (v := 1) dX3_errandTold_71 (by decide) ?_
      refine j_icmp_ne (tgt := 81) dX3_errandTold_72 (by decide) (fun c => ?_) (fun c => ?_)
      · rw [if_neg c] at h
        refine j_ls [3, 2, 0] rfl ?_
        exact fX3_errandTold_J81_ok  tx X Q P hP   r19 r27 n28 K29 A30 Lg31 G32 (kc - kY10 - kY17 - kY25) (ks - sY11 - sY18 - sY26) h
      · rw [if_pos c] at h
        refine j_aload_n 3 rfl dX3_errandTold_75 ?_
        refine j_iconst (v := 3) dX3_errandTold_76 (by decide) ?_
        refine j_iload_n 1 rfl dX3_errandTold_77 ?_
        refine j_callV (b := 9) (As := [.int 3, .int (A22 9 3)]) (st := []) (C := RX3) (kc' := kc - kY10 - kY17 - kY25) (ks' := ks - sY11 - sY18 - sY26) (tX3_tell hf 3 (A22 9 3) _ h) myX3_tell rfl q1030 q1032 qs24 (by decide) (fun s9 H9 hK9 hR9 h69 => jIs_in hK9 hR9 h69 (f_lt hf (by decide)) (fk_9 hf) rfl) rfl (Nat.le_of_ble_eq_true rfl) rfl (by decide) (Nat.le_refl _) (Nat.le_refl _) dX3_errandTold_78 (fun v9 u9 hq => ?_) (fun k9 u9 hq => by obtain ⟨_, e9, _⟩ := hq; cases e9)
        obtain ⟨A36, e9, rfl, h⟩ := hq
        obtain rfl := Sum.inl.inj e9
        show J Γ RX3 cX3_errandTold 4 none "errandTold" [] 9 (kc - kY10 - kY17 - kY25) (ks - sY11 - sY18 - sY26) 81 [(3, .int r27), (2, .int (A22 9 3)), (1, .int r19), (0, .ref 9)] [] (n28, K29, A36, Lg31, G32) P
        refine j_ls [3, 2, 0] rfl ?_
        exact fX3_errandTold_J81_ok  tx X Q P hP   r19 r27 n28 K29 A36 Lg31 G32 (kc - kY10 - kY17 - kY25) (ks - sY11 - sY18 - sY26) h
theorem myX3_sum : jY yX3_sum cX3_sum 3 (some (.object "DogsHour$Sum")) 0 := ⟨q779, q127, by decide +kernel, by decide +kernel, by decide⟩
theorem myX3_unit : jY yX3_unit cX3_unit 2 (some (.object "DogsHour$Sum"))  0 := ⟨q787, q127, by decide +kernel, by decide +kernel, by decide⟩
def fX3_unit_J87 (rec : Nat → (Nat → pKd) → pA → pL → pG → Nat → Nat → (Nat → (Nat → pKd) → pA → pL → pG → Prop) → (Nat → Nat → (Nat → pKd) → pA → pL → pG → Prop) → Prop)  (X : Nat → (Nat → pKd) → pA → pL → pG → Prop) (Q : Nat → Nat → (Nat → pKd) → pA → pL → pG → Prop) (n : Nat) (K : Nat → pKd) (A : pA) (Lg : pL) (G : pG) (kc : Nat) (ks : Nat) : Prop :=
    (fOK n K G) ∧ (fX3_isSign A 40 (fun r1 => (if r1 = 0 then ∃ kY33 sY34 : Nat, kY33 ≤ kc ∧ sY34 ≤ ks ∧ (fX3_wrong n K A Lg G kY33 sY34 1 (fun n35 K36 A37 Lg38 G39 => (fOK n35 K36 G39) ∧ (X n35 K36 A37 Lg38 G39))) else (if (A 9 4) = 6 then ∃ kY26 sY27 : Nat, kY26 ≤ kc ∧ sY27 ≤ ks ∧ (fX3_wrong n K A Lg G kY26 sY27 2 (fun n28 K29 A30 Lg31 G32 => (fOK n28 K29 G32) ∧ (X n28 K29 A30 Lg31 G32))) else ∀ A2 : pA, A2 = pup A 9 4 ((A 9 4) + 1) → ∃ kY3 sY4 : Nat, kY3 ≤ kc ∧ sY4 ≤ ks ∧ (fX3_pass n K A2 Lg G kY3 sY4 X (fun n5 K6 A7 Lg8 G9 => ∃ kY10 sY11 : Nat, kY10 ≤ kc - kY3 ∧ sY11 ≤ ks - sY4 ∧ ((fOK n5 K6 G9) ∧ (rec n5 K6 A7 Lg8 G9 kY10 sY11 X (fun r12 n13 K14 A15 Lg16 G17 => ∃ kY18 sY19 : Nat, kY18 ≤ kc - kY3 - kY10 ∧ sY19 ≤ ks - sY4 - sY11 ∧ ((fOK n13 K14 G17) ∧ (fX3_sign n13 K14 A15 Lg16 G17 kY18 sY19 41 X (fun n20 K21 A22 Lg23 G24 => (fOK n20 K21 G24) ∧ (∀ A25 : pA, A25 = pup A22 9 4 ((A22 9 4) - 1) → Q r12 n20 K21 A25 Lg23 G24)))))))))))))
theorem fX3_unit_J87_ok {Γ : jG} (rec : Nat → (Nat → pKd) → pA → pL → pG → Nat → Nat → (Nat → (Nat → pKd) → pA → pL → pG → Prop) → (Nat → Nat → (Nat → pKd) → pA → pL → pG → Prop) → Prop) (dR : Nat) (hrec : ∀ (n : Nat) (K : Nat → pKd) (A : pA) (Lg : pL) (G : pG) (kc ks : Nat) (X : Nat → (Nat → pKd) → pA → pL → pG → Prop) (Q : Nat → Nat → (Nat → pKd) → pA → pL → pG → Prop), rec n K A Lg G kc ks X Q → jMet Γ yX3_sum cX3_sum 3 (some (.object "DogsHour$Sum")) [] dR kc ks [.ref 9] (n, K, A, Lg, G) (fun o u => (∃ (r : Nat) (n' : Nat) (K' : Nat → pKd) (A' : pA) (Lg' : pL) (G' : pG), o = .inl (some (.ref r)) ∧ u = (n', K', A', Lg', G') ∧ Q r n' K' A' Lg' G') ∨ (∃ (n' : Nat) (K' : Nat → pKd) (A' : pA) (Lg' : pL) (G' : pG), o = .inr 1 ∧ u = (n', K', A', Lg', G') ∧ X n' K' A' Lg' G'))) (hdR : 20 ≤ dR) (X : Nat → (Nat → pKd) → pA → pL → pG → Prop) (Q : Nat → Nat → (Nat → pKd) → pA → pL → pG → Prop) (P : jO → pS → Prop) (hP : P = (fun o u => (∃ (r : Nat) (n' : Nat) (K' : Nat → pKd) (A' : pA) (Lg' : pL) (G' : pG), o = .inl (some (.ref r)) ∧ u = (n', K', A', Lg', G') ∧ Q r n' K' A' Lg' G') ∨ (∃ (n' : Nat) (K' : Nat → pKd) (A' : pA) (Lg' : pL) (G' : pG), o = .inr 1 ∧ u = (n', K', A', Lg', G') ∧ X n' K' A' Lg' G')))   (n : Nat) (K : Nat → pKd) (A : pA) (Lg : pL) (G : pG) (kc : Nat) (ks : Nat) (h : fX3_unit_J87 rec  X Q n K A Lg G kc ks) : J Γ RX3 cX3_unit 2 (some (.object "DogsHour$Sum")) "unit" [] (dR + 1) kc ks 87 [(0, .ref 9)] [] (n, K, A, Lg, G) P := by
  unfold fX3_unit_J87 at h
  refine j_aload_n 0 rfl dX3_unit_87 ?_
  refine j_bipush (v := 40) dX3_unit_88 (by decide) ?_
  obtain ⟨hf, h⟩ := h
  refine j_callV (b := 9) (As := [.int 40]) (st := []) (C := RX3) (kc' := kc) (ks' := ks) (tX3_isSign hf 40 _ h) myX3_isSign rfl q764 q766 qs15 (by decide) (fun s9 H9 hK9 hR9 h69 => jIs_in hK9 hR9 h69 (f_lt hf (by decide)) (fk_9 hf) rfl) rfl (Nat.le_of_ble_eq_true rfl) rfl (by omega) (Nat.le_refl _) (Nat.le_refl _) dX3_unit_90 (fun v9 u9 hq => ?_) (fun k9 u9 hq => by obtain ⟨_, e9, _⟩ := hq; cases e9)
  obtain ⟨r1, e9, rfl, h⟩ := hq
  obtain rfl := Sum.inl.inj e9
  show J Γ RX3 cX3_unit 2 (some (.object "DogsHour$Sum")) "unit" [] (dR + 1) kc ks 93 [(0, .ref 9)] [.int r1] (n, K, A, Lg, G) P
  refine j_if_ne (tgt := 102) dX3_unit_93 (by decide) (fun c => ?_) (fun c => ?_)
  · rw [if_neg c] at h
    refine j_aload_n 0 rfl dX3_unit_102 ?_
    refine j_getfi fl_X3_99_3 rfl (f_lt hf (by decide)) (fk_9 hf) dX3_unit_103 ?_
    refine j_bipush (v := 6) dX3_unit_106 (by decide) ?_
    refine j_icmp_ne (tgt := 117) dX3_unit_108 (by decide) (fun c => ?_) (fun c => ?_)
    · rw [if_neg c] at h
      refine j_aload_n 0 rfl dX3_unit_117 ?_
      refine j_dup rfl dX3_unit_118 ?_
      refine j_getfi fl_X3_99_3 rfl (f_lt hf (by decide)) (fk_9 hf) dX3_unit_119 ?_
      refine j_iconst (v := 1) dX3_unit_122 (by decide) ?_
      refine j_iadd dX3_unit_123 ?_
      refine j_putfiE (fp_X3_99_3 _) rfl rfl rfl (f_lt hf (by decide)) (fk_9 hf) dX3_unit_124 (fun A2 eA2 => ?_)
      replace h := h A2 eA2
      refine j_aload_n 0 rfl dX3_unit_127 ?_
      obtain ⟨kY3, sY4, kY3h, sY4h, h⟩ := h
      refine j_callV (b := 9) (As := []) (st := []) (C := RX3) (kc' := kc - kY3) (ks' := ks - sY4) (tX3_pass   X _ h) myX3_pass rfl q727 q729 qs12 (by decide) (fun s9 H9 hK9 hR9 h69 => jIs_in hK9 hR9 h69 (f_lt hf (by decide)) (fk_9 hf) rfl) rfl (Nat.le_of_ble_eq_true rfl) rfl (by omega) (by omega) (by omega) dX3_unit_128 (fun v9 u9 hq => ?_) (fun k9 u9 hq => by rcases hq with ⟨_, _, _, _, _, e9, _⟩ | ⟨n9, K9, A9, L9, G9, e9, e8, hX⟩; exact nomatch e9; rw [hP]; exact Or.inr ⟨n9, K9, A9, L9, G9, e9, e8, hX⟩)
      rcases hq with hq | ⟨n9, K9, A9, L9, G9, e9, e8, hX⟩
      rotate_left
      · exact nomatch e9
      obtain ⟨n5, K6, A7, Lg8, G9, e9, rfl, h⟩ := hq
      obtain rfl := Sum.inl.inj e9
      show J Γ RX3 cX3_unit 2 (some (.object "DogsHour$Sum")) "unit" [] (dR + 1) (kc - kY3) (ks - sY4) 131 [(0, .ref 9)] [] (n5, K6, A7, Lg8, G9) P
      refine j_aload_n 0 rfl dX3_unit_131 ?_
      obtain ⟨kY10, sY11, kY10h, sY11h, h⟩ := h
      obtain ⟨hf, h⟩ := h
      refine j_callV (b := 9) (As := []) (st := []) (C := RX3) (kc' := kc - kY3 - kY10) (ks' := ks - sY4 - sY11) (hrec _ _ _ _ _ _ _ _ _ h) myX3_sum rfl q776 q778 qs18 (by decide) (fun s9 H9 hK9 hR9 h69 => jIs_in hK9 hR9 h69 (f_lt hf (by decide)) (fk_9 hf) rfl) rfl (Nat.le_of_ble_eq_true rfl) rfl (by omega) (by omega) (by omega) dX3_unit_132 (fun v9 u9 hq => ?_) (fun k9 u9 hq => by rcases hq with ⟨_, _, _, _, _, _, e9, _⟩ | ⟨n9, K9, A9, L9, G9, e9, e8, hX⟩; exact nomatch e9; rw [hP]; exact Or.inr ⟨n9, K9, A9, L9, G9, e9, e8, hX⟩)
      rcases hq with hq | ⟨n9, K9, A9, L9, G9, e9, e8, hX⟩
      rotate_left
      · exact nomatch e9
      obtain ⟨r12, n13, K14, A15, Lg16, G17, e9, rfl, h⟩ := hq
      obtain rfl := Sum.inl.inj e9
      show J Γ RX3 cX3_unit 2 (some (.object "DogsHour$Sum")) "unit" [] (dR + 1) (kc - kY3 - kY10) (ks - sY4 - sY11) 135 [(0, .ref 9)] [.ref r12] (n13, K14, A15, Lg16, G17) P
      refine j_astore_n (by decide) rfl dX3_unit_135 ?_
      refine j_aload_n 1 rfl dX3_unit_136 ?_
      refine j_bipush (v := 41) dX3_unit_137 (by decide) ?_
      obtain ⟨kY18, sY19, kY18h, sY19h, h⟩ := h
      obtain ⟨hf, h⟩ := h
      refine j_callV (b := 9) (As := [.int 41]) (st := []) (C := RX3) (kc' := kc - kY3 - kY10 - kY18) (ks' := ks - sY4 - sY11 - sY19) (tX3_sign  41 X _ h) myX3_sign rfl q760 q762 qs14 (by decide) (fun s9 H9 hK9 hR9 h69 => jIs_in hK9 hR9 h69 (f_lt hf (by decide)) (fk_9 hf) rfl) rfl (Nat.le_of_ble_eq_true rfl) rfl (by omega) (by omega) (by omega) dX3_unit_139 (fun v9 u9 hq => ?_) (fun k9 u9 hq => by rcases hq with ⟨_, _, _, _, _, e9, _⟩ | ⟨n9, K9, A9, L9, G9, e9, e8, hX⟩; exact nomatch e9; rw [hP]; exact Or.inr ⟨n9, K9, A9, L9, G9, e9, e8, hX⟩)
      rcases hq with hq | ⟨n9, K9, A9, L9, G9, e9, e8, hX⟩
      rotate_left
      · exact nomatch e9
      obtain ⟨n20, K21, A22, Lg23, G24, e9, rfl, h⟩ := hq
      obtain rfl := Sum.inl.inj e9
      show J Γ RX3 cX3_unit 2 (some (.object "DogsHour$Sum")) "unit" [] (dR + 1) (kc - kY3 - kY10 - kY18) (ks - sY4 - sY11 - sY19) 142 [(1, .ref r12), (0, .ref 9)] [] (n20, K21, A22, Lg23, G24) P
      refine j_aload_n 1 rfl dX3_unit_142 ?_
      refine j_dup rfl dX3_unit_143 ?_
      obtain ⟨hf, h⟩ := h
      refine j_getfi fl_X3_99_3 rfl (f_lt hf (by decide)) (fk_9 hf) dX3_unit_144 ?_
      refine j_iconst (v := 1) dX3_unit_147 (by decide) ?_
      refine j_isub dX3_unit_148 ?_
      refine j_putfiE (fp_X3_99_3 _) rfl rfl rfl (f_lt hf (by decide)) (fk_9 hf) dX3_unit_149 (fun A25 eA25 => ?_)
      replace h := h A25 eA25
      refine j_aload_n 0 rfl dX3_unit_152 ?_
      refine j_aret rfl (by first | exact Or.inl ⟨_, rfl⟩ | exact Or.inr ⟨_, rfl⟩) (Or.inr ⟨_, rfl⟩) ?_ dX3_unit_153
      rw [hP]
      exact Or.inl ⟨r12, n20, K21, A25, Lg23, G24, rfl, rfl, h⟩
    · rw [if_pos c] at h
      refine j_aload_n 0 rfl dX3_unit_111 ?_
      refine j_iconst (v := 2) dX3_unit_112 (by decide) ?_
      obtain ⟨kY26, sY27, kY26h, sY27h, h⟩ := h
      refine j_callV (b := 9) (As := [.int 2]) (st := []) (C := RX3) (kc' := kc - kY26) (ks' := ks - sY27) (tX3_wrong  2 _ h) myX3_wrong rfl q711 q713 qs9 (by decide) (fun s9 H9 hK9 hR9 h69 => jIs_in hK9 hR9 h69 (f_lt hf (by decide)) (fk_9 hf) rfl) rfl (Nat.le_of_ble_eq_true rfl) rfl (by omega) (by omega) (by omega) dX3_unit_113 (fun v9 u9 hq => ?_) (fun k9 u9 hq => by obtain ⟨_, _, _, _, _, e9, _⟩ := hq; cases e9)
      obtain ⟨n28, K29, A30, Lg31, G32, e9, rfl, h⟩ := hq
      obtain rfl := Sum.inl.inj e9
      show J Γ RX3 cX3_unit 2 (some (.object "DogsHour$Sum")) "unit" [] (dR + 1) (kc - kY26) (ks - sY27) 116 [(0, .ref 9)] [.ref 1] (n28, K29, A30, Lg31, G32) P
      obtain ⟨hf, h⟩ := h
      refine j_athrow (k := 1) (f_lt hf (by decide)) (fk_1 hf) ?_ dX3_unit_116
      rw [hP]
      exact Or.inr ⟨n28, K29, A30, Lg31, G32, rfl, rfl, h⟩
  · rw [if_pos c] at h
    refine j_aload_n 0 rfl dX3_unit_96 ?_
    refine j_iconst (v := 1) dX3_unit_97 (by decide) ?_
    obtain ⟨kY33, sY34, kY33h, sY34h, h⟩ := h
    refine j_callV (b := 9) (As := [.int 1]) (st := []) (C := RX3) (kc' := kc - kY33) (ks' := ks - sY34) (tX3_wrong  1 _ h) myX3_wrong rfl q711 q713 qs9 (by decide) (fun s9 H9 hK9 hR9 h69 => jIs_in hK9 hR9 h69 (f_lt hf (by decide)) (fk_9 hf) rfl) rfl (Nat.le_of_ble_eq_true rfl) rfl (by omega) (by omega) (by omega) dX3_unit_98 (fun v9 u9 hq => ?_) (fun k9 u9 hq => by obtain ⟨_, _, _, _, _, e9, _⟩ := hq; cases e9)
    obtain ⟨n35, K36, A37, Lg38, G39, e9, rfl, h⟩ := hq
    obtain rfl := Sum.inl.inj e9
    show J Γ RX3 cX3_unit 2 (some (.object "DogsHour$Sum")) "unit" [] (dR + 1) (kc - kY33) (ks - sY34) 101 [(0, .ref 9)] [.ref 1] (n35, K36, A37, Lg38, G39) P
    obtain ⟨hf, h⟩ := h
    refine j_athrow (k := 1) (f_lt hf (by decide)) (fk_1 hf) ?_ dX3_unit_101
    rw [hP]
    exact Or.inr ⟨n35, K36, A37, Lg38, G39, rfl, rfl, h⟩
def fX3_unit (rec : Nat → (Nat → pKd) → pA → pL → pG → Nat → Nat → (Nat → (Nat → pKd) → pA → pL → pG → Prop) → (Nat → Nat → (Nat → pKd) → pA → pL → pG → Prop) → Prop) (n : Nat) (K : Nat → pKd) (A : pA) (Lg : pL) (G : pG) (kc : Nat) (ks : Nat) (X : Nat → (Nat → pKd) → pA → pL → pG → Prop) (Q : Nat → Nat → (Nat → pKd) → pA → pL → pG → Prop) : Prop :=
    ∃ kY40 sY41 : Nat, kY40 ≤ kc ∧ sY41 ≤ ks ∧ ((fOK n K G) ∧ (fX3_sort n K A Lg G kY40 sY41 X (fun r42 n43 K44 A45 Lg46 G47 => (if r42 = 1 then ∃ kY80 sY81 : Nat, kY80 ≤ kc - kY40 ∧ sY81 ≤ ks - sY41 ∧ ((fOK n43 K44 G47) ∧ (fX3_pass n43 K44 A45 Lg46 G47 kY80 sY81 X (fun n82 K83 A84 Lg85 G86 => (1 ≤ kc - kY40 - kY80) ∧ ((1 ≤ ks - sY41 - sY81) ∧ (∀ (K87 : Nat → pKd) (A88 : pA) (L89 : pL) (G90 : pG), K87 = pkup K83 n82 (.inl 11) → A88 = prow A84 n82 (fun _ => 0) → L89 = prow Lg85 n82 (fun _ => 0) → G90 = prow G86 n82 (fun _ => .null) → (fOK (n82 + 1) K87 G90) ∧ (fX2_number A88 ((A88 9 3) - 1) (fun r95 => ∃ kY96 sY97 : Nat, kY96 ≤ kc - kY40 - kY80 - 1 ∧ sY97 ≤ ks - sY41 - sY81 - 1 ∧ (((n82 + 1) ≤ 1000000) ∧ (fX13_init n82 (n82 + 1) K87 A88 L89 G90 kY96 sY97 r95 (fun n98 K99 A100 Lg101 G102 => Q n82 n98 K99 A100 Lg101 G102)))))))))) else ∃ kY48 sY49 : Nat, kY48 ≤ kc - kY40 ∧ sY49 ≤ ks - sY41 ∧ ((fOK n43 K44 G47) ∧ (fX3_sort n43 K44 A45 Lg46 G47 kY48 sY49 X (fun r50 n51 K52 A53 Lg54 G55 => (if r50 = 3 then (fOK n51 K52 G55) ∧ ((vp_in (A53 9 3) 2001) ∧ ((if (A53 8 (A53 9 3).toNatClampNeg) < 14 then fX3_unit_J87 rec  X Q n51 K52 A53 Lg54 G55 (kc - kY40 - kY48) (ks - sY41 - sY49) else ∃ kY57 sY58 : Nat, kY57 ≤ kc - kY40 - kY48 ∧ sY58 ≤ ks - sY41 - sY49 ∧ (fX3_pass n51 K52 A53 Lg54 G55 kY57 sY58 X (fun n59 K60 A61 Lg62 G63 => (1 ≤ kc - kY40 - kY48 - kY57) ∧ ((1 ≤ ks - sY41 - sY49 - sY58) ∧ (∀ (K64 : Nat → pKd) (A65 : pA) (L66 : pL) (G67 : pG), K64 = pkup K60 n59 (.inl 12) → A65 = prow A61 n59 (fun _ => 0) → L66 = prow Lg62 n59 (fun _ => 0) → G67 = prow G63 n59 (fun _ => .null) → (fOK (n59 + 1) K64 G67) ∧ ((vp_in ((A65 9 3) - 1) 2001) ∧ (∃ kY73 sY74 : Nat, kY73 ≤ kc - kY40 - kY48 - kY57 - 1 ∧ sY74 ≤ ks - sY41 - sY49 - sY58 - 1 ∧ (((n59 + 1) ≤ 1000000) ∧ (fX14_init n59 (n59 + 1) K64 A65 L66 G67 kY73 sY74 ((A65 8 ((A65 9 3) - 1).toNatClampNeg) - 14) (fun n75 K76 A77 Lg78 G79 => Q n59 n75 K76 A77 Lg78 G79)))))))))))) else fX3_unit_J87 rec  X Q n51 K52 A53 Lg54 G55 (kc - kY40 - kY48) (ks - sY41 - sY49)))))))))
theorem tX3_unit {Γ : jG} {n : Nat} {K : Nat → pKd} {G : pG} {A : pA} {Lg : pL} {kc ks : Nat} (rec : Nat → (Nat → pKd) → pA → pL → pG → Nat → Nat → (Nat → (Nat → pKd) → pA → pL → pG → Prop) → (Nat → Nat → (Nat → pKd) → pA → pL → pG → Prop) → Prop) (dR : Nat) (hrec : ∀ (n : Nat) (K : Nat → pKd) (A : pA) (Lg : pL) (G : pG) (kc ks : Nat) (X : Nat → (Nat → pKd) → pA → pL → pG → Prop) (Q : Nat → Nat → (Nat → pKd) → pA → pL → pG → Prop), rec n K A Lg G kc ks X Q → jMet Γ yX3_sum cX3_sum 3 (some (.object "DogsHour$Sum")) [] dR kc ks [.ref 9] (n, K, A, Lg, G) (fun o u => (∃ (r : Nat) (n' : Nat) (K' : Nat → pKd) (A' : pA) (Lg' : pL) (G' : pG), o = .inl (some (.ref r)) ∧ u = (n', K', A', Lg', G') ∧ Q r n' K' A' Lg' G') ∨ (∃ (n' : Nat) (K' : Nat → pKd) (A' : pA) (Lg' : pL) (G' : pG), o = .inr 1 ∧ u = (n', K', A', Lg', G') ∧ X n' K' A' Lg' G'))) (hdR : 20 ≤ dR)  (X : Nat → (Nat → pKd) → pA → pL → pG → Prop) (Q : Nat → Nat → (Nat → pKd) → pA → pL → pG → Prop) (h : fX3_unit rec n K A Lg G kc ks X Q) : jMet Γ yX3_unit cX3_unit 2 (some (.object "DogsHour$Sum")) [] (dR + 1) kc ks [.ref 9] (n, K, A, Lg, G) (fun o u => (∃ (r : Nat) (n' : Nat) (K' : Nat → pKd) (A' : pA) (Lg' : pL) (G' : pG), o = .inl (some (.ref r)) ∧ u = (n', K', A', Lg', G') ∧ Q r n' K' A' Lg' G') ∨ (∃ (n' : Nat) (K' : Nat → pKd) (A' : pA) (Lg' : pL) (G' : pG), o = .inr 1 ∧ u = (n', K', A', Lg', G') ∧ X n' K' A' Lg' G')) := by
  unfold fX3_unit at h
  obtain ⟨P, hP⟩ : ∃ P : jO → pS → Prop, P = (fun o u => (∃ (r : Nat) (n' : Nat) (K' : Nat → pKd) (A' : pA) (Lg' : pL) (G' : pG), o = .inl (some (.ref r)) ∧ u = (n', K', A', Lg', G') ∧ Q r n' K' A' Lg' G') ∨ (∃ (n' : Nat) (K' : Nat → pKd) (A' : pA) (Lg' : pL) (G' : pG), o = .inr 1 ∧ u = (n', K', A', Lg', G') ∧ X n' K' A' Lg' G')) := ⟨_, rfl⟩
  rw [← hP]
  refine jMet_of rfl rfl rfl (Nat.le_of_ble_eq_true rfl) ?_
  show J Γ RX3 cX3_unit 2 (some (.object "DogsHour$Sum")) "unit" [] (dR + 1) kc ks 0 [(0, .ref 9)] [] (n, K, A, Lg, G) P
  refine j_aload_n 0 rfl dX3_unit_0 ?_
  obtain ⟨kY40, sY41, kY40h, sY41h, h⟩ := h
  obtain ⟨hf, h⟩ := h
  refine j_callV (b := 9) (As := []) (st := []) (C := RX3) (kc' := kc - kY40) (ks' := ks - sY41) (tX3_sort   X _ h) myX3_sort rfl q707 q709 qs8 (by decide) (fun s9 H9 hK9 hR9 h69 => jIs_in hK9 hR9 h69 (f_lt hf (by decide)) (fk_9 hf) rfl) rfl (Nat.le_of_ble_eq_true rfl) rfl (by omega) (by omega) (by omega) dX3_unit_1 (fun v9 u9 hq => ?_) (fun k9 u9 hq => by rcases hq with ⟨_, _, _, _, _, _, e9, _⟩ | ⟨n9, K9, A9, L9, G9, e9, e8, hX⟩; exact nomatch e9; rw [hP]; exact Or.inr ⟨n9, K9, A9, L9, G9, e9, e8, hX⟩)
  rcases hq with hq | ⟨n9, K9, A9, L9, G9, e9, e8, hX⟩
  rotate_left
  · exact nomatch e9
  obtain ⟨r42, n43, K44, A45, Lg46, G47, e9, rfl, h⟩ := hq
  obtain rfl := Sum.inl.inj e9
  show J Γ RX3 cX3_unit 2 (some (.object "DogsHour$Sum")) "unit" [] (dR + 1) (kc - kY40) (ks - sY41) 4 [(0, .ref 9)] [.int r42] (n43, K44, A45, Lg46, G47) P
  refine j_iconst (v := 1) dX3_unit_4 (by decide) ?_
  refine j_icmp_ne (tgt := 33) dX3_unit_5 (by decide) (fun c => ?_) (fun c => ?_)
  · rw [if_neg c] at h
    refine j_aload_n 0 rfl dX3_unit_33 ?_
    obtain ⟨kY48, sY49, kY48h, sY49h, h⟩ := h
    obtain ⟨hf, h⟩ := h
    refine j_callV (b := 9) (As := []) (st := []) (C := RX3) (kc' := kc - kY40 - kY48) (ks' := ks - sY41 - sY49) (tX3_sort   X _ h) myX3_sort rfl q707 q709 qs8 (by decide) (fun s9 H9 hK9 hR9 h69 => jIs_in hK9 hR9 h69 (f_lt hf (by decide)) (fk_9 hf) rfl) rfl (Nat.le_of_ble_eq_true rfl) rfl (by omega) (by omega) (by omega) dX3_unit_34 (fun v9 u9 hq => ?_) (fun k9 u9 hq => by rcases hq with ⟨_, _, _, _, _, _, e9, _⟩ | ⟨n9, K9, A9, L9, G9, e9, e8, hX⟩; exact nomatch e9; rw [hP]; exact Or.inr ⟨n9, K9, A9, L9, G9, e9, e8, hX⟩)
    rcases hq with hq | ⟨n9, K9, A9, L9, G9, e9, e8, hX⟩
    rotate_left
    · exact nomatch e9
    obtain ⟨r50, n51, K52, A53, Lg54, G55, e9, rfl, h⟩ := hq
    obtain rfl := Sum.inl.inj e9
    show J Γ RX3 cX3_unit 2 (some (.object "DogsHour$Sum")) "unit" [] (dR + 1) (kc - kY40 - kY48) (ks - sY41 - sY49) 37 [(0, .ref 9)] [.int r50] (n51, K52, A53, Lg54, G55) P
    refine j_iconst (v := 3) dX3_unit_37 (by decide) ?_
    refine j_icmp_ne (tgt := 87) dX3_unit_38 (by decide) (fun c => ?_) (fun c => ?_)
    · rw [if_neg c] at h
      exact fX3_unit_J87_ok  rec dR hrec hdR X Q P hP   n51 K52 A53 Lg54 G55 (kc - kY40 - kY48) (ks - sY41 - sY49) h
    · rw [if_pos c] at h
      refine j_aload_n 0 rfl dX3_unit_41 ?_
      obtain ⟨hf, h⟩ := h
      refine j_getfr fl_X3_9_3 rfl (f_lt hf (by decide)) (fk_9 hf) (fg_9_0 hf) dX3_unit_42 ?_
      refine j_getfr fl_X3_52_2 rfl (f_lt hf (by decide)) (fk_2 hf) (fg_2_6 hf) dX3_unit_45 ?_
      refine j_aload_n 0 rfl dX3_unit_48 ?_
      refine j_getfi fl_X3_31_3 rfl (f_lt hf (by decide)) (fk_9 hf) dX3_unit_49 ?_
      obtain ⟨b56, h⟩ := h
      refine j_saldJ (j := (A53 9 3).toNatClampNeg) (f_lt hf (by decide)) (fk_8 hf) b56 rfl dX3_unit_52 ?_
      refine j_bipush (v := 14) dX3_unit_53 (by decide) ?_
      refine j_icmp_lt (tgt := 87) dX3_unit_55 (by decide) (fun c => ?_) (fun c => ?_)
      · rw [if_pos c] at h
        exact fX3_unit_J87_ok  rec dR hrec hdR X Q P hP   n51 K52 A53 Lg54 G55 (kc - kY40 - kY48) (ks - sY41 - sY49) h
      · rw [if_neg c] at h
        refine j_aload_n 0 rfl dX3_unit_58 ?_
        obtain ⟨kY57, sY58, kY57h, sY58h, h⟩ := h
        refine j_callV (b := 9) (As := []) (st := []) (C := RX3) (kc' := kc - kY40 - kY48 - kY57) (ks' := ks - sY41 - sY49 - sY58) (tX3_pass   X _ h) myX3_pass rfl q727 q729 qs12 (by decide) (fun s9 H9 hK9 hR9 h69 => jIs_in hK9 hR9 h69 (f_lt hf (by decide)) (fk_9 hf) rfl) rfl (Nat.le_of_ble_eq_true rfl) rfl (by omega) (by omega) (by omega) dX3_unit_59 (fun v9 u9 hq => ?_) (fun k9 u9 hq => by rcases hq with ⟨_, _, _, _, _, e9, _⟩ | ⟨n9, K9, A9, L9, G9, e9, e8, hX⟩; exact nomatch e9; rw [hP]; exact Or.inr ⟨n9, K9, A9, L9, G9, e9, e8, hX⟩)
        rcases hq with hq | ⟨n9, K9, A9, L9, G9, e9, e8, hX⟩
        rotate_left
        · exact nomatch e9
        obtain ⟨n59, K60, A61, Lg62, G63, e9, rfl, h⟩ := hq
        obtain rfl := Sum.inl.inj e9
        show J Γ RX3 cX3_unit 2 (some (.object "DogsHour$Sum")) "unit" [] (dR + 1) (kc - kY40 - kY48 - kY57) (ks - sY41 - sY49 - sY58) 62 [(0, .ref 9)] [] (n59, K60, A61, Lg62, G63) P
        obtain ⟨b68, h⟩ := h
        obtain ⟨b69, h⟩ := h
        refine j_newE cn_X3_261 b68 b69 dX3_unit_62 (fun K64 A65 L66 G67 eK64 eA65 eL66 eG67 => ?_)
        replace h := h K64 A65 L66 G67 eK64 eA65 eL66 eG67
        have b70 : n59 < (n59 + 1) := (by omega)
        have b71 : K64 n59 = .inl 12 := (by rw [eK64]; exact pkup_self)
        refine j_dup rfl dX3_unit_65 ?_
        refine j_aload_n 0 rfl dX3_unit_66 ?_
        obtain ⟨hf, h⟩ := h
        refine j_getfr fl_X3_9_3 rfl (f_lt hf (by decide)) (fk_9 hf) (fg_9_0 hf) dX3_unit_67 ?_
        refine j_getfr fl_X3_52_2 rfl (f_lt hf (by decide)) (fk_2 hf) (fg_2_6 hf) dX3_unit_70 ?_
        refine j_aload_n 0 rfl dX3_unit_73 ?_
        refine j_getfi fl_X3_31_3 rfl (f_lt hf (by decide)) (fk_9 hf) dX3_unit_74 ?_
        refine j_iconst (v := 1) dX3_unit_77 (by decide) ?_
        refine j_isub dX3_unit_78 ?_
        obtain ⟨b72, h⟩ := h
        refine j_saldJ (j := ((A65 9 3) - 1).toNatClampNeg) (f_lt hf (by decide)) (fk_8 hf) b72 rfl dX3_unit_79 ?_
        refine j_bipush (v := 14) dX3_unit_80 (by decide) ?_
        refine j_isub dX3_unit_82 ?_
        obtain ⟨kY73, sY74, kY73h, sY74h, h⟩ := h
        obtain ⟨hn6, h⟩ := h
        refine j_callI (b := n59) (As := [.int ((A65 8 ((A65 9 3) - 1).toNatClampNeg) - 14)]) (st := [.ref n59]) (kc' := kc - kY40 - kY48 - kY57 - 1 - kY73) (ks' := ks - sY41 - sY49 - sY58 - 1 - sY74) (tX14_init  n59 ((A65 8 ((A65 9 3) - 1).toNatClampNeg) - 14) _ h) myX14_init rfl q807 q808 (j_l2 hn6 b70) rfl (Nat.le_of_ble_eq_true rfl) rfl (by omega) (by omega) (by omega) dX3_unit_83 (fun v9 u9 hq => ?_) (fun k9 u9 hq => by obtain ⟨_, _, _, _, _, e9, _⟩ := hq; cases e9)
        obtain ⟨n75, K76, A77, Lg78, G79, e9, rfl, h⟩ := hq
        obtain rfl := Sum.inl.inj e9
        show J Γ RX3 cX3_unit 2 (some (.object "DogsHour$Sum")) "unit" [] (dR + 1) (kc - kY40 - kY48 - kY57 - 1 - kY73) (ks - sY41 - sY49 - sY58 - 1 - sY74) 86 [(0, .ref 9)] [.ref n59] (n75, K76, A77, Lg78, G79) P
        refine j_aret rfl (by first | exact Or.inl ⟨_, rfl⟩ | exact Or.inr ⟨_, rfl⟩) (Or.inr ⟨_, rfl⟩) ?_ dX3_unit_86
        rw [hP]
        exact Or.inl ⟨n59, n75, K76, A77, Lg78, G79, rfl, rfl, h⟩
  · rw [if_pos c] at h
    refine j_aload_n 0 rfl dX3_unit_8 ?_
    obtain ⟨kY80, sY81, kY80h, sY81h, h⟩ := h
    obtain ⟨hf, h⟩ := h
    refine j_callV (b := 9) (As := []) (st := []) (C := RX3) (kc' := kc - kY40 - kY80) (ks' := ks - sY41 - sY81) (tX3_pass   X _ h) myX3_pass rfl q727 q729 qs12 (by decide) (fun s9 H9 hK9 hR9 h69 => jIs_in hK9 hR9 h69 (f_lt hf (by decide)) (fk_9 hf) rfl) rfl (Nat.le_of_ble_eq_true rfl) rfl (by omega) (by omega) (by omega) dX3_unit_9 (fun v9 u9 hq => ?_) (fun k9 u9 hq => by rcases hq with ⟨_, _, _, _, _, e9, _⟩ | ⟨n9, K9, A9, L9, G9, e9, e8, hX⟩; exact nomatch e9; rw [hP]; exact Or.inr ⟨n9, K9, A9, L9, G9, e9, e8, hX⟩)
    rcases hq with hq | ⟨n9, K9, A9, L9, G9, e9, e8, hX⟩
    rotate_left
    · exact nomatch e9
    obtain ⟨n82, K83, A84, Lg85, G86, e9, rfl, h⟩ := hq
    obtain rfl := Sum.inl.inj e9
    show J Γ RX3 cX3_unit 2 (some (.object "DogsHour$Sum")) "unit" [] (dR + 1) (kc - kY40 - kY80) (ks - sY41 - sY81) 12 [(0, .ref 9)] [] (n82, K83, A84, Lg85, G86) P
    obtain ⟨b91, h⟩ := h
    obtain ⟨b92, h⟩ := h
    refine j_newE cn_X3_257 b91 b92 dX3_unit_12 (fun K87 A88 L89 G90 eK87 eA88 eL89 eG90 => ?_)
    replace h := h K87 A88 L89 G90 eK87 eA88 eL89 eG90
    have b93 : n82 < (n82 + 1) := (by omega)
    have b94 : K87 n82 = .inl 11 := (by rw [eK87]; exact pkup_self)
    refine j_dup rfl dX3_unit_15 ?_
    refine j_aload_n 0 rfl dX3_unit_16 ?_
    obtain ⟨hf, h⟩ := h
    refine j_getfr fl_X3_9_3 rfl (f_lt hf (by decide)) (fk_9 hf) (fg_9_0 hf) dX3_unit_17 ?_
    refine j_aload_n 0 rfl dX3_unit_20 ?_
    refine j_getfi fl_X3_31_3 rfl (f_lt hf (by decide)) (fk_9 hf) dX3_unit_21 ?_
    refine j_iconst (v := 1) dX3_unit_24 (by decide) ?_
    refine j_isub dX3_unit_25 ?_
    refine j_callV (b := 2) (As := [.int ((A88 9 3) - 1)]) (st := [.ref n82, .ref n82]) (C := RX2) (kc' := kc - kY40 - kY80 - 1) (ks' := ks - sY41 - sY81 - 1) (tX2_number hf ((A88 9 3) - 1) _ h) myX2_number rfl q790 q791 q792 (by decide) (fun s9 H9 hK9 hR9 h69 => jIs_in hK9 hR9 h69 (f_lt hf (by decide)) (fk_2 hf) rfl) rfl (Nat.le_of_ble_eq_true rfl) rfl (by omega) (Nat.le_refl _) (Nat.le_refl _) dX3_unit_26 (fun v9 u9 hq => ?_) (fun k9 u9 hq => by obtain ⟨_, e9, _⟩ := hq; cases e9)
    obtain ⟨r95, e9, rfl, h⟩ := hq
    obtain rfl := Sum.inl.inj e9
    show J Γ RX3 cX3_unit 2 (some (.object "DogsHour$Sum")) "unit" [] (dR + 1) (kc - kY40 - kY80 - 1) (ks - sY41 - sY81 - 1) 29 [(0, .ref 9)] [.int r95, .ref n82, .ref n82] (n82 + 1, K87, A88, L89, G90) P
    obtain ⟨kY96, sY97, kY96h, sY97h, h⟩ := h
    obtain ⟨hn6, h⟩ := h
    refine j_callI (b := n82) (As := [.int r95]) (st := [.ref n82]) (kc' := kc - kY40 - kY80 - 1 - kY96) (ks' := ks - sY41 - sY81 - 1 - sY97) (tX13_init  n82 r95 _ h) myX13_init rfl q794 q795 (j_l2 hn6 b93) rfl (Nat.le_of_ble_eq_true rfl) rfl (by omega) (by omega) (by omega) dX3_unit_29 (fun v9 u9 hq => ?_) (fun k9 u9 hq => by obtain ⟨_, _, _, _, _, e9, _⟩ := hq; cases e9)
    obtain ⟨n98, K99, A100, Lg101, G102, e9, rfl, h⟩ := hq
    obtain rfl := Sum.inl.inj e9
    show J Γ RX3 cX3_unit 2 (some (.object "DogsHour$Sum")) "unit" [] (dR + 1) (kc - kY40 - kY80 - 1 - kY96) (ks - sY41 - sY81 - 1 - sY97) 32 [(0, .ref 9)] [.ref n82] (n98, K99, A100, Lg101, G102) P
    refine j_aret rfl (by first | exact Or.inl ⟨_, rfl⟩ | exact Or.inr ⟨_, rfl⟩) (Or.inr ⟨_, rfl⟩) ?_ dX3_unit_32
    rw [hP]
    exact Or.inl ⟨n82, n98, K99, A100, Lg101, G102, rfl, rfl, h⟩
theorem myX3_part : jY yX3_part cX3_part 3 (some (.object "DogsHour$Sum"))  0 := ⟨q783, q127, by decide +kernel, by decide +kernel, by decide⟩
def fX3_part_J23 (rec : Nat → (Nat → pKd) → pA → pL → pG → Nat → Nat → (Nat → (Nat → pKd) → pA → pL → pG → Prop) → (Nat → Nat → (Nat → pKd) → pA → pL → pG → Prop) → Prop) (k5 : Nat → Nat → (Nat → pKd) → pA → pL → pG → Nat → Nat → Prop) (X : Nat → (Nat → pKd) → pA → pL → pG → Prop) (Q : Nat → Nat → (Nat → pKd) → pA → pL → pG → Prop) (l1 : Nat) (n : Nat) (K : Nat → pKd) (A : pA) (Lg : pL) (G : pG) (kc : Nat) (ks : Nat) : Prop :=
    (fOK n K G) ∧ ((vp_in (A 9 3) 2001) ∧ (∃ kY2 sY3 : Nat, kY2 ≤ kc ∧ sY3 ≤ ks ∧ (fX3_pass n K A Lg G kY2 sY3 X (fun n4 K5 A6 Lg7 G8 => (1 ≤ kc - kY2) ∧ ((3 ≤ ks - sY3) ∧ (∀ (K9 : Nat → pKd) (A10 : pA) (L11 : pL) (G12 : pG), K9 = pkup K5 n4 (.inl 13) → A10 = prow A6 n4 (fun _ => 0) → L11 = prow Lg7 n4 (fun _ => 0) → G12 = prow G8 n4 (fun _ => .null) → ∃ kY17 sY18 : Nat, kY17 ≤ kc - kY2 - 1 ∧ sY18 ≤ ks - sY3 - 3 ∧ ((fOK (n4 + 1) K9 G12) ∧ (fX3_unit rec (n4 + 1) K9 A10 L11 G12 kY17 sY18 X (fun r19 n20 K21 A22 Lg23 G24 => ∃ kY25 sY26 : Nat, kY25 ≤ kc - kY2 - 1 - kY17 ∧ sY26 ≤ ks - sY3 - 3 - sY18 ∧ ((n20 ≤ 1000000) ∧ ((n4 < n20) ∧ ((K21 n4 = .inl 13) ∧ (fX15_init n4 l1 r19 n20 K21 A22 Lg23 G24 kY25 sY26 (A 8 (A 9 3).toNatClampNeg) (fun n27 K28 A29 Lg30 G31 => k5 n4 n27 K28 A29 Lg30 G31 (kc - kY2 - 1 - kY17 - kY25) (ks - sY3 - 3 - sY18 - sY26)))))))))))))))
theorem fX3_part_J23_ok {Γ : jG} (rec : Nat → (Nat → pKd) → pA → pL → pG → Nat → Nat → (Nat → (Nat → pKd) → pA → pL → pG → Prop) → (Nat → Nat → (Nat → pKd) → pA → pL → pG → Prop) → Prop) (dR : Nat) (hrec : ∀ (n : Nat) (K : Nat → pKd) (A : pA) (Lg : pL) (G : pG) (kc ks : Nat) (X : Nat → (Nat → pKd) → pA → pL → pG → Prop) (Q : Nat → Nat → (Nat → pKd) → pA → pL → pG → Prop), rec n K A Lg G kc ks X Q → jMet Γ yX3_sum cX3_sum 3 (some (.object "DogsHour$Sum")) [] dR kc ks [.ref 9] (n, K, A, Lg, G) (fun o u => (∃ (r : Nat) (n' : Nat) (K' : Nat → pKd) (A' : pA) (Lg' : pL) (G' : pG), o = .inl (some (.ref r)) ∧ u = (n', K', A', Lg', G') ∧ Q r n' K' A' Lg' G') ∨ (∃ (n' : Nat) (K' : Nat → pKd) (A' : pA) (Lg' : pL) (G' : pG), o = .inr 1 ∧ u = (n', K', A', Lg', G') ∧ X n' K' A' Lg' G'))) (hdR : 20 ≤ dR) (X : Nat → (Nat → pKd) → pA → pL → pG → Prop) (Q : Nat → Nat → (Nat → pKd) → pA → pL → pG → Prop) (P : jO → pS → Prop) (hP : P = (fun o u => (∃ (r : Nat) (n' : Nat) (K' : Nat → pKd) (A' : pA) (Lg' : pL) (G' : pG), o = .inl (some (.ref r)) ∧ u = (n', K', A', Lg', G') ∧ Q r n' K' A' Lg' G') ∨ (∃ (n' : Nat) (K' : Nat → pKd) (A' : pA) (Lg' : pL) (G' : pG), o = .inr 1 ∧ u = (n', K', A', Lg', G') ∧ X n' K' A' Lg' G'))) (k5 : Nat → Nat → (Nat → pKd) → pA → pL → pG → Nat → Nat → Prop) (ok5 : ∀ (l1 : Nat) (n : Nat) (K : Nat → pKd) (A : pA) (Lg : pL) (G : pG) (kc : Nat) (ks : Nat), k5 l1 n K A Lg G kc ks → J Γ RX3 cX3_part 3 (some (.object "DogsHour$Sum")) "part" [] (dR + 2) kc ks 5 [(0, .ref 9), (1, .ref l1)] [] (n, K, A, Lg, G) P) (l1 : Nat) (n : Nat) (K : Nat → pKd) (A : pA) (Lg : pL) (G : pG) (kc : Nat) (ks : Nat) (h : fX3_part_J23 rec k5 X Q l1 n K A Lg G kc ks) : J Γ RX3 cX3_part 3 (some (.object "DogsHour$Sum")) "part" [] (dR + 2) kc ks 23 [(0, .ref 9), (1, .ref l1)] [] (n, K, A, Lg, G) P := by
  unfold fX3_part_J23 at h
  refine j_aload_n 0 rfl dX3_part_23 ?_
  obtain ⟨hf, h⟩ := h
  refine j_getfr fl_X3_9_3 rfl (f_lt hf (by decide)) (fk_9 hf) (fg_9_0 hf) dX3_part_24 ?_
  refine j_getfr fl_X3_52_2 rfl (f_lt hf (by decide)) (fk_2 hf) (fg_2_6 hf) dX3_part_27 ?_
  refine j_aload_n 0 rfl dX3_part_30 ?_
  refine j_getfi fl_X3_31_3 rfl (f_lt hf (by decide)) (fk_9 hf) dX3_part_31 ?_
  obtain ⟨b1, h⟩ := h
  refine j_saldJ (j := (A 9 3).toNatClampNeg) (f_lt hf (by decide)) (fk_8 hf) b1 rfl dX3_part_34 ?_
  refine j_istore_n (by decide) rfl dX3_part_35 ?_
  refine j_aload_n 1 rfl dX3_part_36 ?_
  obtain ⟨kY2, sY3, kY2h, sY3h, h⟩ := h
  refine j_callV (b := 9) (As := []) (st := []) (C := RX3) (kc' := kc - kY2) (ks' := ks - sY3) (tX3_pass   X _ h) myX3_pass rfl q727 q729 qs12 (by decide) (fun s9 H9 hK9 hR9 h69 => jIs_in hK9 hR9 h69 (f_lt hf (by decide)) (fk_9 hf) rfl) rfl (Nat.le_of_ble_eq_true rfl) rfl (by omega) (by omega) (by omega) dX3_part_37 (fun v9 u9 hq => ?_) (fun k9 u9 hq => by rcases hq with ⟨_, _, _, _, _, e9, _⟩ | ⟨n9, K9, A9, L9, G9, e9, e8, hX⟩; exact nomatch e9; rw [hP]; exact Or.inr ⟨n9, K9, A9, L9, G9, e9, e8, hX⟩)
  rcases hq with hq | ⟨n9, K9, A9, L9, G9, e9, e8, hX⟩
  rotate_left
  · exact nomatch e9
  obtain ⟨n4, K5, A6, Lg7, G8, e9, rfl, h⟩ := hq
  obtain rfl := Sum.inl.inj e9
  show J Γ RX3 cX3_part 3 (some (.object "DogsHour$Sum")) "part" [] (dR + 2) (kc - kY2) (ks - sY3) 40 [(2, .int (A 8 (A 9 3).toNatClampNeg)), (0, .ref 9), (1, .ref l1)] [] (n4, K5, A6, Lg7, G8) P
  obtain ⟨b13, h⟩ := h
  obtain ⟨b14, h⟩ := h
  refine j_newE cn_X3_249 b13 b14 dX3_part_40 (fun K9 A10 L11 G12 eK9 eA10 eL11 eG12 => ?_)
  replace h := h K9 A10 L11 G12 eK9 eA10 eL11 eG12
  have b15 : n4 < (n4 + 1) := (by omega)
  have b16 : K9 n4 = .inl 13 := (by rw [eK9]; exact pkup_self)
  refine j_dup rfl dX3_part_43 ?_
  refine j_iload_n 0 rfl dX3_part_44 ?_
  refine j_aload_n 2 rfl dX3_part_45 ?_
  refine j_aload_n 1 rfl dX3_part_46 ?_
  obtain ⟨kY17, sY18, kY17h, sY18h, h⟩ := h
  obtain ⟨hf, h⟩ := h
  refine j_callV (b := 9) (As := []) (st := [.ref l1, .int (A 8 (A 9 3).toNatClampNeg), .ref n4, .ref n4]) (C := RX3) (kc' := kc - kY2 - 1 - kY17) (ks' := ks - sY3 - 3 - sY18) (tX3_unit  rec dR hrec hdR X _ h) myX3_unit rfl q784 q786 qs20 (by decide) (fun s9 H9 hK9 hR9 h69 => jIs_in hK9 hR9 h69 (f_lt hf (by decide)) (fk_9 hf) rfl) rfl (Nat.le_of_ble_eq_true rfl) rfl (by omega) (by omega) (by omega) dX3_part_47 (fun v9 u9 hq => ?_) (fun k9 u9 hq => by rcases hq with ⟨_, _, _, _, _, _, e9, _⟩ | ⟨n9, K9, A9, L9, G9, e9, e8, hX⟩; exact nomatch e9; rw [hP]; exact Or.inr ⟨n9, K9, A9, L9, G9, e9, e8, hX⟩)
  rcases hq with hq | ⟨n9, K9, A9, L9, G9, e9, e8, hX⟩
  rotate_left
  · exact nomatch e9
  obtain ⟨r19, n20, K21, A22, Lg23, G24, e9, rfl, h⟩ := hq
  obtain rfl := Sum.inl.inj e9
  show J Γ RX3 cX3_part 3 (some (.object "DogsHour$Sum")) "part" [] (dR + 2) (kc - kY2 - 1 - kY17) (ks - sY3 - 3 - sY18) 50 [(2, .int (A 8 (A 9 3).toNatClampNeg)), (0, .ref 9), (1, .ref l1)] [.ref r19, .ref l1, .int (A 8 (A 9 3).toNatClampNeg), .ref n4, .ref n4] (n20, K21, A22, Lg23, G24) P
  obtain ⟨kY25, sY26, kY25h, sY26h, h⟩ := h
  obtain ⟨hn6, h⟩ := h
  obtain ⟨b15, h⟩ := h
  obtain ⟨b16, h⟩ := h
  refine j_callI (b := n4) (As := [.int (A 8 (A 9 3).toNatClampNeg), .ref l1, .ref r19]) (st := [.ref n4]) (kc' := kc - kY2 - 1 - kY17 - kY25) (ks' := ks - sY3 - 3 - sY18 - sY26) (tX15_init  n4 l1 r19 (A 8 (A 9 3).toNatClampNeg) _ h) myX15_init rfl q817 q818 (j_l2 hn6 b15) rfl (Nat.le_of_ble_eq_true rfl) rfl (by omega) (by omega) (by omega) dX3_part_50 (fun v9 u9 hq => ?_) (fun k9 u9 hq => by obtain ⟨_, _, _, _, _, e9, _⟩ := hq; cases e9)
  obtain ⟨n27, K28, A29, Lg30, G31, e9, rfl, h⟩ := hq
  obtain rfl := Sum.inl.inj e9
  show J Γ RX3 cX3_part 3 (some (.object "DogsHour$Sum")) "part" [] (dR + 2) (kc - kY2 - 1 - kY17 - kY25) (ks - sY3 - 3 - sY18 - sY26) 53 [(2, .int (A 8 (A 9 3).toNatClampNeg)), (0, .ref 9), (1, .ref l1)] [.ref n4] (n27, K28, A29, Lg30, G31) P
  refine j_astore_n (by decide) rfl dX3_part_53 ?_
  refine j_goto (tgt := 5) dX3_part_54 (by decide) ?_
  refine j_ls [2, 0] rfl ?_
  exact ok5 n4 n27 K28 A29 Lg30 G31 (kc - kY2 - 1 - kY17 - kY25) (ks - sY3 - 3 - sY18 - sY26) h
def fX3_part_L5 (rec : Nat → (Nat → pKd) → pA → pL → pG → Nat → Nat → (Nat → (Nat → pKd) → pA → pL → pG → Prop) → (Nat → Nat → (Nat → pKd) → pA → pL → pG → Prop) → Prop)  (X : Nat → (Nat → pKd) → pA → pL → pG → Prop) (Q : Nat → Nat → (Nat → pKd) → pA → pL → pG → Prop) : Nat → Nat → Nat → (Nat → pKd) → pA → pL → pG → Nat → Nat → Prop
  | 0, _, _, _, _, _, _, _, _ => False
  | n9 + 1, l1, n, K, A, Lg, G, kc, ks =>
    (fOK n K G) ∧ (fX3_isSign A 42 (fun r32 => (if r32 = 0 then fX3_isSign A 47 (fun r33 => (if r33 = 0 then Q l1 n K A Lg G else fX3_part_J23 rec (fun x0 x1 x2 x3 x4 x5 x6 x7 => fX3_part_L5 rec  X Q n9 x0 x1 x2 x3 x4 x5 x6 x7) X Q l1 n K A Lg G kc ks)) else fX3_part_J23 rec (fun x0 x1 x2 x3 x4 x5 x6 x7 => fX3_part_L5 rec  X Q n9 x0 x1 x2 x3 x4 x5 x6 x7) X Q l1 n K A Lg G kc ks)))
theorem fX3_part_L5_ok {Γ : jG} (rec : Nat → (Nat → pKd) → pA → pL → pG → Nat → Nat → (Nat → (Nat → pKd) → pA → pL → pG → Prop) → (Nat → Nat → (Nat → pKd) → pA → pL → pG → Prop) → Prop) (dR : Nat) (hrec : ∀ (n : Nat) (K : Nat → pKd) (A : pA) (Lg : pL) (G : pG) (kc ks : Nat) (X : Nat → (Nat → pKd) → pA → pL → pG → Prop) (Q : Nat → Nat → (Nat → pKd) → pA → pL → pG → Prop), rec n K A Lg G kc ks X Q → jMet Γ yX3_sum cX3_sum 3 (some (.object "DogsHour$Sum")) [] dR kc ks [.ref 9] (n, K, A, Lg, G) (fun o u => (∃ (r : Nat) (n' : Nat) (K' : Nat → pKd) (A' : pA) (Lg' : pL) (G' : pG), o = .inl (some (.ref r)) ∧ u = (n', K', A', Lg', G') ∧ Q r n' K' A' Lg' G') ∨ (∃ (n' : Nat) (K' : Nat → pKd) (A' : pA) (Lg' : pL) (G' : pG), o = .inr 1 ∧ u = (n', K', A', Lg', G') ∧ X n' K' A' Lg' G'))) (hdR : 20 ≤ dR) (X : Nat → (Nat → pKd) → pA → pL → pG → Prop) (Q : Nat → Nat → (Nat → pKd) → pA → pL → pG → Prop) (P : jO → pS → Prop) (hP : P = (fun o u => (∃ (r : Nat) (n' : Nat) (K' : Nat → pKd) (A' : pA) (Lg' : pL) (G' : pG), o = .inl (some (.ref r)) ∧ u = (n', K', A', Lg', G') ∧ Q r n' K' A' Lg' G') ∨ (∃ (n' : Nat) (K' : Nat → pKd) (A' : pA) (Lg' : pL) (G' : pG), o = .inr 1 ∧ u = (n', K', A', Lg', G') ∧ X n' K' A' Lg' G')))    : ∀ (n9 : Nat) (l1 : Nat) (n : Nat) (K : Nat → pKd) (A : pA) (Lg : pL) (G : pG) (kc : Nat) (ks : Nat), fX3_part_L5 rec  X Q n9 l1 n K A Lg G kc ks → J Γ RX3 cX3_part 3 (some (.object "DogsHour$Sum")) "part" [] (dR + 2) kc ks 5 [(0, .ref 9), (1, .ref l1)] [] (n, K, A, Lg, G) P := by
  intro n9
  induction n9 with
  | zero => intro l1 n K A Lg G kc ks h; exact h.elim
  | succ n9 ih =>
    intro l1 n K A Lg G kc ks h
    unfold fX3_part_L5 at h
    refine j_aload_n 0 rfl dX3_part_5 ?_
    refine j_bipush (v := 42) dX3_part_6 (by decide) ?_
    obtain ⟨hf, h⟩ := h
    refine j_callV (b := 9) (As := [.int 42]) (st := []) (C := RX3) (kc' := kc) (ks' := ks) (tX3_isSign hf 42 _ h) myX3_isSign rfl q764 q766 qs15 (by decide) (fun s9 H9 hK9 hR9 h69 => jIs_in hK9 hR9 h69 (f_lt hf (by decide)) (fk_9 hf) rfl) rfl (Nat.le_of_ble_eq_true rfl) rfl (by omega) (Nat.le_refl _) (Nat.le_refl _) dX3_part_8 (fun v9 u9 hq => ?_) (fun k9 u9 hq => by obtain ⟨_, e9, _⟩ := hq; cases e9)
    obtain ⟨r32, e9, rfl, h⟩ := hq
    obtain rfl := Sum.inl.inj e9
    show J Γ RX3 cX3_part 3 (some (.object "DogsHour$Sum")) "part" [] (dR + 2) kc ks 11 [(0, .ref 9), (1, .ref l1)] [.int r32] (n, K, A, Lg, G) P
    refine j_if_ne (tgt := 23) dX3_part_11 (by decide) (fun c => ?_) (fun c => ?_)
    · rw [if_neg c] at h
      exact fX3_part_J23_ok  rec dR hrec hdR X Q P hP (fun x0 x1 x2 x3 x4 x5 x6 x7 => fX3_part_L5 rec  X Q n9 x0 x1 x2 x3 x4 x5 x6 x7) (fun x0 x1 x2 x3 x4 x5 x6 x7 h9 => ih x0 x1 x2 x3 x4 x5 x6 x7 h9) l1 n K A Lg G kc ks h
    · rw [if_pos c] at h
      refine j_aload_n 0 rfl dX3_part_14 ?_
      refine j_bipush (v := 47) dX3_part_15 (by decide) ?_
      refine j_callV (b := 9) (As := [.int 47]) (st := []) (C := RX3) (kc' := kc) (ks' := ks) (tX3_isSign hf 47 _ h) myX3_isSign rfl q764 q766 qs15 (by decide) (fun s9 H9 hK9 hR9 h69 => jIs_in hK9 hR9 h69 (f_lt hf (by decide)) (fk_9 hf) rfl) rfl (Nat.le_of_ble_eq_true rfl) rfl (by omega) (Nat.le_refl _) (Nat.le_refl _) dX3_part_17 (fun v9 u9 hq => ?_) (fun k9 u9 hq => by obtain ⟨_, e9, _⟩ := hq; cases e9)
      obtain ⟨r33, e9, rfl, h⟩ := hq
      obtain rfl := Sum.inl.inj e9
      show J Γ RX3 cX3_part 3 (some (.object "DogsHour$Sum")) "part" [] (dR + 2) kc ks 20 [(0, .ref 9), (1, .ref l1)] [.int r33] (n, K, A, Lg, G) P
      refine j_if_eq (tgt := 57) dX3_part_20 (by decide) (fun c => ?_) (fun c => ?_)
      · rw [if_pos c] at h
        refine j_aload_n 1 rfl dX3_part_57 ?_
        refine j_aret rfl (by first | exact Or.inl ⟨_, rfl⟩ | exact Or.inr ⟨_, rfl⟩) (Or.inr ⟨_, rfl⟩) ?_ dX3_part_58
        rw [hP]
        exact Or.inl ⟨l1, n, K, A, Lg, G, rfl, rfl, h⟩
      · rw [if_neg c] at h
        exact fX3_part_J23_ok  rec dR hrec hdR X Q P hP (fun x0 x1 x2 x3 x4 x5 x6 x7 => fX3_part_L5 rec  X Q n9 x0 x1 x2 x3 x4 x5 x6 x7) (fun x0 x1 x2 x3 x4 x5 x6 x7 h9 => ih x0 x1 x2 x3 x4 x5 x6 x7 h9) l1 n K A Lg G kc ks h
def fX3_part (rec : Nat → (Nat → pKd) → pA → pL → pG → Nat → Nat → (Nat → (Nat → pKd) → pA → pL → pG → Prop) → (Nat → Nat → (Nat → pKd) → pA → pL → pG → Prop) → Prop) (n : Nat) (K : Nat → pKd) (A : pA) (Lg : pL) (G : pG) (kc : Nat) (ks : Nat) (X : Nat → (Nat → pKd) → pA → pL → pG → Prop) (Q : Nat → Nat → (Nat → pKd) → pA → pL → pG → Prop) : Prop :=
    ∃ kY34 sY35 : Nat, kY34 ≤ kc ∧ sY35 ≤ ks ∧ ((fOK n K G) ∧ (fX3_unit rec n K A Lg G kY34 sY35 X (fun r36 n37 K38 A39 Lg40 G41 => ∃ m42, fX3_part_L5 rec  X Q m42 r36 n37 K38 A39 Lg40 G41 (kc - kY34) (ks - sY35))))
theorem tX3_part {Γ : jG} {n : Nat} {K : Nat → pKd} {G : pG} {A : pA} {Lg : pL} {kc ks : Nat} (rec : Nat → (Nat → pKd) → pA → pL → pG → Nat → Nat → (Nat → (Nat → pKd) → pA → pL → pG → Prop) → (Nat → Nat → (Nat → pKd) → pA → pL → pG → Prop) → Prop) (dR : Nat) (hrec : ∀ (n : Nat) (K : Nat → pKd) (A : pA) (Lg : pL) (G : pG) (kc ks : Nat) (X : Nat → (Nat → pKd) → pA → pL → pG → Prop) (Q : Nat → Nat → (Nat → pKd) → pA → pL → pG → Prop), rec n K A Lg G kc ks X Q → jMet Γ yX3_sum cX3_sum 3 (some (.object "DogsHour$Sum")) [] dR kc ks [.ref 9] (n, K, A, Lg, G) (fun o u => (∃ (r : Nat) (n' : Nat) (K' : Nat → pKd) (A' : pA) (Lg' : pL) (G' : pG), o = .inl (some (.ref r)) ∧ u = (n', K', A', Lg', G') ∧ Q r n' K' A' Lg' G') ∨ (∃ (n' : Nat) (K' : Nat → pKd) (A' : pA) (Lg' : pL) (G' : pG), o = .inr 1 ∧ u = (n', K', A', Lg', G') ∧ X n' K' A' Lg' G'))) (hdR : 20 ≤ dR)  (X : Nat → (Nat → pKd) → pA → pL → pG → Prop) (Q : Nat → Nat → (Nat → pKd) → pA → pL → pG → Prop) (h : fX3_part rec n K A Lg G kc ks X Q) : jMet Γ yX3_part cX3_part 3 (some (.object "DogsHour$Sum")) [] (dR + 2) kc ks [.ref 9] (n, K, A, Lg, G) (fun o u => (∃ (r : Nat) (n' : Nat) (K' : Nat → pKd) (A' : pA) (Lg' : pL) (G' : pG), o = .inl (some (.ref r)) ∧ u = (n', K', A', Lg', G') ∧ Q r n' K' A' Lg' G') ∨ (∃ (n' : Nat) (K' : Nat → pKd) (A' : pA) (Lg' : pL) (G' : pG), o = .inr 1 ∧ u = (n', K', A', Lg', G') ∧ X n' K' A' Lg' G')) := by
  unfold fX3_part at h
  obtain ⟨P, hP⟩ : ∃ P : jO → pS → Prop, P = (fun o u => (∃ (r : Nat) (n' : Nat) (K' : Nat → pKd) (A' : pA) (Lg' : pL) (G' : pG), o = .inl (some (.ref r)) ∧ u = (n', K', A', Lg', G') ∧ Q r n' K' A' Lg' G') ∨ (∃ (n' : Nat) (K' : Nat → pKd) (A' : pA) (Lg' : pL) (G' : pG), o = .inr 1 ∧ u = (n', K', A', Lg', G') ∧ X n' K' A' Lg' G')) := ⟨_, rfl⟩
  rw [← hP]
  refine jMet_of rfl rfl rfl (Nat.le_of_ble_eq_true rfl) ?_
  show J Γ RX3 cX3_part 3 (some (.object "DogsHour$Sum")) "part" [] (dR + 2) kc ks 0 [(0, .ref 9)] [] (n, K, A, Lg, G) P
  refine j_aload_n 0 rfl dX3_part_0 ?_
  obtain ⟨kY34, sY35, kY34h, sY35h, h⟩ := h
  obtain ⟨hf, h⟩ := h
  refine j_callV (b := 9) (As := []) (st := []) (C := RX3) (kc' := kc - kY34) (ks' := ks - sY35) (tX3_unit  rec dR hrec hdR X _ h) myX3_unit rfl q784 q786 qs20 (by decide) (fun s9 H9 hK9 hR9 h69 => jIs_in hK9 hR9 h69 (f_lt hf (by decide)) (fk_9 hf) rfl) rfl (Nat.le_of_ble_eq_true rfl) rfl (by omega) (by omega) (by omega) dX3_part_1 (fun v9 u9 hq => ?_) (fun k9 u9 hq => by rcases hq with ⟨_, _, _, _, _, _, e9, _⟩ | ⟨n9, K9, A9, L9, G9, e9, e8, hX⟩; exact nomatch e9; rw [hP]; exact Or.inr ⟨n9, K9, A9, L9, G9, e9, e8, hX⟩)
  rcases hq with hq | ⟨n9, K9, A9, L9, G9, e9, e8, hX⟩
  rotate_left
  · exact nomatch e9
  obtain ⟨r36, n37, K38, A39, Lg40, G41, e9, rfl, h⟩ := hq
  obtain rfl := Sum.inl.inj e9
  show J Γ RX3 cX3_part 3 (some (.object "DogsHour$Sum")) "part" [] (dR + 2) (kc - kY34) (ks - sY35) 4 [(0, .ref 9)] [.ref r36] (n37, K38, A39, Lg40, G41) P
  refine j_astore_n (by decide) rfl dX3_part_4 ?_
  refine j_ls [1, 0] rfl ?_
  obtain ⟨m42, h⟩ := h
  exact fX3_part_L5_ok  rec dR hrec hdR X Q P hP   m42 r36 n37 K38 A39 Lg40 G41 (kc - kY34) (ks - sY35) h
theorem myX3_sum' : jY yX3_sum cX3_sum 3 (some (.object "DogsHour$Sum"))  0 := ⟨q779, q127, by decide +kernel, by decide +kernel, by decide⟩
def fX3_sum_J23 (rec : Nat → (Nat → pKd) → pA → pL → pG → Nat → Nat → (Nat → (Nat → pKd) → pA → pL → pG → Prop) → (Nat → Nat → (Nat → pKd) → pA → pL → pG → Prop) → Prop) (k5 : Nat → Nat → (Nat → pKd) → pA → pL → pG → Nat → Nat → Prop) (X : Nat → (Nat → pKd) → pA → pL → pG → Prop) (Q : Nat → Nat → (Nat → pKd) → pA → pL → pG → Prop) (l1 : Nat) (n : Nat) (K : Nat → pKd) (A : pA) (Lg : pL) (G : pG) (kc : Nat) (ks : Nat) : Prop :=
    (fOK n K G) ∧ ((vp_in (A 9 3) 2001) ∧ (∃ kY2 sY3 : Nat, kY2 ≤ kc ∧ sY3 ≤ ks ∧ (fX3_pass n K A Lg G kY2 sY3 X (fun n4 K5 A6 Lg7 G8 => (1 ≤ kc - kY2) ∧ ((3 ≤ ks - sY3) ∧ (∀ (K9 : Nat → pKd) (A10 : pA) (L11 : pL) (G12 : pG), K9 = pkup K5 n4 (.inl 13) → A10 = prow A6 n4 (fun _ => 0) → L11 = prow Lg7 n4 (fun _ => 0) → G12 = prow G8 n4 (fun _ => .null) → ∃ kY17 sY18 : Nat, kY17 ≤ kc - kY2 - 1 ∧ sY18 ≤ ks - sY3 - 3 ∧ ((fOK (n4 + 1) K9 G12) ∧ (fX3_part rec (n4 + 1) K9 A10 L11 G12 kY17 sY18 X (fun r19 n20 K21 A22 Lg23 G24 => ∃ kY25 sY26 : Nat, kY25 ≤ kc - kY2 - 1 - kY17 ∧ sY26 ≤ ks - sY3 - 3 - sY18 ∧ ((n20 ≤ 1000000) ∧ ((n4 < n20) ∧ ((K21 n4 = .inl 13) ∧ (fX15_init n4 l1 r19 n20 K21 A22 Lg23 G24 kY25 sY26 (A 8 (A 9 3).toNatClampNeg) (fun n27 K28 A29 Lg30 G31 => k5 n4 n27 K28 A29 Lg30 G31 (kc - kY2 - 1 - kY17 - kY25) (ks - sY3 - 3 - sY18 - sY26)))))))))))))))
theorem fX3_sum_J23_ok {Γ : jG} (rec : Nat → (Nat → pKd) → pA → pL → pG → Nat → Nat → (Nat → (Nat → pKd) → pA → pL → pG → Prop) → (Nat → Nat → (Nat → pKd) → pA → pL → pG → Prop) → Prop) (dR : Nat) (hrec : ∀ (n : Nat) (K : Nat → pKd) (A : pA) (Lg : pL) (G : pG) (kc ks : Nat) (X : Nat → (Nat → pKd) → pA → pL → pG → Prop) (Q : Nat → Nat → (Nat → pKd) → pA → pL → pG → Prop), rec n K A Lg G kc ks X Q → jMet Γ yX3_sum cX3_sum 3 (some (.object "DogsHour$Sum")) [] dR kc ks [.ref 9] (n, K, A, Lg, G) (fun o u => (∃ (r : Nat) (n' : Nat) (K' : Nat → pKd) (A' : pA) (Lg' : pL) (G' : pG), o = .inl (some (.ref r)) ∧ u = (n', K', A', Lg', G') ∧ Q r n' K' A' Lg' G') ∨ (∃ (n' : Nat) (K' : Nat → pKd) (A' : pA) (Lg' : pL) (G' : pG), o = .inr 1 ∧ u = (n', K', A', Lg', G') ∧ X n' K' A' Lg' G'))) (hdR : 20 ≤ dR) (X : Nat → (Nat → pKd) → pA → pL → pG → Prop) (Q : Nat → Nat → (Nat → pKd) → pA → pL → pG → Prop) (P : jO → pS → Prop) (hP : P = (fun o u => (∃ (r : Nat) (n' : Nat) (K' : Nat → pKd) (A' : pA) (Lg' : pL) (G' : pG), o = .inl (some (.ref r)) ∧ u = (n', K', A', Lg', G') ∧ Q r n' K' A' Lg' G') ∨ (∃ (n' : Nat) (K' : Nat → pKd) (A' : pA) (Lg' : pL) (G' : pG), o = .inr 1 ∧ u = (n', K', A', Lg', G') ∧ X n' K' A' Lg' G'))) (k5 : Nat → Nat → (Nat → pKd) → pA → pL → pG → Nat → Nat → Prop) (ok5 : ∀ (l1 : Nat) (n : Nat) (K : Nat → pKd) (A : pA) (Lg : pL) (G : pG) (kc : Nat) (ks : Nat), k5 l1 n K A Lg G kc ks → J Γ RX3 cX3_sum 3 (some (.object "DogsHour$Sum")) "sum" [] (dR + 3) kc ks 5 [(0, .ref 9), (1, .ref l1)] [] (n, K, A, Lg, G) P) (l1 : Nat) (n : Nat) (K : Nat → pKd) (A : pA) (Lg : pL) (G : pG) (kc : Nat) (ks : Nat) (h : fX3_sum_J23 rec k5 X Q l1 n K A Lg G kc ks) : J Γ RX3 cX3_sum 3 (some (.object "DogsHour$Sum")) "sum" [] (dR + 3) kc ks 23 [(0, .ref 9), (1, .ref l1)] [] (n, K, A, Lg, G) P := by
  unfold fX3_sum_J23 at h
  refine j_aload_n 0 rfl dX3_sum_23 ?_
  obtain ⟨hf, h⟩ := h
  refine j_getfr fl_X3_9_3 rfl (f_lt hf (by decide)) (fk_9 hf) (fg_9_0 hf) dX3_sum_24 ?_
  refine j_getfr fl_X3_52_2 rfl (f_lt hf (by decide)) (fk_2 hf) (fg_2_6 hf) dX3_sum_27 ?_
  refine j_aload_n 0 rfl dX3_sum_30 ?_
  refine j_getfi fl_X3_31_3 rfl (f_lt hf (by decide)) (fk_9 hf) dX3_sum_31 ?_
  obtain ⟨b1, h⟩ := h
  refine j_saldJ (j := (A 9 3).toNatClampNeg) (f_lt hf (by decide)) (fk_8 hf) b1 rfl dX3_sum_34 ?_
  refine j_istore_n (by decide) rfl dX3_sum_35 ?_
  refine j_aload_n 1 rfl dX3_sum_36 ?_
  obtain ⟨kY2, sY3, kY2h, sY3h, h⟩ := h
  refine j_callV (b := 9) (As := []) (st := []) (C := RX3) (kc' := kc - kY2) (ks' := ks - sY3) (tX3_pass   X _ h) myX3_pass rfl q727 q729 qs12 (by decide) (fun s9 H9 hK9 hR9 h69 => jIs_in hK9 hR9 h69 (f_lt hf (by decide)) (fk_9 hf) rfl) rfl (Nat.le_of_ble_eq_true rfl) rfl (by omega) (by omega) (by omega) dX3_sum_37 (fun v9 u9 hq => ?_) (fun k9 u9 hq => by rcases hq with ⟨_, _, _, _, _, e9, _⟩ | ⟨n9, K9, A9, L9, G9, e9, e8, hX⟩; exact nomatch e9; rw [hP]; exact Or.inr ⟨n9, K9, A9, L9, G9, e9, e8, hX⟩)
  rcases hq with hq | ⟨n9, K9, A9, L9, G9, e9, e8, hX⟩
  rotate_left
  · exact nomatch e9
  obtain ⟨n4, K5, A6, Lg7, G8, e9, rfl, h⟩ := hq
  obtain rfl := Sum.inl.inj e9
  show J Γ RX3 cX3_sum 3 (some (.object "DogsHour$Sum")) "sum" [] (dR + 3) (kc - kY2) (ks - sY3) 40 [(2, .int (A 8 (A 9 3).toNatClampNeg)), (0, .ref 9), (1, .ref l1)] [] (n4, K5, A6, Lg7, G8) P
  obtain ⟨b13, h⟩ := h
  obtain ⟨b14, h⟩ := h
  refine j_newE cn_X3_249 b13 b14 dX3_sum_40 (fun K9 A10 L11 G12 eK9 eA10 eL11 eG12 => ?_)
  replace h := h K9 A10 L11 G12 eK9 eA10 eL11 eG12
  have b15 : n4 < (n4 + 1) := (by omega)
  have b16 : K9 n4 = .inl 13 := (by rw [eK9]; exact pkup_self)
  refine j_dup rfl dX3_sum_43 ?_
  refine j_iload_n 0 rfl dX3_sum_44 ?_
  refine j_aload_n 2 rfl dX3_sum_45 ?_
  refine j_aload_n 1 rfl dX3_sum_46 ?_
  obtain ⟨kY17, sY18, kY17h, sY18h, h⟩ := h
  obtain ⟨hf, h⟩ := h
  refine j_callV (b := 9) (As := []) (st := [.ref l1, .int (A 8 (A 9 3).toNatClampNeg), .ref n4, .ref n4]) (C := RX3) (kc' := kc - kY2 - 1 - kY17) (ks' := ks - sY3 - 3 - sY18) (tX3_part  rec dR hrec hdR X _ h) myX3_part rfl q780 q782 qs19 (by decide) (fun s9 H9 hK9 hR9 h69 => jIs_in hK9 hR9 h69 (f_lt hf (by decide)) (fk_9 hf) rfl) rfl (Nat.le_of_ble_eq_true rfl) rfl (by omega) (by omega) (by omega) dX3_sum_47 (fun v9 u9 hq => ?_) (fun k9 u9 hq => by rcases hq with ⟨_, _, _, _, _, _, e9, _⟩ | ⟨n9, K9, A9, L9, G9, e9, e8, hX⟩; exact nomatch e9; rw [hP]; exact Or.inr ⟨n9, K9, A9, L9, G9, e9, e8, hX⟩)
  rcases hq with hq | ⟨n9, K9, A9, L9, G9, e9, e8, hX⟩
  rotate_left
  · exact nomatch e9
  obtain ⟨r19, n20, K21, A22, Lg23, G24, e9, rfl, h⟩ := hq
  obtain rfl := Sum.inl.inj e9
  show J Γ RX3 cX3_sum 3 (some (.object "DogsHour$Sum")) "sum" [] (dR + 3) (kc - kY2 - 1 - kY17) (ks - sY3 - 3 - sY18) 50 [(2, .int (A 8 (A 9 3).toNatClampNeg)), (0, .ref 9), (1, .ref l1)] [.ref r19, .ref l1, .int (A 8 (A 9 3).toNatClampNeg), .ref n4, .ref n4] (n20, K21, A22, Lg23, G24) P
  obtain ⟨kY25, sY26, kY25h, sY26h, h⟩ := h
  obtain ⟨hn6, h⟩ := h
  obtain ⟨b15, h⟩ := h
  obtain ⟨b16, h⟩ := h
  refine j_callI (b := n4) (As := [.int (A 8 (A 9 3).toNatClampNeg), .ref l1, .ref r19]) (st := [.ref n4]) (kc' := kc - kY2 - 1 - kY17 - kY25) (ks' := ks - sY3 - 3 - sY18 - sY26) (tX15_init  n4 l1 r19 (A 8 (A 9 3).toNatClampNeg) _ h) myX15_init rfl q817 q818 (j_l2 hn6 b15) rfl (Nat.le_of_ble_eq_true rfl) rfl (by omega) (by omega) (by omega) dX3_sum_50 (fun v9 u9 hq => ?_) (fun k9 u9 hq => by obtain ⟨_, _, _, _, _, e9, _⟩ := hq; cases e9)
  obtain ⟨n27, K28, A29, Lg30, G31, e9, rfl, h⟩ := hq
  obtain rfl := Sum.inl.inj e9
  show J Γ RX3 cX3_sum 3 (some (.object "DogsHour$Sum")) "sum" [] (dR + 3) (kc - kY2 - 1 - kY17 - kY25) (ks - sY3 - 3 - sY18 - sY26) 53 [(2, .int (A 8 (A 9 3).toNatClampNeg)), (0, .ref 9), (1, .ref l1)] [.ref n4] (n27, K28, A29, Lg30, G31) P
  refine j_astore_n (by decide) rfl dX3_sum_53 ?_
  refine j_goto (tgt := 5) dX3_sum_54 (by decide) ?_
  refine j_ls [2, 0] rfl ?_
  exact ok5 n4 n27 K28 A29 Lg30 G31 (kc - kY2 - 1 - kY17 - kY25) (ks - sY3 - 3 - sY18 - sY26) h
def fX3_sum_L5 (rec : Nat → (Nat → pKd) → pA → pL → pG → Nat → Nat → (Nat → (Nat → pKd) → pA → pL → pG → Prop) → (Nat → Nat → (Nat → pKd) → pA → pL → pG → Prop) → Prop)  (X : Nat → (Nat → pKd) → pA → pL → pG → Prop) (Q : Nat → Nat → (Nat → pKd) → pA → pL → pG → Prop) : Nat → Nat → Nat → (Nat → pKd) → pA → pL → pG → Nat → Nat → Prop
  | 0, _, _, _, _, _, _, _, _ => False
  | n9 + 1, l1, n, K, A, Lg, G, kc, ks =>
    (fOK n K G) ∧ (fX3_isSign A 43 (fun r32 => (if r32 = 0 then fX3_isSign A 45 (fun r33 => (if r33 = 0 then Q l1 n K A Lg G else fX3_sum_J23 rec (fun x0 x1 x2 x3 x4 x5 x6 x7 => fX3_sum_L5 rec  X Q n9 x0 x1 x2 x3 x4 x5 x6 x7) X Q l1 n K A Lg G kc ks)) else fX3_sum_J23 rec (fun x0 x1 x2 x3 x4 x5 x6 x7 => fX3_sum_L5 rec  X Q n9 x0 x1 x2 x3 x4 x5 x6 x7) X Q l1 n K A Lg G kc ks)))
theorem fX3_sum_L5_ok {Γ : jG} (rec : Nat → (Nat → pKd) → pA → pL → pG → Nat → Nat → (Nat → (Nat → pKd) → pA → pL → pG → Prop) → (Nat → Nat → (Nat → pKd) → pA → pL → pG → Prop) → Prop) (dR : Nat) (hrec : ∀ (n : Nat) (K : Nat → pKd) (A : pA) (Lg : pL) (G : pG) (kc ks : Nat) (X : Nat → (Nat → pKd) → pA → pL → pG → Prop) (Q : Nat → Nat → (Nat → pKd) → pA → pL → pG → Prop), rec n K A Lg G kc ks X Q → jMet Γ yX3_sum cX3_sum 3 (some (.object "DogsHour$Sum")) [] dR kc ks [.ref 9] (n, K, A, Lg, G) (fun o u => (∃ (r : Nat) (n' : Nat) (K' : Nat → pKd) (A' : pA) (Lg' : pL) (G' : pG), o = .inl (some (.ref r)) ∧ u = (n', K', A', Lg', G') ∧ Q r n' K' A' Lg' G') ∨ (∃ (n' : Nat) (K' : Nat → pKd) (A' : pA) (Lg' : pL) (G' : pG), o = .inr 1 ∧ u = (n', K', A', Lg', G') ∧ X n' K' A' Lg' G'))) (hdR : 20 ≤ dR) (X : Nat → (Nat → pKd) → pA → pL → pG → Prop) (Q : Nat → Nat → (Nat → pKd) → pA → pL → pG → Prop) (P : jO → pS → Prop) (hP : P = (fun o u => (∃ (r : Nat) (n' : Nat) (K' : Nat → pKd) (A' : pA) (Lg' : pL) (G' : pG), o = .inl (some (.ref r)) ∧ u = (n', K', A', Lg', G') ∧ Q r n' K' A' Lg' G') ∨ (∃ (n' : Nat) (K' : Nat → pKd) (A' : pA) (Lg' : pL) (G' : pG), o = .inr 1 ∧ u = (n', K', A', Lg', G') ∧ X n' K' A' Lg' G')))    : ∀ (n9 : Nat) (l1 : Nat) (n : Nat) (K : Nat → pKd) (A : pA) (Lg : pL) (G : pG) (kc : Nat) (ks : Nat), fX3_sum_L5 rec  X Q n9 l1 n K A Lg G kc ks → J Γ RX3 cX3_sum 3 (some (.object "DogsHour$Sum")) "sum" [] (dR + 3) kc ks 5 [(0, .ref 9), (1, .ref l1)] [] (n, K, A, Lg, G) P := by
  intro n9
  induction n9 with
  | zero => intro l1 n K A Lg G kc ks h; exact h.elim
  | succ n9 ih =>
    intro l1 n K A Lg G kc ks h
    unfold fX3_sum_L5 at h
    refine j_aload_n 0 rfl dX3_sum_5 ?_
    refine j_bipush (v := 43) dX3_sum_6 (by decide) ?_
    obtain ⟨hf, h⟩ := h
    refine j_callV (b := 9) (As := [.int 43]) (st := []) (C := RX3) (kc' := kc) (ks' := ks) (tX3_isSign hf 43 _ h) myX3_isSign rfl q764 q766 qs15 (by decide) (fun s9 H9 hK9 hR9 h69 => jIs_in hK9 hR9 h69 (f_lt hf (by decide)) (fk_9 hf) rfl) rfl (Nat.le_of_ble_eq_true rfl) rfl (by omega) (Nat.le_refl _) (Nat.le_refl _) dX3_sum_8 (fun v9 u9 hq => ?_) (fun k9 u9 hq => by obtain ⟨_, e9, _⟩ := hq; cases e9)
    obtain ⟨r32, e9, rfl, h⟩ := hq
    obtain rfl := Sum.inl.inj e9
    show J Γ RX3 cX3_sum 3 (some (.object "DogsHour$Sum")) "sum" [] (dR + 3) kc ks 11 [(0, .ref 9), (1, .ref l1)] [.int r32] (n, K, A, Lg, G) P
    refine j_if_ne (tgt := 23) dX3_sum_11 (by decide) (fun c => ?_) (fun c => ?_)
    · rw [if_neg c] at h
      exact fX3_sum_J23_ok  rec dR hrec hdR X Q P hP (fun x0 x1 x2 x3 x4 x5 x6 x7 => fX3_sum_L5 rec  X Q n9 x0 x1 x2 x3 x4 x5 x6 x7) (fun x0 x1 x2 x3 x4 x5 x6 x7 h9 => ih x0 x1 x2 x3 x4 x5 x6 x7 h9) l1 n K A Lg G kc ks h
    · rw [if_pos c] at h
      refine j_aload_n 0 rfl dX3_sum_14 ?_
      refine j_bipush (v := 45) dX3_sum_15 (by decide) ?_
      refine j_callV (b := 9) (As := [.int 45]) (st := []) (C := RX3) (kc' := kc) (ks' := ks) (tX3_isSign hf 45 _ h) myX3_isSign rfl q764 q766 qs15 (by decide) (fun s9 H9 hK9 hR9 h69 => jIs_in hK9 hR9 h69 (f_lt hf (by decide)) (fk_9 hf) rfl) rfl (Nat.le_of_ble_eq_true rfl) rfl (by omega) (Nat.le_refl _) (Nat.le_refl _) dX3_sum_17 (fun v9 u9 hq => ?_) (fun k9 u9 hq => by obtain ⟨_, e9, _⟩ := hq; cases e9)
      obtain ⟨r33, e9, rfl, h⟩ := hq
      obtain rfl := Sum.inl.inj e9
      show J Γ RX3 cX3_sum 3 (some (.object "DogsHour$Sum")) "sum" [] (dR + 3) kc ks 20 [(0, .ref 9), (1, .ref l1)] [.int r33] (n, K, A, Lg, G) P
      refine j_if_eq (tgt := 57) dX3_sum_20 (by decide) (fun c => ?_) (fun c => ?_)
      · rw [if_pos c] at h
        refine j_aload_n 1 rfl dX3_sum_57 ?_
        refine j_aret rfl (by first | exact Or.inl ⟨_, rfl⟩ | exact Or.inr ⟨_, rfl⟩) (Or.inr ⟨_, rfl⟩) ?_ dX3_sum_58
        rw [hP]
        exact Or.inl ⟨l1, n, K, A, Lg, G, rfl, rfl, h⟩
      · rw [if_neg c] at h
        exact fX3_sum_J23_ok  rec dR hrec hdR X Q P hP (fun x0 x1 x2 x3 x4 x5 x6 x7 => fX3_sum_L5 rec  X Q n9 x0 x1 x2 x3 x4 x5 x6 x7) (fun x0 x1 x2 x3 x4 x5 x6 x7 h9 => ih x0 x1 x2 x3 x4 x5 x6 x7 h9) l1 n K A Lg G kc ks h
def fX3_sum (rec : Nat → (Nat → pKd) → pA → pL → pG → Nat → Nat → (Nat → (Nat → pKd) → pA → pL → pG → Prop) → (Nat → Nat → (Nat → pKd) → pA → pL → pG → Prop) → Prop) (n : Nat) (K : Nat → pKd) (A : pA) (Lg : pL) (G : pG) (kc : Nat) (ks : Nat) (X : Nat → (Nat → pKd) → pA → pL → pG → Prop) (Q : Nat → Nat → (Nat → pKd) → pA → pL → pG → Prop) : Prop :=
    ∃ kY34 sY35 : Nat, kY34 ≤ kc ∧ sY35 ≤ ks ∧ ((fOK n K G) ∧ (fX3_part rec n K A Lg G kY34 sY35 X (fun r36 n37 K38 A39 Lg40 G41 => ∃ m42, fX3_sum_L5 rec  X Q m42 r36 n37 K38 A39 Lg40 G41 (kc - kY34) (ks - sY35))))
theorem tX3_sum {Γ : jG} {n : Nat} {K : Nat → pKd} {G : pG} {A : pA} {Lg : pL} {kc ks : Nat} (rec : Nat → (Nat → pKd) → pA → pL → pG → Nat → Nat → (Nat → (Nat → pKd) → pA → pL → pG → Prop) → (Nat → Nat → (Nat → pKd) → pA → pL → pG → Prop) → Prop) (dR : Nat) (hrec : ∀ (n : Nat) (K : Nat → pKd) (A : pA) (Lg : pL) (G : pG) (kc ks : Nat) (X : Nat → (Nat → pKd) → pA → pL → pG → Prop) (Q : Nat → Nat → (Nat → pKd) → pA → pL → pG → Prop), rec n K A Lg G kc ks X Q → jMet Γ yX3_sum cX3_sum 3 (some (.object "DogsHour$Sum")) [] dR kc ks [.ref 9] (n, K, A, Lg, G) (fun o u => (∃ (r : Nat) (n' : Nat) (K' : Nat → pKd) (A' : pA) (Lg' : pL) (G' : pG), o = .inl (some (.ref r)) ∧ u = (n', K', A', Lg', G') ∧ Q r n' K' A' Lg' G') ∨ (∃ (n' : Nat) (K' : Nat → pKd) (A' : pA) (Lg' : pL) (G' : pG), o = .inr 1 ∧ u = (n', K', A', Lg', G') ∧ X n' K' A' Lg' G'))) (hdR : 20 ≤ dR)  (X : Nat → (Nat → pKd) → pA → pL → pG → Prop) (Q : Nat → Nat → (Nat → pKd) → pA → pL → pG → Prop) (h : fX3_sum rec n K A Lg G kc ks X Q) : jMet Γ yX3_sum cX3_sum 3 (some (.object "DogsHour$Sum")) [] (dR + 3) kc ks [.ref 9] (n, K, A, Lg, G) (fun o u => (∃ (r : Nat) (n' : Nat) (K' : Nat → pKd) (A' : pA) (Lg' : pL) (G' : pG), o = .inl (some (.ref r)) ∧ u = (n', K', A', Lg', G') ∧ Q r n' K' A' Lg' G') ∨ (∃ (n' : Nat) (K' : Nat → pKd) (A' : pA) (Lg' : pL) (G' : pG), o = .inr 1 ∧ u = (n', K', A', Lg', G') ∧ X n' K' A' Lg' G')) := by
  unfold fX3_sum at h
  obtain ⟨P, hP⟩ : ∃ P : jO → pS → Prop, P = (fun o u => (∃ (r : Nat) (n' : Nat) (K' : Nat → pKd) (A' : pA) (Lg' : pL) (G' : pG), o = .inl (some (.ref r)) ∧ u = (n', K', A', Lg', G') ∧ Q r n' K' A' Lg' G') ∨ (∃ (n' : Nat) (K' : Nat → pKd) (A' : pA) (Lg' : pL) (G' : pG), o = .inr 1 ∧ u = (n', K', A', Lg', G') ∧ X n' K' A' Lg' G')) := ⟨_, rfl⟩
  rw [← hP]
  refine jMet_of rfl rfl rfl (Nat.le_of_ble_eq_true rfl) ?_
  show J Γ RX3 cX3_sum 3 (some (.object "DogsHour$Sum")) "sum" [] (dR + 3) kc ks 0 [(0, .ref 9)] [] (n, K, A, Lg, G) P
  refine j_aload_n 0 rfl dX3_sum_0 ?_
  obtain ⟨kY34, sY35, kY34h, sY35h, h⟩ := h
  obtain ⟨hf, h⟩ := h
  refine j_callV (b := 9) (As := []) (st := []) (C := RX3) (kc' := kc - kY34) (ks' := ks - sY35) (tX3_part  rec dR hrec hdR X _ h) myX3_part rfl q780 q782 qs19 (by decide) (fun s9 H9 hK9 hR9 h69 => jIs_in hK9 hR9 h69 (f_lt hf (by decide)) (fk_9 hf) rfl) rfl (Nat.le_of_ble_eq_true rfl) rfl (by omega) (by omega) (by omega) dX3_sum_1 (fun v9 u9 hq => ?_) (fun k9 u9 hq => by rcases hq with ⟨_, _, _, _, _, _, e9, _⟩ | ⟨n9, K9, A9, L9, G9, e9, e8, hX⟩; exact nomatch e9; rw [hP]; exact Or.inr ⟨n9, K9, A9, L9, G9, e9, e8, hX⟩)
  rcases hq with hq | ⟨n9, K9, A9, L9, G9, e9, e8, hX⟩
  rotate_left
  · exact nomatch e9
  obtain ⟨r36, n37, K38, A39, Lg40, G41, e9, rfl, h⟩ := hq
  obtain rfl := Sum.inl.inj e9
  show J Γ RX3 cX3_sum 3 (some (.object "DogsHour$Sum")) "sum" [] (dR + 3) (kc - kY34) (ks - sY35) 4 [(0, .ref 9)] [.ref r36] (n37, K38, A39, Lg40, G41) P
  refine j_astore_n (by decide) rfl dX3_sum_4 ?_
  refine j_ls [1, 0] rfl ?_
  obtain ⟨m42, h⟩ := h
  exact fX3_sum_L5_ok  rec dR hrec hdR X Q P hP   m42 r36 n37 K38 A39 Lg40 G41 (kc - kY34) (ks - sY35) h
