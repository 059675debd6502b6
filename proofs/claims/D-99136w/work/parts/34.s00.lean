set_option maxRecDepth 100000
set_option maxHeartbeats 4000000
theorem myX15_of : jY yX15_of cX15_of 4 (some .int) 1 := ⟨q1264, q147, by decide +kernel, by decide +kernel, by decide⟩
def fX15_of (a0 : Nat) (a1 : Nat) (rec : Nat → pA → (Int32 → pA → Prop) → Prop) (n : Nat) (K : Nat → pKd) (A : pA) (G : pG) (Q : Int32 → pA → Prop) : Prop :=
    ∃ e1 : Nat, G a0 1 = .ref e1 ∧ (rec e1 A (fun r2 A3 => ∃ e4 : Nat, G a0 2 = .ref e4 ∧ (rec e4 A3 (fun r5 A6 => (if (A6 a0 0) = 42 then Q (r2 * r5) A6 else (if (A6 a0 0) = 43 then Q (r2 + r5) A6 else (if (A6 a0 0) = 44 then (if r5 = 0 then ∀ A12 : pA, A12 = pup A6 (a1 + 21) 1 1 → Q 0 A12 else (¬ r5 = 0) ∧ (Q (r2 / r5) A6)) else (if (A6 a0 0) = 45 then Q (r2 - r5) A6 else ((if r5 = 0 then ∀ A7 : pA, A7 = pup A6 (a1 + 21) 1 1 → Q 0 A7 else (¬ r5 = 0) ∧ (Q (r2 / r5) A6)))))))))))
theorem tX15_of {Γ : jG} {n : Nat} {K : Nat → pKd} {G : pG} {A : pA} {Lg : pL} (hf : fOK n K G) (a0 : Nat) (la0 : a0 < n) (ha0 : K a0 = .inl 13) (a1 : Nat) (ha1 : isT a1) (rec : Nat → pA → (Int32 → pA → Prop) → Prop) (dR : Nat) (hrec : ∀ (a9 : Nat) (A9 : pA) (Q9 : Int32 → pA → Prop), rec a9 A9 Q9 → jSumC Γ dR a1 n K Lg G a9 A9 Q9)  (Q : Int32 → pA → Prop) (h : fX15_of a0 a1 rec n K A G Q) : jMet Γ yX15_of cX15_of 4 (some .int) [] (dR + 1) 0 0 [.ref a0, .ref (a1 + 21)] (n, K, A, Lg, G) (fun o u => ∃ (r : Int32) (A' : pA), o = .inl (some (.int r)) ∧ u = (n, K, A', Lg, G) ∧ Q r A') := by
  unfold fX15_of at h
  obtain ⟨P, hP⟩ : ∃ P : jO → pS → Prop, P = (fun o u => ∃ (r : Int32) (A' : pA), o = .inl (some (.int r)) ∧ u = (n, K, A', Lg, G) ∧ Q r A') := ⟨_, rfl⟩
  rw [← hP]
  refine jMet_of rfl rfl rfl (Nat.le_of_ble_eq_true rfl) ?_
  show J Γ RX15 cX15_of 4 (some .int) "of" [] (dR + 1) 0 0 0 [(0, .ref a0), (1, .ref (a1 + 21))] [] (n, K, A, Lg, G) P
  refine j_aload_n 0 rfl dX15_of_0 ?_
  obtain ⟨e1, e1h, h⟩ := h
  refine j_getfr fl_X15_13_13 rfl la0 ha0 e1h dX15_of_1 ?_
  refine j_aload_n 1 rfl dX15_of_4 ?_
  refine j_callSum (st := []) hf ha1 (hrec _ _ _ h) q1265 (Nat.le_refl _) (Nat.le_of_ble_eq_true rfl) dX15_of_5 (fun r2 A3 h => ?_)
  show J Γ RX15 cX15_of 4 (some .int) "of" [] (dR + 1) 0 0 8 [(0, .ref a0), (1, .ref (a1 + 21))] [.int r2] (n, K, A3, Lg, G) P
  refine j_istore_n (by decide) rfl dX15_of_8 ?_
  refine j_aload_n 1 rfl dX15_of_9 ?_
  obtain ⟨e4, e4h, h⟩ := h
  refine j_getfr fl_X15_17_13 rfl la0 ha0 e4h dX15_of_10 ?_
  refine j_aload_n 2 rfl dX15_of_13 ?_
  refine j_callSum (st := []) hf ha1 (hrec _ _ _ h) q1265 (Nat.le_refl _) (Nat.le_of_ble_eq_true rfl) dX15_of_14 (fun r5 A6 h => ?_)
  show J Γ RX15 cX15_of 4 (some .int) "of" [] (dR + 1) 0 0 17 [(2, .int r2), (0, .ref a0), (1, .ref (a1 + 21))] [.int r5] (n, K, A6, Lg, G) P
  refine j_istore_n (by decide) rfl dX15_of_17 ?_
  refine j_aload_n 2 rfl dX15_of_18 ?_
  refine j_getfi fl_X15_7_13 rfl la0 ha0 dX15_of_19 ?_
  by_cases c9 : (A6 a0 0) = 42
  · rw [if_pos c9] at h
    have c9T : ((A6 a0 0) : Int32).toInt = 42 := by rw [c9]; rfl
    refine j_tableIn (off := 38) (tgt := 60) (by rw [c9T]; decide) (by rw [c9T]; decide) (by rw [c9T]; rfl) dX15_of_22 (by decide) ?_
    refine j_iload_n 1 rfl dX15_of_60 ?_
    refine j_iload_n 0 rfl dX15_of_61 ?_
    refine j_imul dX15_of_62 ?_
    refine j_iret rfl ?_ dX15_of_63
    rw [hP]
    exact ⟨r2 * r5, A6, rfl, rfl, h⟩
  rw [if_neg c9] at h
  by_cases c10 : (A6 a0 0) = 43
  · rw [if_pos c10] at h
    have c10T : ((A6 a0 0) : Int32).toInt = 43 := by rw [c10]; rfl
    refine j_tableIn (off := 30) (tgt := 52) (by rw [c10T]; decide) (by rw [c10T]; decide) (by rw [c10T]; rfl) dX15_of_22 (by decide) ?_
    refine j_iload_n 1 rfl dX15_of_52 ?_
    refine j_iload_n 0 rfl dX15_of_53 ?_
    refine j_iadd dX15_of_54 ?_
    refine j_iret rfl ?_ dX15_of_55
    rw [hP]
    exact ⟨r2 + r5, A6, rfl, rfl, h⟩
  rw [if_neg c10] at h
  by_cases c11 : (A6 a0 0) = 44
  · rw [if_pos c11] at h
    have c11T : ((A6 a0 0) : Int32).toInt = 44 := by rw [c11]; rfl
    refine j_tableIn (off := 42) (tgt := 64) (by rw [c11T]; decide) (by rw [c11T]; decide) (by rw [c11T]; rfl) dX15_of_22 (by decide) ?_
    refine j_iload_n 0 rfl dX15_of_64 ?_
    refine j_if_eq (tgt := 72) dX15_of_65 (by decide) (fun c => ?_) (fun c => ?_)
    · rw [if_pos c] at h
      refine j_aload_n 3 rfl dX15_of_72 ?_
      refine j_iconst (v := 1) dX15_of_73 (by decide) ?_
      refine j_putfiE (fp_X15_24_6 _) rfl (by decide) (by decide) (t_lt hf ha1 (j := 21) (by decide)) (tk_21 hf ha1) dX15_of_74 (fun A12 eA12 => ?_)
      replace h := h A12 eA12
      refine j_iconst (v := 0) dX15_of_77 (by decide) ?_
      refine j_iret rfl ?_ dX15_of_78
      rw [hP]
      exact ⟨0, A12, rfl, rfl, h⟩
    · rw [if_neg c] at h
      refine j_iload_n 1 rfl dX15_of_68 ?_
      refine j_iload_n 0 rfl dX15_of_69 ?_
      obtain ⟨b13, h⟩ := h
      refine j_idiv b13 dX15_of_70 ?_
      refine j_iret rfl ?_ dX15_of_71
      rw [hP]
      exact ⟨r2 / r5, A6, rfl, rfl, h⟩
  rw [if_neg c11] at h
  by_cases c14 : (A6 a0 0) = 45
  · rw [if_pos c14] at h
    have c14T : ((A6 a0 0) : Int32).toInt = 45 := by rw [c14]; rfl
    refine j_tableIn (off := 34) (tgt := 56) (by rw [c14T]; decide) (by rw [c14T]; decide) (by rw [c14T]; rfl) dX15_of_22 (by decide) ?_
    refine j_iload_n 1 rfl dX15_of_56 ?_
    refine j_iload_n 0 rfl dX15_of_57 ?_
    refine j_isub dX15_of_58 ?_
    refine j_iret rfl ?_ dX15_of_59
    rw [hP]
    exact ⟨r2 - r5, A6, rfl, rfl, h⟩
  rw [if_neg c14] at h
  refine j_tableOut (tgt := 64) (by have c9T := lv_neT c9 (a := 42) rfl; have c10T := lv_neT c10 (a := 43) rfl; have c11T := lv_neT c11 (a := 44) rfl; have c14T := lv_neT c14 (a := 45) rfl; omega) dX15_of_22 (by decide) ?_
  refine j_iload_n 0 rfl dX15_of_64 ?_
  refine j_if_eq (tgt := 72) dX15_of_65 (by decide) (fun c => ?_) (fun c => ?_)
  · rw [if_pos c] at h
    refine j_aload_n 3 rfl dX15_of_72 ?_
    refine j_iconst (v := 1) dX15_of_73 (by decide) ?_
    refine j_putfiE (fp_X15_24_6 _) rfl (by decide) (by decide) (t_lt hf ha1 (j := 21) (by decide)) (tk_21 hf ha1) dX15_of_74 (fun A7 eA7 => ?_)
    replace h := h A7 eA7
    refine j_iconst (v := 0) dX15_of_77 (by decide) ?_
    refine j_iret rfl ?_ dX15_of_78
    rw [hP]
    exact ⟨0, A7, rfl, rfl, h⟩
  · rw [if_neg c] at h
    refine j_iload_n 1 rfl dX15_of_68 ?_
    refine j_iload_n 0 rfl dX15_of_69 ?_
    obtain ⟨b8, h⟩ := h
    refine j_idiv b8 dX15_of_70 ?_
    refine j_iret rfl ?_ dX15_of_71
    rw [hP]
    exact ⟨r2 / r5, A6, rfl, rfl, h⟩
