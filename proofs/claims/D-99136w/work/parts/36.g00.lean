set_option maxRecDepth 100000
set_option maxHeartbeats 4000000
theorem myX11_of : jY yX11_of cX11_of 4 (some .int) 1 := ⟨q1258, q143, by decide +kernel, by decide +kernel, by decide⟩
def fX11_of_J44 (a0 : Nat) (a1 : Nat) (n : Nat) (K : Nat → pKd) (G : pG)  (Q : Int32 → pA → Prop) (l2 : Int32) (A : pA) : Prop :=
    ∃ e1 : Nat, G a0 2 = .ref e1 ∧ ((e1 < n) ∧ (∃ z3 : Nat, K e1 = .inr (8, z3) ∧ ((vp_in l2 z3) ∧ (∃ e6 : Nat, G e1 (l2).toNatClampNeg = .ref e6 ∧ (fSum a1 n K G 500 e6 A (fun r7 A8 => (if (A8 (a1 + 21) 1) = 0 then Q r7 A8 else Q 0 A8)))))))
theorem fX11_of_J44_ok {Γ : jG} {n : Nat} {K : Nat → pKd} {G : pG} {Lg : pL} (hf : fOK n K G) (a0 : Nat) (la0 : a0 < n) (ha0 : K a0 = .inl 10) (a1 : Nat) (ha1 : isT a1) (Q : Int32 → pA → Prop) (P : jO → pS → Prop) (hP : P = (fun o u => ∃ (r : Int32) (A' : pA), o = .inl (some (.int r)) ∧ u = (n, K, A', Lg, G) ∧ Q r A'))   (l2 : Int32) (A : pA) (h : fX11_of_J44 a0 a1 n K G  Q l2 A) : J Γ RX11 cX11_of 4 (some .int) "of" [] 502 0 0 44 [(0, .ref a0), (1, .ref (a1 + 21)), (2, .int l2)] [] (n, K, A, Lg, G) P := by
  unfold fX11_of_J44 at h
  refine j_aload_n 0 rfl dX11_of_44 ?_
  obtain ⟨e1, e1h, h⟩ := h
  refine j_getfr fl_X11_20_10 rfl la0 ha0 e1h dX11_of_45 ?_
  refine j_iload_n 2 rfl dX11_of_48 ?_
  obtain ⟨b2, h⟩ := h
  obtain ⟨z3, b4, h⟩ := h
  obtain ⟨b5, h⟩ := h
  obtain ⟨e6, e6h, h⟩ := h
  refine j_aaldJ (t := 8) (j := (l2).toNatClampNeg) rfl rfl rfl b2 b4 b5 rfl e6h dX11_of_49 ?_
  refine j_aload_n 1 rfl dX11_of_50 ?_
  refine j_callSum (st := []) hf ha1 (sum_ok hf a1 ha1 500 _ _ _ h) q1259 (by decide) (Nat.le_of_ble_eq_true rfl) dX11_of_51 (fun r7 A8 h => ?_)
  show J Γ RX11 cX11_of 4 (some .int) "of" [] 502 0 0 54 [(0, .ref a0), (1, .ref (a1 + 21)), (2, .int l2)] [.int r7] (n, K, A8, Lg, G) P
  refine j_istore_n (by decide) rfl dX11_of_54 ?_
  refine j_aload_n 2 rfl dX11_of_55 ?_
  refine j_getfi fl_X11_23_6 rfl (t_lt hf ha1 (j := 21) (by decide)) (tk_21 hf ha1) dX11_of_56 ?_
  refine j_if_eq (tgt := 66) dX11_of_59 (by decide) (fun c => ?_) (fun c => ?_)
  · rw [if_pos c] at h
    refine j_iload_n 0 rfl dX11_of_66 ?_
    refine j_iret rfl ?_ dX11_of_67
    rw [hP]
    exact ⟨r7, A8, rfl, rfl, h⟩
  · rw [if_neg c] at h
    refine j_iconst (v := 0) dX11_of_62 (by decide) ?_
    refine j_goto (tgt := 67) dX11_of_63 (by decide) ?_
    refine j_iret rfl ?_ dX11_of_67
    rw [hP]
    exact ⟨0, A8, rfl, rfl, h⟩
def fX11_of_L7 (a0 : Nat) (a1 : Nat) (n : Nat) (K : Nat → pKd) (G : pG)  (Q : Int32 → pA → Prop) : Nat → Int32 → pA → Prop
  | 0, _, _ => False
  | n9 + 1, l2, A =>
    (if (A a0 3) ≤ l2 then fX11_of_J44 a0 a1 n K G  Q l2 A else ∃ e9 : Nat, G a0 0 = .ref e9 ∧ ((e9 < n) ∧ (∃ z11 : Nat, K e9 = .inr (8, z11) ∧ ((vp_in l2 z11) ∧ (∃ e14 : Nat, G e9 (l2).toNatClampNeg = .ref e14 ∧ (fSum a1 n K G 500 e14 A (fun r15 A16 => ∃ e17 : Nat, G a0 1 = .ref e17 ∧ ((e17 < n) ∧ (∃ z19 : Nat, K e17 = .inr (8, z19) ∧ ((vp_in l2 z19) ∧ (∃ e22 : Nat, G e17 (l2).toNatClampNeg = .ref e22 ∧ (fSum a1 n K G 500 e22 A16 (fun r23 A24 => (if r15 < r23 then fX11_of_J44 a0 a1 n K G  Q l2 A24 else fX11_of_L7 a0 a1 n K G  Q n9 (l2 + 1) A24))))))))))))))
theorem fX11_of_L7_ok {Γ : jG} {n : Nat} {K : Nat → pKd} {G : pG} {Lg : pL} (hf : fOK n K G) (a0 : Nat) (la0 : a0 < n) (ha0 : K a0 = .inl 10) (a1 : Nat) (ha1 : isT a1) (Q : Int32 → pA → Prop) (P : jO → pS → Prop) (hP : P = (fun o u => ∃ (r : Int32) (A' : pA), o = .inl (some (.int r)) ∧ u = (n, K, A', Lg, G) ∧ Q r A'))    : ∀ (n9 : Nat) (l2 : Int32) (A : pA), fX11_of_L7 a0 a1 n K G  Q n9 l2 A → J Γ RX11 cX11_of 4 (some .int) "of" [] 502 0 0 7 [(0, .ref a0), (1, .ref (a1 + 21)), (2, .int l2)] [] (n, K, A, Lg, G) P := by
  intro n9
  induction n9 with
  | zero => intro l2 A h; exact h.elim
  | succ n9 ih =>
    intro l2 A h
    unfold fX11_of_L7 at h
    refine j_iload_n 2 rfl dX11_of_7 ?_
    refine j_aload_n 0 rfl dX11_of_8 ?_
    refine j_getfi fl_X11_29_10 rfl la0 ha0 dX11_of_9 ?_
    refine j_icmp_ge (tgt := 44) dX11_of_12 (by decide) (fun c => ?_) (fun c => ?_)
    · rw [if_pos c] at h
      exact fX11_of_J44_ok hf a0 la0 ha0 a1 ha1 Q P hP   l2 A h
    · rw [if_neg c] at h
      refine j_aload_n 0 rfl dX11_of_15 ?_
      obtain ⟨e9, e9h, h⟩ := h
      refine j_getfr fl_X11_11_10 rfl la0 ha0 e9h dX11_of_16 ?_
      refine j_iload_n 2 rfl dX11_of_19 ?_
      obtain ⟨b10, h⟩ := h
      obtain ⟨z11, b12, h⟩ := h
      obtain ⟨b13, h⟩ := h
      obtain ⟨e14, e14h, h⟩ := h
      refine j_aaldJ (t := 8) (j := (l2).toNatClampNeg) rfl rfl rfl b10 b12 b13 rfl e14h dX11_of_20 ?_
      refine j_aload_n 1 rfl dX11_of_21 ?_
      refine j_callSum (st := []) hf ha1 (sum_ok hf a1 ha1 500 _ _ _ h) q1259 (by decide) (Nat.le_of_ble_eq_true rfl) dX11_of_22 (fun r15 A16 h => ?_)
      show J Γ RX11 cX11_of 4 (some .int) "of" [] 502 0 0 25 [(0, .ref a0), (1, .ref (a1 + 21)), (2, .int l2)] [.int r15] (n, K, A16, Lg, G) P
      refine j_aload_n 0 rfl dX11_of_25 ?_
      obtain ⟨e17, e17h, h⟩ := h
      refine j_getfr fl_X11_17_10 rfl la0 ha0 e17h dX11_of_26 ?_
      refine j_iload_n 2 rfl dX11_of_29 ?_
      obtain ⟨b18, h⟩ := h
      obtain ⟨z19, b20, h⟩ := h
      obtain ⟨b21, h⟩ := h
      obtain ⟨e22, e22h, h⟩ := h
      refine j_aaldJ (t := 8) (j := (l2).toNatClampNeg) rfl rfl rfl b18 b20 b21 rfl e22h dX11_of_30 ?_
      refine j_aload_n 1 rfl dX11_of_31 ?_
      refine j_callSum (st := [.int r15]) hf ha1 (sum_ok hf a1 ha1 500 _ _ _ h) q1259 (by decide) (Nat.le_of_ble_eq_true rfl) dX11_of_32 (fun r23 A24 h => ?_)
      show J Γ RX11 cX11_of 4 (some .int) "of" [] 502 0 0 35 [(0, .ref a0), (1, .ref (a1 + 21)), (2, .int l2)] [.int r23, .int r15] (n, K, A24, Lg, G) P
      refine j_icmp_lt (tgt := 44) dX11_of_35 (by decide) (fun c => ?_) (fun c => ?_)
      · rw [if_pos c] at h
        exact fX11_of_J44_ok hf a0 la0 ha0 a1 ha1 Q P hP   l2 A24 h
      · rw [if_neg c] at h
        refine j_iinc (v := l2 + 1) 2 rfl rfl (by decide) rfl dX11_of_38 ?_
        refine j_goto (tgt := 7) dX11_of_41 (by decide) ?_
        refine j_ls [1, 2, 0] rfl ?_
        exact ih (l2 + 1) A24 h
def fX11_of (a0 : Nat) (a1 : Nat) (n : Nat) (K : Nat → pKd) (A : pA) (G : pG) (Q : Int32 → pA → Prop) : Prop :=
    ∀ A25 : pA, A25 = pup A (a1 + 21) 1 0 → ∃ m26, fX11_of_L7 a0 a1 n K G  Q m26 0 A25
theorem tX11_of {Γ : jG} {n : Nat} {K : Nat → pKd} {G : pG} {A : pA} {Lg : pL} (hf : fOK n K G) (a0 : Nat) (la0 : a0 < n) (ha0 : K a0 = .inl 10) (a1 : Nat) (ha1 : isT a1)  (Q : Int32 → pA → Prop) (h : fX11_of a0 a1 n K A G Q) : jMet Γ yX11_of cX11_of 4 (some .int) [] 502 0 0 [.ref a0, .ref (a1 + 21)] (n, K, A, Lg, G) (fun o u => ∃ (r : Int32) (A' : pA), o = .inl (some (.int r)) ∧ u = (n, K, A', Lg, G) ∧ Q r A') := by
  unfold fX11_of at h
  obtain ⟨P, hP⟩ : ∃ P : jO → pS → Prop, P = (fun o u => ∃ (r : Int32) (A' : pA), o = .inl (some (.int r)) ∧ u = (n, K, A', Lg, G) ∧ Q r A') := ⟨_, rfl⟩
  rw [← hP]
  refine jMet_of rfl rfl rfl (Nat.le_of_ble_eq_true rfl) ?_
  show J Γ RX11 cX11_of 4 (some .int) "of" [] 502 0 0 0 [(0, .ref a0), (1, .ref (a1 + 21))] [] (n, K, A, Lg, G) P
  refine j_aload_n 1 rfl dX11_of_0 ?_
  refine j_iconst (v := 0) dX11_of_1 (by decide) ?_
  refine j_putfiE (fp_X11_23_6 _) rfl (by decide) (by decide) (t_lt hf ha1 (j := 21) (by decide)) (tk_21 hf ha1) dX11_of_2 (fun A25 eA25 => ?_)
  replace h := h A25 eA25
  refine j_iconst (v := 0) dX11_of_5 (by decide) ?_
  refine j_istore_n (by decide) rfl dX11_of_6 ?_
  refine j_ls [1, 2, 0] rfl ?_
  obtain ⟨m26, h⟩ := h
  exact fX11_of_L7_ok hf a0 la0 ha0 a1 ha1 Q P hP   m26 0 A25 h
theorem myX5_copies : jY yX5_copies cX5_copies 2 none 2 := ⟨q1299, q132, by decide +kernel, by decide +kernel, by decide⟩
def fX5_copies (a0 : Nat) (z0 : Nat) (a1 : Nat) (z1 : Nat) (A : pA) (Q : pA → Prop) : Prop :=
    (¬ (Int32.ofNat z0) < 0) ∧ (((0 : Int32).toNatClampNeg + ((Int32.ofNat z0) : Int32).toNatClampNeg ≤ z0) ∧ (((0 : Int32).toNatClampNeg + ((Int32.ofNat z0) : Int32).toNatClampNeg ≤ z1) ∧ (∀ A4 : pA, A4 = prow A a1 (va_cpy (A a0) (A a1) (0 : Int32).toNatClampNeg (0 : Int32).toNatClampNeg ((Int32.ofNat z0) : Int32).toNatClampNeg) → Q A4)))
theorem tX5_copies {Γ : jG} {n : Nat} {K : Nat → pKd} {G : pG} {A : pA} {Lg : pL} (hf : fOK n K G) (a0 : Nat) (z0 : Nat) (la0 : a0 < n) (ha0 : K a0 = .inr (0, z0)) (a1 : Nat) (z1 : Nat) (la1 : a1 < n) (ha1 : K a1 = .inr (0, z1))  (Q : pA → Prop) (h : fX5_copies a0 z0 a1 z1 A Q) : jMet Γ yX5_copies cX5_copies 2 none [] 1 0 0 [.ref a0, .ref a1] (n, K, A, Lg, G) (fun o u => ∃ (A' : pA), o = .inl none ∧ u = (n, K, A', Lg, G) ∧ Q A') := by
  unfold fX5_copies at h
  obtain ⟨P, hP⟩ : ∃ P : jO → pS → Prop, P = (fun o u => ∃ (A' : pA), o = .inl none ∧ u = (n, K, A', Lg, G) ∧ Q A') := ⟨_, rfl⟩
  rw [← hP]
  refine jMet_of rfl rfl rfl (Nat.le_of_ble_eq_true rfl) ?_
  show J Γ RX5 cX5_copies 2 none "copies" [] 1 0 0 0 [(0, .ref a0), (1, .ref a1)] [] (n, K, A, Lg, G) P
  refine j_aload_n 0 rfl dX5_copies_0 ?_
  refine j_iconst (v := 0) dX5_copies_1 (by decide) ?_
  refine j_aload_n 1 rfl dX5_copies_2 ?_
  refine j_iconst (v := 0) dX5_copies_3 (by decide) ?_
  refine j_aload_n 0 rfl dX5_copies_4 ?_
  refine j_alen (t := 0) rfl la0 ha0 dX5_copies_5 ?_
  obtain ⟨b1, h⟩ := h
  obtain ⟨b2, h⟩ := h
  obtain ⟨b3, h⟩ := h
  refine j_copyE (t := 0) rfl rfl rfl q1300 q921 q920 q155 la0 la1 ha0 ha1 (by decide) (by decide) b1 b2 b3 (fun _ _ => rfl) (Nat.le_of_ble_eq_true rfl) (by decide) dX5_copies_6 (fun A4 eA4 => ?_)
  replace h := h A4 eA4
  refine j_vret rfl ?_ dX5_copies_9
  rw [hP]
  exact ⟨A4, rfl, rfl, h⟩
theorem myX5_takes : jY yX5_takes cX5_takes 3 none 1 := ⟨q1296, q132, by decide +kernel, by decide +kernel, by decide⟩
def fX5_takes_L79 (a0 : Nat) (a1 : Nat)  (Q : pA → Prop) : Nat → Int32 → pA → Prop
  | 0, _, _ => False
  | n9 + 1, l2, A =>
    (if 5 ≤ l2 then ∀ A1 : pA, A1 = pup A a0 9 (A a1 9) → ∀ A2 : pA, A2 = pup A1 a0 10 (A1 a1 10) → ∀ A3 : pA, A3 = pup A2 a0 11 (A2 a1 11) → Q A3 else (vp_in l2 5) ∧ ((vp_in l2 5) ∧ (fX5_copies (a1 + 9 + (l2).toNatClampNeg) 4 (a0 + 9 + (l2).toNatClampNeg) 4 A (fun A6 => (vp_in l2 5) ∧ ((vp_in l2 5) ∧ (fX5_copies (a1 + 15 + (l2).toNatClampNeg) 4 (a0 + 15 + (l2).toNatClampNeg) 4 A6 (fun A9 => fX5_takes_L79 a0 a1  Q n9 (l2 + 1) A9)))))))
theorem fX5_takes_L79_ok {Γ : jG} {n : Nat} {K : Nat → pKd} {G : pG} {Lg : pL} (hf : fOK n K G) (a0 : Nat) (ha0 : isT a0) (a1 : Nat) (ha1 : isT a1) (Q : pA → Prop) (P : jO → pS → Prop) (hP : P = (fun o u => ∃ (A' : pA), o = .inl none ∧ u = (n, K, A', Lg, G) ∧ Q A'))    : ∀ (n9 : Nat) (l2 : Int32) (A : pA), fX5_takes_L79 a0 a1  Q n9 l2 A → J Γ RX5 cX5_takes 3 none "takes" [] 2 0 0 79 [(0, .ref a0), (1, .ref a1), (2, .int l2)] [] (n, K, A, Lg, G) P := by
  intro n9
  induction n9 with
  | zero => intro l2 A h; exact h.elim
  | succ n9 ih =>
    intro l2 A h
    unfold fX5_takes_L79 at h
    refine j_iload_n 2 rfl dX5_takes_79 ?_
    refine j_iconst (v := 5) dX5_takes_80 (by decide) ?_
    refine j_icmp_ge (tgt := 120) dX5_takes_81 (by decide) (fun c => ?_) (fun c => ?_)
    · rw [if_pos c] at h
      refine j_aload_n 0 rfl dX5_takes_120 ?_
      refine j_aload_n 1 rfl dX5_takes_121 ?_
      refine j_getfi fl_X5_83_5 rfl (t_lt hf ha1 (j := 0) (by decide)) (tk_0 hf ha1) dX5_takes_122 ?_
      refine j_putfiE (fp_X5_83_5 _) rfl rfl rfl (t_lt hf ha0 (j := 0) (by decide)) (tk_0 hf ha0) dX5_takes_125 (fun A1 eA1 => ?_)
      replace h := h A1 eA1
      refine j_aload_n 0 rfl dX5_takes_128 ?_
      refine j_aload_n 1 rfl dX5_takes_129 ?_
      refine j_getfi fl_X5_86_5 rfl (t_lt hf ha1 (j := 0) (by decide)) (tk_0 hf ha1) dX5_takes_130 ?_
      refine j_putfiE (fp_X5_86_5 _) rfl rfl rfl (t_lt hf ha0 (j := 0) (by decide)) (tk_0 hf ha0) dX5_takes_133 (fun A2 eA2 => ?_)
      replace h := h A2 eA2
      refine j_aload_n 0 rfl dX5_takes_136 ?_
      refine j_aload_n 1 rfl dX5_takes_137 ?_
      refine j_getfi fl_X5_89_5 rfl (t_lt hf ha1 (j := 0) (by decide)) (tk_0 hf ha1) dX5_takes_138 ?_
      refine j_putfiE (fp_X5_89_5 _) rfl rfl rfl (t_lt hf ha0 (j := 0) (by decide)) (tk_0 hf ha0) dX5_takes_141 (fun A3 eA3 => ?_)
      replace h := h A3 eA3
      refine j_vret rfl ?_ dX5_takes_144
      rw [hP]
      exact ⟨A3, rfl, rfl, h⟩
    · rw [if_neg c] at h
      refine j_aload_n 1 rfl dX5_takes_84 ?_
      refine j_getfr fl_X5_35_5 rfl (t_lt hf ha1 (j := 0) (by decide)) (tk_0 hf ha1) (tg_0_7 hf ha1) dX5_takes_85 ?_
      refine j_iload_n 2 rfl dX5_takes_88 ?_
      obtain ⟨b4, h⟩ := h
      refine j_aaldJ (t := 11) (j := (l2).toNatClampNeg) rfl rfl rfl (t_lt hf ha1 (j := 8) (by decide)) (tk_8 hf ha1) b4 rfl (t_row8 hf ha1 (j_ix b4)).1 dX5_takes_89 ?_
      refine j_aload_n 0 rfl dX5_takes_90 ?_
      refine j_getfr fl_X5_35_5 rfl (t_lt hf ha0 (j := 0) (by decide)) (tk_0 hf ha0) (tg_0_7 hf ha0) dX5_takes_91 ?_
      refine j_iload_n 2 rfl dX5_takes_94 ?_
      obtain ⟨b5, h⟩ := h
      refine j_aaldJ (t := 11) (j := (l2).toNatClampNeg) rfl rfl rfl (t_lt hf ha0 (j := 8) (by decide)) (tk_8 hf ha0) b5 rfl (t_row8 hf ha0 (j_ix b5)).1 dX5_takes_95 ?_
      refine j_callS (As := [.ref (a1 + 9 + (l2).toNatClampNeg), .ref (a0 + 9 + (l2).toNatClampNeg)]) (st := []) (kc' := 0) (ks' := 0) (tX5_copies hf (a1 + 9 + (l2).toNatClampNeg) 4 (t_rowlt8 hf ha1 (j_ix b4)) (t_row8 hf ha1 (j_ix b4)).2 (a0 + 9 + (l2).toNatClampNeg) 4 (t_rowlt8 hf ha0 (j_ix b5)) (t_row8 hf ha0 (j_ix b5)).2 _ h) myX5_copies q1297 q1298 rfl (Nat.le_of_ble_eq_true rfl) rfl (by decide) (Nat.le_refl 0) (Nat.le_refl 0) dX5_takes_96 (fun v9 u9 hq => ?_) (fun k9 u9 hq => by obtain ⟨_, e9, _⟩ := hq; cases e9)
      obtain ⟨A6, e9, rfl, h⟩ := hq
      obtain rfl := Sum.inl.inj e9
      show J Γ RX5 cX5_takes 3 none "takes" [] 2 0 0 99 [(0, .ref a0), (1, .ref a1), (2, .int l2)] [] (n, K, A6, Lg, G) P
      refine j_aload_n 1 rfl dX5_takes_99 ?_
      refine j_getfr fl_X5_38_5 rfl (t_lt hf ha1 (j := 0) (by decide)) (tk_0 hf ha1) (tg_0_8 hf ha1) dX5_takes_100 ?_
      refine j_iload_n 2 rfl dX5_takes_103 ?_
      obtain ⟨b7, h⟩ := h
      refine j_aaldJ (t := 11) (j := (l2).toNatClampNeg) rfl rfl rfl (t_lt hf ha1 (j := 14) (by decide)) (tk_14 hf ha1) b7 rfl (t_row14 hf ha1 (j_ix b7)).1 dX5_takes_104 ?_
      refine j_aload_n 0 rfl dX5_takes_105 ?_
      refine j_getfr fl_X5_38_5 rfl (t_lt hf ha0 (j := 0) (by decide)) (tk_0 hf ha0) (tg_0_8 hf ha0) dX5_takes_106 ?_
      refine j_iload_n 2 rfl dX5_takes_109 ?_
      obtain ⟨b8, h⟩ := h
      refine j_aaldJ (t := 11) (j := (l2).toNatClampNeg) rfl rfl rfl (t_lt hf ha0 (j := 14) (by decide)) (tk_14 hf ha0) b8 rfl (t_row14 hf ha0 (j_ix b8)).1 dX5_takes_110 ?_
      refine j_callS (As := [.ref (a1 + 15 + (l2).toNatClampNeg), .ref (a0 + 15 + (l2).toNatClampNeg)]) (st := []) (kc' := 0) (ks' := 0) (tX5_copies hf (a1 + 15 + (l2).toNatClampNeg) 4 (t_rowlt14 hf ha1 (j_ix b7)) (t_row14 hf ha1 (j_ix b7)).2 (a0 + 15 + (l2).toNatClampNeg) 4 (t_rowlt14 hf ha0 (j_ix b8)) (t_row14 hf ha0 (j_ix b8)).2 _ h) myX5_copies q1297 q1298 rfl (Nat.le_of_ble_eq_true rfl) rfl (by decide) (Nat.le_refl 0) (Nat.le_refl 0) dX5_takes_111 (fun v9 u9 hq => ?_) (fun k9 u9 hq => by obtain ⟨_, e9, _⟩ := hq; cases e9)
      obtain ⟨A9, e9, rfl, h⟩ := hq
      obtain rfl := Sum.inl.inj e9
      show J Γ RX5 cX5_takes 3 none "takes" [] 2 0 0 114 [(0, .ref a0), (1, .ref a1), (2, .int l2)] [] (n, K, A9, Lg, G) P
      refine j_iinc (v := l2 + 1) 2 rfl rfl (by decide) rfl dX5_takes_114 ?_
      refine j_goto (tgt := 79) dX5_takes_117 (by decide) ?_
      refine j_ls [1, 2, 0] rfl ?_
      exact ih (l2 + 1) A9 h
def fX5_takes (a0 : Nat) (a1 : Nat) (A : pA) (Q : pA → Prop) : Prop :=
    fX5_copies (a1 + 1) 5 (a0 + 1) 5 A (fun A10 => fX5_copies (a1 + 2) 5 (a0 + 2) 5 A10 (fun A11 => fX5_copies (a1 + 3) 5 (a0 + 3) 5 A11 (fun A12 => fX5_copies (a1 + 4) 4 (a0 + 4) 4 A12 (fun A13 => fX5_copies (a1 + 5) 4 (a0 + 5) 4 A13 (fun A14 => fX5_copies (a1 + 6) 4 (a0 + 6) 4 A14 (fun A15 => fX5_copies (a1 + 7) 4 (a0 + 7) 4 A15 (fun A16 => ∃ m17, fX5_takes_L79 a0 a1  Q m17 0 A16)))))))
theorem tX5_takes {Γ : jG} {n : Nat} {K : Nat → pKd} {G : pG} {A : pA} {Lg : pL} (hf : fOK n K G) (a0 : Nat) (ha0 : isT a0) (a1 : Nat) (ha1 : isT a1)  (Q : pA → Prop) (h : fX5_takes a0 a1 A Q) : jMet Γ yX5_takes cX5_takes 3 none [] 2 0 0 [.ref a0, .ref a1] (n, K, A, Lg, G) (fun o u => ∃ (A' : pA), o = .inl none ∧ u = (n, K, A', Lg, G) ∧ Q A') := by
  unfold fX5_takes at h
  obtain ⟨P, hP⟩ : ∃ P : jO → pS → Prop, P = (fun o u => ∃ (A' : pA), o = .inl none ∧ u = (n, K, A', Lg, G) ∧ Q A') := ⟨_, rfl⟩
  rw [← hP]
  refine jMet_of rfl rfl rfl (Nat.le_of_ble_eq_true rfl) ?_
  show J Γ RX5 cX5_takes 3 none "takes" [] 2 0 0 0 [(0, .ref a0), (1, .ref a1)] [] (n, K, A, Lg, G) P
  refine j_aload_n 1 rfl dX5_takes_0 ?_
  refine j_getfr fl_X5_9_5 rfl (t_lt hf ha1 (j := 0) (by decide)) (tk_0 hf ha1) (tg_0_0 hf ha1) dX5_takes_1 ?_
  refine j_aload_n 0 rfl dX5_takes_4 ?_
  refine j_getfr fl_X5_9_5 rfl (t_lt hf ha0 (j := 0) (by decide)) (tk_0 hf ha0) (tg_0_0 hf ha0) dX5_takes_5 ?_
  refine j_callS (As := [.ref (a1 + 1), .ref (a0 + 1)]) (st := []) (kc' := 0) (ks' := 0) (tX5_copies hf (a1 + 1) 5 (t_lt hf ha1 (j := 1) (by decide)) (tk_1 hf ha1) (a0 + 1) 5 (t_lt hf ha0 (j := 1) (by decide)) (tk_1 hf ha0) _ h) myX5_copies q1297 q1298 rfl (Nat.le_of_ble_eq_true rfl) rfl (by decide) (Nat.le_refl 0) (Nat.le_refl 0) dX5_takes_8 (fun v9 u9 hq => ?_) (fun k9 u9 hq => by obtain ⟨_, e9, _⟩ := hq; cases e9)
  obtain ⟨A10, e9, rfl, h⟩ := hq
  obtain rfl := Sum.inl.inj e9
  show J Γ RX5 cX5_takes 3 none "takes" [] 2 0 0 11 [(0, .ref a0), (1, .ref a1)] [] (n, K, A10, Lg, G) P
  refine j_aload_n 1 rfl dX5_takes_11 ?_
  refine j_getfr fl_X5_15_5 rfl (t_lt hf ha1 (j := 0) (by decide)) (tk_0 hf ha1) (tg_0_1 hf ha1) dX5_takes_12 ?_
  refine j_aload_n 0 rfl dX5_takes_15 ?_
  refine j_getfr fl_X5_15_5 rfl (t_lt hf ha0 (j := 0) (by decide)) (tk_0 hf ha0) (tg_0_1 hf ha0) dX5_takes_16 ?_
  refine j_callS (As := [.ref (a1 + 2), .ref (a0 + 2)]) (st := []) (kc' := 0) (ks' := 0) (tX5_copies hf (a1 + 2) 5 (t_lt hf ha1 (j := 2) (by decide)) (tk_2 hf ha1) (a0 + 2) 5 (t_lt hf ha0 (j := 2) (by decide)) (tk_2 hf ha0) _ h) myX5_copies q1297 q1298 rfl (Nat.le_of_ble_eq_true rfl) rfl (by decide) (Nat.le_refl 0) (Nat.le_refl 0) dX5_takes_19 (fun v9 u9 hq => ?_) (fun k9 u9 hq => by obtain ⟨_, e9, _⟩ := hq; cases e9)
  obtain ⟨A11, e9, rfl, h⟩ := hq
  obtain rfl := Sum.inl.inj e9
  show J Γ RX5 cX5_takes 3 none "takes" [] 2 0 0 22 [(0, .ref a0), (1, .ref a1)] [] (n, K, A11, Lg, G) P
  refine j_aload_n 1 rfl dX5_takes_22 ?_
  refine j_getfr fl_X5_18_5 rfl (t_lt hf ha1 (j := 0) (by decide)) (tk_0 hf ha1) (tg_0_2 hf ha1) dX5_takes_23 ?_
  refine j_aload_n 0 rfl dX5_takes_26 ?_
  refine j_getfr fl_X5_18_5 rfl (t_lt hf ha0 (j := 0) (by decide)) (tk_0 hf ha0) (tg_0_2 hf ha0) dX5_takes_27 ?_
  refine j_callS (As := [.ref (a1 + 3), .ref (a0 + 3)]) (st := []) (kc' := 0) (ks' := 0) (tX5_copies hf (a1 + 3) 5 (t_lt hf ha1 (j := 3) (by decide)) (tk_3 hf ha1) (a0 + 3) 5 (t_lt hf ha0 (j := 3) (by decide)) (tk_3 hf ha0) _ h) myX5_copies q1297 q1298 rfl (Nat.le_of_ble_eq_true rfl) rfl (by decide) (Nat.le_refl 0) (Nat.le_refl 0) dX5_takes_30 (fun v9 u9 hq => ?_) (fun k9 u9 hq => by obtain ⟨_, e9, _⟩ := hq; cases e9)
  obtain ⟨A12, e9, rfl, h⟩ := hq
  obtain rfl := Sum.inl.inj e9
  show J Γ RX5 cX5_takes 3 none "takes" [] 2 0 0 33 [(0, .ref a0), (1, .ref a1)] [] (n, K, A12, Lg, G) P
  refine j_aload_n 1 rfl dX5_takes_33 ?_
  refine j_getfr fl_X5_21_5 rfl (t_lt hf ha1 (j := 0) (by decide)) (tk_0 hf ha1) (tg_0_3 hf ha1) dX5_takes_34 ?_
  refine j_aload_n 0 rfl dX5_takes_37 ?_
  refine j_getfr fl_X5_21_5 rfl (t_lt hf ha0 (j := 0) (by decide)) (tk_0 hf ha0) (tg_0_3 hf ha0) dX5_takes_38 ?_
  refine j_callS (As := [.ref (a1 + 4), .ref (a0 + 4)]) (st := []) (kc' := 0) (ks' := 0) (tX5_copies hf (a1 + 4) 4 (t_lt hf ha1 (j := 4) (by decide)) (tk_4 hf ha1) (a0 + 4) 4 (t_lt hf ha0 (j := 4) (by decide)) (tk_4 hf ha0) _ h) myX5_copies q1297 q1298 rfl (Nat.le_of_ble_eq_true rfl) rfl (by decide) (Nat.le_refl 0) (Nat.le_refl 0) dX5_takes_41 (fun v9 u9 hq => ?_) (fun k9 u9 hq => by obtain ⟨_, e9, _⟩ := hq; cases e9)
  obtain ⟨A13, e9, rfl, h⟩ := hq
  obtain rfl := Sum.inl.inj e9
  show J Γ RX5 cX5_takes 3 none "takes" [] 2 0 0 44 [(0, .ref a0), (1, .ref a1)] [] (n, K, A13, Lg, G) P
  refine j_aload_n 1 rfl dX5_takes_44 ?_
  refine j_getfr fl_X5_24_5 rfl (t_lt hf ha1 (j := 0) (by decide)) (tk_0 hf ha1) (tg_0_4 hf ha1) dX5_takes_45 ?_
  refine j_aload_n 0 rfl dX5_takes_48 ?_
  refine j_getfr fl_X5_24_5 rfl (t_lt hf ha0 (j := 0) (by decide)) (tk_0 hf ha0) (tg_0_4 hf ha0) dX5_takes_49 ?_
  refine j_callS (As := [.ref (a1 + 5), .ref (a0 + 5)]) (st := []) (kc' := 0) (ks' := 0) (tX5_copies hf (a1 + 5) 4 (t_lt hf ha1 (j := 5) (by decide)) (tk_5 hf ha1) (a0 + 5) 4 (t_lt hf ha0 (j := 5) (by decide)) (tk_5 hf ha0) _ h) myX5_copies q1297 q1298 rfl (Nat.le_of_ble_eq_true rfl) rfl (by decide) (Nat.le_refl 0) (Nat.le_refl 0) dX5_takes_52 (fun v9 u9 hq => ?_) (fun k9 u9 hq => by obtain ⟨_, e9, _⟩ := hq; cases e9)
  obtain ⟨A14, e9, rfl, h⟩ := hq
  obtain rfl := Sum.inl.inj e9
  show J Γ RX5 cX5_takes 3 none "takes" [] 2 0 0 55 [(0, .ref a0), (1, .ref a1)] [] (n, K, A14, Lg, G) P
  refine j_aload_n 1 rfl dX5_takes_55 ?_
  refine j_getfr fl_X5_27_5 rfl (t_lt hf ha1 (j := 0) (by decide)) (tk_0 hf ha1) (tg_0_5 hf ha1) dX5_takes_56 ?_
  refine j_aload_n 0 rfl dX5_takes_59 ?_
  refine j_getfr fl_X5_27_5 rfl (t_lt hf ha0 (j := 0) (by decide)) (tk_0 hf ha0) (tg_0_5 hf ha0) dX5_takes_60 ?_
  refine j_callS (As := [.ref (a1 + 6), .ref (a0 + 6)]) (st := []) (kc' := 0) (ks' := 0) (tX5_copies hf (a1 + 6) 4 (t_lt hf ha1 (j := 6) (by decide)) (tk_6 hf ha1) (a0 + 6) 4 (t_lt hf ha0 (j := 6) (by decide)) (tk_6 hf ha0) _ h) myX5_copies q1297 q1298 rfl (Nat.le_of_ble_eq_true rfl) rfl (by decide) (Nat.le_refl 0) (Nat.le_refl 0) dX5_takes_63 (fun v9 u9 hq => ?_) (fun k9 u9 hq => by obtain ⟨_, e9, _⟩ := hq; cases e9)
  obtain ⟨A15, e9, rfl, h⟩ := hq
  obtain rfl := Sum.inl.inj e9
  show J Γ RX5 cX5_takes 3 none "takes" [] 2 0 0 66 [(0, .ref a0), (1, .ref a1)] [] (n, K, A15, Lg, G) P
  refine j_aload_n 1 rfl dX5_takes_66 ?_
  refine j_getfr fl_X5_30_5 rfl (t_lt hf ha1 (j := 0) (by decide)) (tk_0 hf ha1) (tg_0_6 hf ha1) dX5_takes_67 ?_
  refine j_aload_n 0 rfl dX5_takes_70 ?_
  refine j_getfr fl_X5_30_5 rfl (t_lt hf ha0 (j := 0) (by decide)) (tk_0 hf ha0) (tg_0_6 hf ha0) dX5_takes_71 ?_
  refine j_callS (As := [.ref (a1 + 7), .ref (a0 + 7)]) (st := []) (kc' := 0) (ks' := 0) (tX5_copies hf (a1 + 7) 4 (t_lt hf ha1 (j := 7) (by decide)) (tk_7 hf ha1) (a0 + 7) 4 (t_lt hf ha0 (j := 7) (by decide)) (tk_7 hf ha0) _ h) myX5_copies q1297 q1298 rfl (Nat.le_of_ble_eq_true rfl) rfl (by decide) (Nat.le_refl 0) (Nat.le_refl 0) dX5_takes_74 (fun v9 u9 hq => ?_) (fun k9 u9 hq => by obtain ⟨_, e9, _⟩ := hq; cases e9)
  obtain ⟨A16, e9, rfl, h⟩ := hq
  obtain rfl := Sum.inl.inj e9
  show J Γ RX5 cX5_takes 3 none "takes" [] 2 0 0 77 [(0, .ref a0), (1, .ref a1)] [] (n, K, A16, Lg, G) P
  refine j_iconst (v := 0) dX5_takes_77 (by decide) ?_
  refine j_istore_n (by decide) rfl dX5_takes_78 ?_
  refine j_ls [1, 2, 0] rfl ?_
  obtain ⟨m17, h⟩ := h
  exact fX5_takes_L79_ok hf a0 ha0 a1 ha1 Q P hP   m17 0 A16 h
theorem myX5_wants : jY yX5_wants cX5_wants 4 (some .int) 3 := ⟨q1245, q132, by decide +kernel, by decide +kernel, by decide⟩
def fX5_wants (a0 : Nat) (a1 : Nat) (n : Nat) (K : Nat → pKd) (A : pA) (G : pG) (p2 : Int32) (p3 : Int32) (Q : Int32 → pA → Prop) : Prop :=
    ((G (a1 + 6) 0 = .null ∧ ((vp_in p2 5) ∧ ((vp_in p3 4) ∧ (Q (A (a0 + 15 + (p2).toNatClampNeg) (p3).toNatClampNeg) A)))) ∨ (∃ x1 : Nat, G (a1 + 6) 0 = .ref x1 ∧ x1 < 2000000 ∧ (∃ e4 : Nat, G (a1 + 6) 0 = .ref e4 ∧ (fX5_asks a0 a1 n K A G p2 p3 (fun A5 => (e4 < n) ∧ ((K e4 = .inl 10) ∧ (fX11_of e4 a0 n K A5 G (fun r8 A9 => Q r8 A9))))))))
theorem tX5_wants {Γ : jG} {n : Nat} {K : Nat → pKd} {G : pG} {A : pA} {Lg : pL} (hf : fOK n K G) (a0 : Nat) (ha0 : isT a0) (a1 : Nat) (ha1 : xOK n K G a1) (p2 : Int32) (p3 : Int32) (Q : Int32 → pA → Prop) (h : fX5_wants a0 a1 n K A G p2 p3 Q) : jMet Γ yX5_wants cX5_wants 4 (some .int) [] 503 0 0 [.ref a0, .ref a1, .int p2, .int p3] (n, K, A, Lg, G) (fun o u => ∃ (r : Int32) (A' : pA), o = .inl (some (.int r)) ∧ u = (n, K, A', Lg, G) ∧ Q r A') := by
  unfold fX5_wants at h
  obtain ⟨P, hP⟩ : ∃ P : jO → pS → Prop, P = (fun o u => ∃ (r : Int32) (A' : pA), o = .inl (some (.int r)) ∧ u = (n, K, A', Lg, G) ∧ Q r A') := ⟨_, rfl⟩
  rw [← hP]
  refine jMet_of rfl rfl rfl (Nat.le_of_ble_eq_true rfl) ?_
  show J Γ RX5 cX5_wants 4 (some .int) "wants" [] 503 0 0 0 [(0, .ref a0), (1, .ref a1), (2, .int p2), (3, .int p3)] [] (n, K, A, Lg, G) P
  refine j_aload_n 1 rfl dX5_wants_0 ?_
  refine j_getfr fl_X5_127_4 rfl (x_lt ha1 (j := 0) (by decide)) (xk_0 ha1) (xg_0_5 ha1) dX5_wants_1 ?_
  refine j_iconst (v := 0) dX5_wants_4 (by decide) ?_
  refine j_aaldJ (t := 7) (j := 0) rfl rfl rfl (x_lt ha1 (j := 6) (by decide)) (xk_6 ha1) (by unfold vp_in; decide) rfl rfl dX5_wants_5 ?_
  rcases h with ⟨c, h⟩ | ⟨x1, c, c2, h⟩
  · rw [c]
    refine j_ifnonnullN dX5_wants_6 ?_
    refine j_aload_n 0 rfl dX5_wants_9 ?_
    refine j_getfr fl_X5_38_5 rfl (t_lt hf ha0 (j := 0) (by decide)) (tk_0 hf ha0) (tg_0_8 hf ha0) dX5_wants_10 ?_
    refine j_iload_n 2 rfl dX5_wants_13 ?_
    obtain ⟨b2, h⟩ := h
    refine j_aaldJ (t := 11) (j := (p2).toNatClampNeg) rfl rfl rfl (t_lt hf ha0 (j := 14) (by decide)) (tk_14 hf ha0) b2 rfl (t_row14 hf ha0 (j_ix b2)).1 dX5_wants_14 ?_
    refine j_iload_n 3 rfl dX5_wants_15 ?_
    obtain ⟨b3, h⟩ := h
    refine j_ialdJ (j := (p3).toNatClampNeg) (t_rowlt14 hf ha0 (j_ix b2)) (t_row14 hf ha0 (j_ix b2)).2 b3 rfl dX5_wants_16 ?_
    refine j_goto (tgt := 36) dX5_wants_17 (by decide) ?_
    refine j_iret rfl ?_ dX5_wants_36
    rw [hP]
    exact ⟨A (a0 + 15 + (p2).toNatClampNeg) (p3).toNatClampNeg, A, rfl, rfl, h⟩
  · rw [c]
    refine j_ifnonnull (tgt := 20) c2 dX5_wants_6 (by decide) ?_
    refine j_aload_n 1 rfl dX5_wants_20 ?_
    refine j_getfr fl_X5_127_4 rfl (x_lt ha1 (j := 0) (by decide)) (xk_0 ha1) (xg_0_5 ha1) dX5_wants_21 ?_
    refine j_iconst (v := 0) dX5_wants_24 (by decide) ?_
    obtain ⟨e4, e4h, h⟩ := h
    refine j_aaldJ (t := 7) (j := 0) rfl rfl rfl (x_lt ha1 (j := 6) (by decide)) (xk_6 ha1) (by unfold vp_in; decide) rfl e4h dX5_wants_25 ?_
    refine j_aload_n 0 rfl dX5_wants_26 ?_
    refine j_aload_n 1 rfl dX5_wants_27 ?_
    refine j_iload_n 2 rfl dX5_wants_28 ?_
    refine j_iload_n 3 rfl dX5_wants_29 ?_
    refine j_callV (b := a0) (As := [.ref a1, .int p2, .int p3]) (st := [.ref e4]) (C := RX5) (kc' := 0) (ks' := 0) (tX5_asks hf a0 ha0 a1 ha1 p2 p3 _ h) myX5_asks rfl q1246 q1248 qs40 (j_l2 hf.1 (t_lt hf ha0 (j := 0) (by decide))) (fun s9 H9 hK9 hR9 h69 => jIs_in hK9 hR9 h69 (t_lt hf ha0 (j := 0) (by decide)) (tk_0 hf ha0) rfl) rfl (Nat.le_of_ble_eq_true rfl) rfl (by decide) (Nat.le_refl 0) (Nat.le_refl 0) dX5_wants_30 (fun v9 u9 hq => ?_) (fun k9 u9 hq => by obtain ⟨_, e9, _⟩ := hq; cases e9)
    obtain ⟨A5, e9, rfl, h⟩ := hq
    obtain rfl := Sum.inl.inj e9
    show J Γ RX5 cX5_wants 4 (some .int) "wants" [] 503 0 0 33 [(0, .ref a0), (1, .ref a1), (2, .int p2), (3, .int p3)] [.ref (a0 + 21), .ref e4] (n, K, A5, Lg, G) P
    obtain ⟨b6, h⟩ := h
    obtain ⟨b7, h⟩ := h
    refine j_callV (b := e4) (As := [.ref (a0 + 21)]) (st := []) (C := RX11) (kc' := 0) (ks' := 0) (tX11_of hf e4 b6 b7 a0 ha0 _ h) myX11_of rfl q1255 q1256 q1257 (j_l2 hf.1 b6) (fun s9 H9 hK9 hR9 h69 => jIs_in hK9 hR9 h69 b6 b7 rfl) rfl (Nat.le_of_ble_eq_true rfl) rfl (by decide) (Nat.le_refl 0) (Nat.le_refl 0) dX5_wants_33 (fun v9 u9 hq => ?_) (fun k9 u9 hq => by obtain ⟨_, _, e9, _⟩ := hq; cases e9)
    obtain ⟨r8, A9, e9, rfl, h⟩ := hq
    obtain rfl := Sum.inl.inj e9
    show J Γ RX5 cX5_wants 4 (some .int) "wants" [] 503 0 0 36 [(0, .ref a0), (1, .ref a1), (2, .int p2), (3, .int p3)] [.int r8] (n, K, A9, Lg, G) P
    refine j_iret rfl ?_ dX5_wants_36
    rw [hP]
    exact ⟨r8, A9, rfl, rfl, h⟩
theorem myX5_takesOf : jY yX5_takesOf cX5_takesOf 4 (some .int) 3 := ⟨q1275, q132, by decide +kernel, by decide +kernel, by decide⟩
def fX5_takesOf_J42 (a0 : Nat) (a1 : Nat) (n : Nat) (K : Nat → pKd) (G : pG)  (Q : Int32 → pA → Prop) (l3 : Int32) (s0 : Int32) (A : pA) : Prop :=
    (vp_in l3 4) ∧ (fX0_within A s0 0 (A (a0 + 6) (l3).toNatClampNeg) (fun r2 => Q r2 A))
theorem fX5_takesOf_J42_ok {Γ : jG} {n : Nat} {K : Nat → pKd} {G : pG} {Lg : pL} (hf : fOK n K G) (a0 : Nat) (ha0 : isT a0) (a1 : Nat) (ha1 : xOK n K G a1) (Q : Int32 → pA → Prop) (P : jO → pS → Prop) (hP : P = (fun o u => ∃ (r : Int32) (A' : pA), o = .inl (some (.int r)) ∧ u = (n, K, A', Lg, G) ∧ Q r A'))   (l3 : Int32) (s0 : Int32) (A : pA) (h : fX5_takesOf_J42 a0 a1 n K G  Q l3 s0 A) : J Γ RX5 cX5_takesOf 4 (some .int) "takesOf" [] 503 0 0 42 [(0, .ref a0), (3, .int l3)] [.int s0] (n, K, A, Lg, G) P := by
  unfold fX5_takesOf_J42 at h
  refine j_iconst (v := 0) dX5_takesOf_42 (by decide) ?_
  refine j_aload_n 0 rfl dX5_takesOf_43 ?_
  refine j_getfr fl_X5_27_5 rfl (t_lt hf ha0 (j := 0) (by decide)) (tk_0 hf ha0) (tg_0_5 hf ha0) dX5_takesOf_44 ?_
  refine j_iload_n 1 rfl dX5_takesOf_47 ?_
  obtain ⟨b1, h⟩ := h
  refine j_ialdJ (j := (l3).toNatClampNeg) (t_lt hf ha0 (j := 6) (by decide)) (tk_6 hf ha0) b1 rfl dX5_takesOf_48 ?_
  refine j_callSN (As := [.int s0, .int 0, .int (A (a0 + 6) (l3).toNatClampNeg)]) (st := []) (kc' := 0) (ks' := 0) (host := "DogsHour") (tX0_within hf s0 0 (A (a0 + 6) (l3).toNatClampNeg) _ h) myX0_within (by decide) q1277 rfl (Nat.le_of_ble_eq_true rfl) rfl (by decide) (Nat.le_refl 0) (Nat.le_refl 0) dX5_takesOf_49 (fun v9 u9 hq => ?_) (fun k9 u9 hq => by obtain ⟨_, e9, _⟩ := hq; cases e9)
  obtain ⟨r2, e9, rfl, h⟩ := hq
  obtain rfl := Sum.inl.inj e9
  show J Γ RX5 cX5_takesOf 4 (some .int) "takesOf" [] 503 0 0 52 [(0, .ref a0), (3, .int l3)] [.int r2] (n, K, A, Lg, G) P
  refine j_iret rfl ?_ dX5_takesOf_52
  rw [hP]
  exact ⟨r2, A, rfl, rfl, h⟩
def fX5_takesOf (a0 : Nat) (a1 : Nat) (n : Nat) (K : Nat → pKd) (A : pA) (G : pG) (p2 : Int32) (p3 : Int32) (Q : Int32 → pA → Prop) : Prop :=
    ((G (a1 + 6) 1 = .null ∧ (fJ5_get (a1 + 2) n K A G p2 (fun r4 => (r4 < n) ∧ ((K r4 = .inl 15) ∧ (fX5_takesOf_J42 a0 a1 n K G  Q p3 (A r4 2) A))))) ∨ (∃ x3 : Nat, G (a1 + 6) 1 = .ref x3 ∧ x3 < 2000000 ∧ (∃ e7 : Nat, G (a1 + 6) 1 = .ref e7 ∧ (fX5_asks a0 a1 n K A G p2 p3 (fun A8 => (e7 < n) ∧ ((K e7 = .inl 10) ∧ (fX11_of e7 a0 n K A8 G (fun r11 A12 => fX5_takesOf_J42 a0 a1 n K G  Q p3 r11 A12))))))))
theorem tX5_takesOf {Γ : jG} {n : Nat} {K : Nat → pKd} {G : pG} {A : pA} {Lg : pL} (hf : fOK n K G) (a0 : Nat) (ha0 : isT a0) (a1 : Nat) (ha1 : xOK n K G a1) (p2 : Int32) (p3 : Int32) (Q : Int32 → pA → Prop) (h : fX5_takesOf a0 a1 n K A G p2 p3 Q) : jMet Γ yX5_takesOf cX5_takesOf 4 (some .int) [] 503 0 0 [.ref a0, .ref a1, .int p2, .int p3] (n, K, A, Lg, G) (fun o u => ∃ (r : Int32) (A' : pA), o = .inl (some (.int r)) ∧ u = (n, K, A', Lg, G) ∧ Q r A') := by
  unfold fX5_takesOf at h
  obtain ⟨P, hP⟩ : ∃ P : jO → pS → Prop, P = (fun o u => ∃ (r : Int32) (A' : pA), o = .inl (some (.int r)) ∧ u = (n, K, A', Lg, G) ∧ Q r A') := ⟨_, rfl⟩
  rw [← hP]
  refine jMet_of rfl rfl rfl (Nat.le_of_ble_eq_true rfl) ?_
  show J Γ RX5 cX5_takesOf 4 (some .int) "takesOf" [] 503 0 0 0 [(0, .ref a0), (1, .ref a1), (2, .int p2), (3, .int p3)] [] (n, K, A, Lg, G) P
  refine j_aload_n 1 rfl dX5_takesOf_0 ?_
  refine j_getfr fl_X5_127_4 rfl (x_lt ha1 (j := 0) (by decide)) (xk_0 ha1) (xg_0_5 ha1) dX5_takesOf_1 ?_
  refine j_iconst (v := 1) dX5_takesOf_4 (by decide) ?_
  refine j_aaldJ (t := 7) (j := 1) rfl rfl rfl (x_lt ha1 (j := 6) (by decide)) (xk_6 ha1) (by unfold vp_in; decide) rfl rfl dX5_takesOf_5 ?_
  rcases h with ⟨c, h⟩ | ⟨x3, c, c2, h⟩
  · rw [c]
    refine j_ifnonnullN dX5_takesOf_6 ?_
    refine j_aload_n 1 rfl dX5_takesOf_9 ?_
    refine j_getfr fl_X5_51_4 rfl (x_lt ha1 (j := 0) (by decide)) (xk_0 ha1) (xg_0_1 ha1) dX5_takesOf_10 ?_
    refine j_iload_n 2 rfl dX5_takesOf_13 ?_
    refine j_callV (b := (a1 + 2)) (As := [.int p2]) (st := []) (C := RJ5) (kc' := 0) (ks' := 0) (tJ5_get hf (a1 + 2) (x_lt ha1 (j := 2) (by decide)) (xk_2 ha1) p2 _ h) myJ5_get rfl q539 q540 q541 (j_l2 hf.1 (x_lt ha1 (j := 2) (by decide))) (fun s9 H9 hK9 hR9 h69 => jIs_in hK9 hR9 h69 (x_lt ha1 (j := 2) (by decide)) (xk_2 ha1) rfl) rfl (Nat.le_of_ble_eq_true rfl) rfl (by decide) (Nat.le_refl 0) (Nat.le_refl 0) dX5_takesOf_14 (fun v9 u9 hq => ?_) (fun k9 u9 hq => by obtain ⟨_, e9, _⟩ := hq; cases e9)
    obtain ⟨r4, e9, rfl, h⟩ := hq
    obtain rfl := Sum.inl.inj e9
    show J Γ RX5 cX5_takesOf 4 (some .int) "takesOf" [] 503 0 0 17 [(0, .ref a0), (1, .ref a1), (2, .int p2), (3, .int p3)] [.ref r4] (n, K, A, Lg, G) P
    obtain ⟨b5, h⟩ := h
    obtain ⟨b6, h⟩ := h
    refine j_cast (C := "DogsHour$Dog") q553 (j_l2 hf.1 b5) (fun s9 H9 hK9 hR9 h69 => jIs_in hK9 hR9 h69 b5 b6 rfl) (Or.inl rfl) dX5_takesOf_17 ?_
    refine j_getfi fl_X5_117_15 rfl b5 b6 dX5_takesOf_20 ?_
    refine j_goto (tgt := 42) dX5_takesOf_23 (by decide) ?_
    refine j_ls [0, 3] rfl ?_
    exact fX5_takesOf_J42_ok hf a0 ha0 a1 ha1 Q P hP   p3 (A r4 2) A h
  · rw [c]
    refine j_ifnonnull (tgt := 26) c2 dX5_takesOf_6 (by decide) ?_
    refine j_aload_n 1 rfl dX5_takesOf_26 ?_
    refine j_getfr fl_X5_127_4 rfl (x_lt ha1 (j := 0) (by decide)) (xk_0 ha1) (xg_0_5 ha1) dX5_takesOf_27 ?_
    refine j_iconst (v := 1) dX5_takesOf_30 (by decide) ?_
    obtain ⟨e7, e7h, h⟩ := h
    refine j_aaldJ (t := 7) (j := 1) rfl rfl rfl (x_lt ha1 (j := 6) (by decide)) (xk_6 ha1) (by unfold vp_in; decide) rfl e7h dX5_takesOf_31 ?_
    refine j_aload_n 0 rfl dX5_takesOf_32 ?_
    refine j_aload_n 1 rfl dX5_takesOf_33 ?_
    refine j_iload_n 2 rfl dX5_takesOf_34 ?_
    refine j_iload_n 3 rfl dX5_takesOf_35 ?_
    refine j_callV (b := a0) (As := [.ref a1, .int p2, .int p3]) (st := [.ref e7]) (C := RX5) (kc' := 0) (ks' := 0) (tX5_asks hf a0 ha0 a1 ha1 p2 p3 _ h) myX5_asks rfl q1246 q1248 qs40 (j_l2 hf.1 (t_lt hf ha0 (j := 0) (by decide))) (fun s9 H9 hK9 hR9 h69 => jIs_in hK9 hR9 h69 (t_lt hf ha0 (j := 0) (by decide)) (tk_0 hf ha0) rfl) rfl (Nat.le_of_ble_eq_true rfl) rfl (by decide) (Nat.le_refl 0) (Nat.le_refl 0) dX5_takesOf_36 (fun v9 u9 hq => ?_) (fun k9 u9 hq => by obtain ⟨_, e9, _⟩ := hq; cases e9)
    obtain ⟨A8, e9, rfl, h⟩ := hq
    obtain rfl := Sum.inl.inj e9
    show J Γ RX5 cX5_takesOf 4 (some .int) "takesOf" [] 503 0 0 39 [(0, .ref a0), (1, .ref a1), (2, .int p2), (3, .int p3)] [.ref (a0 + 21), .ref e7] (n, K, A8, Lg, G) P
    obtain ⟨b9, h⟩ := h
    obtain ⟨b10, h⟩ := h
    refine j_callV (b := e7) (As := [.ref (a0 + 21)]) (st := []) (C := RX11) (kc' := 0) (ks' := 0) (tX11_of hf e7 b9 b10 a0 ha0 _ h) myX11_of rfl q1255 q1256 q1257 (j_l2 hf.1 b9) (fun s9 H9 hK9 hR9 h69 => jIs_in hK9 hR9 h69 b9 b10 rfl) rfl (Nat.le_of_ble_eq_true rfl) rfl (by decide) (Nat.le_refl 0) (Nat.le_refl 0) dX5_takesOf_39 (fun v9 u9 hq => ?_) (fun k9 u9 hq => by obtain ⟨_, _, e9, _⟩ := hq; cases e9)
    obtain ⟨r11, A12, e9, rfl, h⟩ := hq
    obtain rfl := Sum.inl.inj e9
    show J Γ RX5 cX5_takesOf 4 (some .int) "takesOf" [] 503 0 0 42 [(0, .ref a0), (1, .ref a1), (2, .int p2), (3, .int p3)] [.int r11] (n, K, A12, Lg, G) P
    refine j_ls [0, 3] rfl ?_
    exact fX5_takesOf_J42_ok hf a0 ha0 a1 ha1 Q P hP   p3 r11 A12 h
theorem myX5_fades : jY yX5_fades cX5_fades 4 (some .int) 3 := ⟨q1284, q132, by decide +kernel, by decide +kernel, by decide⟩
def fX5_fades (a0 : Nat) (a1 : Nat) (n : Nat) (K : Nat → pKd) (A : pA) (G : pG) (p2 : Int32) (p3 : Int32) (Q : Int32 → pA → Prop) : Prop :=
    ((G (a1 + 6) 2 = .null ∧ (Q 1 A)) ∨ (∃ x1 : Nat, G (a1 + 6) 2 = .ref x1 ∧ x1 < 2000000 ∧ (∃ e2 : Nat, G (a1 + 6) 2 = .ref e2 ∧ (fX5_asks a0 a1 n K A G p2 p3 (fun A3 => (e2 < n) ∧ ((K e2 = .inl 10) ∧ (fX11_of e2 a0 n K A3 G (fun r6 A7 => fX0_within A7 r6 0 99 (fun r8 => Q r8 A7)))))))))
theorem tX5_fades {Γ : jG} {n : Nat} {K : Nat → pKd} {G : pG} {A : pA} {Lg : pL} (hf : fOK n K G) (a0 : Nat) (ha0 : isT a0) (a1 : Nat) (ha1 : xOK n K G a1) (p2 : Int32) (p3 : Int32) (Q : Int32 → pA → Prop) (h : fX5_fades a0 a1 n K A G p2 p3 Q) : jMet Γ yX5_fades cX5_fades 4 (some .int) [] 503 0 0 [.ref a0, .ref a1, .int p2, .int p3] (n, K, A, Lg, G) (fun o u => ∃ (r : Int32) (A' : pA), o = .inl (some (.int r)) ∧ u = (n, K, A', Lg, G) ∧ Q r A') := by
  unfold fX5_fades at h
  obtain ⟨P, hP⟩ : ∃ P : jO → pS → Prop, P = (fun o u => ∃ (r : Int32) (A' : pA), o = .inl (some (.int r)) ∧ u = (n, K, A', Lg, G) ∧ Q r A') := ⟨_, rfl⟩
  rw [← hP]
  refine jMet_of rfl rfl rfl (Nat.le_of_ble_eq_true rfl) ?_
  show J Γ RX5 cX5_fades 4 (some .int) "fades" [] 503 0 0 0 [(0, .ref a0), (1, .ref a1), (2, .int p2), (3, .int p3)] [] (n, K, A, Lg, G) P
  refine j_aload_n 1 rfl dX5_fades_0 ?_
  refine j_getfr fl_X5_127_4 rfl (x_lt ha1 (j := 0) (by decide)) (xk_0 ha1) (xg_0_5 ha1) dX5_fades_1 ?_
  refine j_iconst (v := 2) dX5_fades_4 (by decide) ?_
  refine j_aaldJ (t := 7) (j := 2) rfl rfl rfl (x_lt ha1 (j := 6) (by decide)) (xk_6 ha1) (by unfold vp_in; decide) rfl rfl dX5_fades_5 ?_
  rcases h with ⟨c, h⟩ | ⟨x1, c, c2, h⟩
  · rw [c]
    refine j_ifnonnullN dX5_fades_6 ?_
    refine j_iconst (v := 1) dX5_fades_9 (by decide) ?_
    refine j_goto (tgt := 35) dX5_fades_10 (by decide) ?_
    refine j_iret rfl ?_ dX5_fades_35
    rw [hP]
    exact ⟨1, A, rfl, rfl, h⟩
  · rw [c]
    refine j_ifnonnull (tgt := 13) c2 dX5_fades_6 (by decide) ?_
    refine j_aload_n 1 rfl dX5_fades_13 ?_
    refine j_getfr fl_X5_127_4 rfl (x_lt ha1 (j := 0) (by decide)) (xk_0 ha1) (xg_0_5 ha1) dX5_fades_14 ?_
    refine j_iconst (v := 2) dX5_fades_17 (by decide) ?_
    obtain ⟨e2, e2h, h⟩ := h
    refine j_aaldJ (t := 7) (j := 2) rfl rfl rfl (x_lt ha1 (j := 6) (by decide)) (xk_6 ha1) (by unfold vp_in; decide) rfl e2h dX5_fades_18 ?_
    refine j_aload_n 0 rfl dX5_fades_19 ?_
    refine j_aload_n 1 rfl dX5_fades_20 ?_
    refine j_iload_n 2 rfl dX5_fades_21 ?_
    refine j_iload_n 3 rfl dX5_fades_22 ?_
    refine j_callV (b := a0) (As := [.ref a1, .int p2, .int p3]) (st := [.ref e2]) (C := RX5) (kc' := 0) (ks' := 0) (tX5_asks hf a0 ha0 a1 ha1 p2 p3 _ h) myX5_asks rfl q1246 q1248 qs40 (j_l2 hf.1 (t_lt hf ha0 (j := 0) (by decide))) (fun s9 H9 hK9 hR9 h69 => jIs_in hK9 hR9 h69 (t_lt hf ha0 (j := 0) (by decide)) (tk_0 hf ha0) rfl) rfl (Nat.le_of_ble_eq_true rfl) rfl (by decide) (Nat.le_refl 0) (Nat.le_refl 0) dX5_fades_23 (fun v9 u9 hq => ?_) (fun k9 u9 hq => by obtain ⟨_, e9, _⟩ := hq; cases e9)
    obtain ⟨A3, e9, rfl, h⟩ := hq
    obtain rfl := Sum.inl.inj e9
    show J Γ RX5 cX5_fades 4 (some .int) "fades" [] 503 0 0 26 [(0, .ref a0), (1, .ref a1), (2, .int p2), (3, .int p3)] [.ref (a0 + 21), .ref e2] (n, K, A3, Lg, G) P
    obtain ⟨b4, h⟩ := h
    obtain ⟨b5, h⟩ := h
    refine j_callV (b := e2) (As := [.ref (a0 + 21)]) (st := []) (C := RX11) (kc' := 0) (ks' := 0) (tX11_of hf e2 b4 b5 a0 ha0 _ h) myX11_of rfl q1255 q1256 q1257 (j_l2 hf.1 b4) (fun s9 H9 hK9 hR9 h69 => jIs_in hK9 hR9 h69 b4 b5 rfl) rfl (Nat.le_of_ble_eq_true rfl) rfl (by decide) (Nat.le_refl 0) (Nat.le_refl 0) dX5_fades_26 (fun v9 u9 hq => ?_) (fun k9 u9 hq => by obtain ⟨_, _, e9, _⟩ := hq; cases e9)
    obtain ⟨r6, A7, e9, rfl, h⟩ := hq
    obtain rfl := Sum.inl.inj e9
    show J Γ RX5 cX5_fades 4 (some .int) "fades" [] 503 0 0 29 [(0, .ref a0), (1, .ref a1), (2, .int p2), (3, .int p3)] [.int r6] (n, K, A7, Lg, G) P
    refine j_iconst (v := 0) dX5_fades_29 (by decide) ?_
    refine j_bipush (v := 99) dX5_fades_30 (by decide) ?_
    refine j_callSN (As := [.int r6, .int 0, .int 99]) (st := []) (kc' := 0) (ks' := 0) (host := "DogsHour") (tX0_within hf r6 0 99 _ h) myX0_within (by decide) q1277 rfl (Nat.le_of_ble_eq_true rfl) rfl (by decide) (Nat.le_refl 0) (Nat.le_refl 0) dX5_fades_32 (fun v9 u9 hq => ?_) (fun k9 u9 hq => by obtain ⟨_, e9, _⟩ := hq; cases e9)
    obtain ⟨r8, e9, rfl, h⟩ := hq
    obtain rfl := Sum.inl.inj e9
    show J Γ RX5 cX5_fades 4 (some .int) "fades" [] 503 0 0 35 [(0, .ref a0), (1, .ref a1), (2, .int p2), (3, .int p3)] [.int r8] (n, K, A7, Lg, G) P
    refine j_iret rfl ?_ dX5_fades_35
    rw [hP]
    exact ⟨r8, A7, rfl, rfl, h⟩
theorem myX5_dues : jY yX5_dues cX5_dues 4 (some .int) 2 := ⟨q1427, q132, by decide +kernel, by decide +kernel, by decide⟩
def fX5_dues_L23 (a0 : Nat) (a1 : Nat) (n : Nat) (K : Nat → pKd) (G : pG)  (Q : Int32 → pA → Prop) : Nat → Int32 → Int32 → pA → Prop
  | 0, _, _, _ => False
  | n9 + 1, l2, l3, A =>
    (if 9 ≤ l3 then fJ5_get (a1 + 2) n K A G l2 (fun r1 => (r1 < n) ∧ ((K r1 = .inl 15) ∧ (∀ A4 : pA, A4 = pup A (a0 + 22) 4 (A r1 2) → fJ5_get (a1 + 2) n K A4 G l2 (fun r5 => (r5 < n) ∧ ((K r5 = .inl 15) ∧ (∀ A8 : pA, A8 = pup A4 (a0 + 22) 5 (A4 r5 3) → fX5_minute a0 a1 A8 (fun r9 => ∀ A10 : pA, A10 = pup A8 (a0 + 22) 6 r9 → ∀ A11 : pA, A11 = pup A10 (a0 + 22) 7 l2 → (vp_in l2 5) ∧ (∀ A13 : pA, A13 = pup A11 (a0 + 22) 8 (A11 (a0 + 2) (l2).toNatClampNeg) → ∃ e14 : Nat, G (a1 + 6) 3 = .ref e14 ∧ ((e14 < n) ∧ ((K e14 = .inl 10) ∧ (fX11_of e14 a0 n K A13 G (fun r17 A18 => fX0_within A18 r17 0 99 (fun r19 => Q r19 A18))))))))))))) else (vp_in l3 9) ∧ (∀ A21 : pA, A21 = pup A (a0 + 22) (l3).toNatClampNeg 0 → fX5_dues_L23 a0 a1 n K G  Q n9 l2 (l3 + 1) A21))
theorem fX5_dues_L23_ok {Γ : jG} {n : Nat} {K : Nat → pKd} {G : pG} {Lg : pL} (hf : fOK n K G) (a0 : Nat) (ha0 : isT a0) (a1 : Nat) (ha1 : xOK n K G a1) (Q : Int32 → pA → Prop) (P : jO → pS → Prop) (hP : P = (fun o u => ∃ (r : Int32) (A' : pA), o = .inl (some (.int r)) ∧ u = (n, K, A', Lg, G) ∧ Q r A'))    : ∀ (n9 : Nat) (l2 : Int32) (l3 : Int32) (A : pA), fX5_dues_L23 a0 a1 n K G  Q n9 l2 l3 A → J Γ RX5 cX5_dues 4 (some .int) "dues" [] 503 0 0 23 [(0, .ref a0), (1, .ref a1), (2, .int l2), (3, .int l3)] [] (n, K, A, Lg, G) P := by
  intro n9
  induction n9 with
  | zero => intro l2 l3 A h; exact h.elim
  | succ n9 ih =>
    intro l2 l3 A h
    unfold fX5_dues_L23 at h
    refine j_iload_n 3 rfl dX5_dues_23 ?_
    refine j_bipush (v := 9) dX5_dues_24 (by decide) ?_
    refine j_icmp_ge (tgt := 45) dX5_dues_26 (by decide) (fun c => ?_) (fun c => ?_)
    · rw [if_pos c] at h
      refine j_aload_n 0 rfl dX5_dues_45 ?_
      refine j_getfr fl_X5_47_5 rfl (t_lt hf ha0 (j := 0) (by decide)) (tk_0 hf ha0) (tg_0_13 hf ha0) dX5_dues_46 ?_
      refine j_getfr fl_X5_105_6 rfl (t_lt hf ha0 (j := 21) (by decide)) (tk_21 hf ha0) (tg_21_0 hf ha0) dX5_dues_49 ?_
      refine j_iconst (v := 4) dX5_dues_52 (by decide) ?_
      refine j_aload_n 1 rfl dX5_dues_53 ?_
      refine j_getfr fl_X5_51_4 rfl (x_lt ha1 (j := 0) (by decide)) (xk_0 ha1) (xg_0_1 ha1) dX5_dues_54 ?_
      refine j_iload_n 2 rfl dX5_dues_57 ?_
      refine j_callV (b := (a1 + 2)) (As := [.int l2]) (st := [.int 4, .ref (a0 + 22)]) (C := RJ5) (kc' := 0) (ks' := 0) (tJ5_get hf (a1 + 2) (x_lt ha1 (j := 2) (by decide)) (xk_2 ha1) l2 _ h) myJ5_get rfl q539 q540 q541 (j_l2 hf.1 (x_lt ha1 (j := 2) (by decide))) (fun s9 H9 hK9 hR9 h69 => jIs_in hK9 hR9 h69 (x_lt ha1 (j := 2) (by decide)) (xk_2 ha1) rfl) rfl (Nat.le_of_ble_eq_true rfl) rfl (by decide) (Nat.le_refl 0) (Nat.le_refl 0) dX5_dues_58 (fun v9 u9 hq => ?_) (fun k9 u9 hq => by obtain ⟨_, e9, _⟩ := hq; cases e9)
      obtain ⟨r1, e9, rfl, h⟩ := hq
      obtain rfl := Sum.inl.inj e9
      show J Γ RX5 cX5_dues 4 (some .int) "dues" [] 503 0 0 61 [(0, .ref a0), (1, .ref a1), (2, .int l2), (3, .int l3)] [.ref r1, .int 4, .ref (a0 + 22)] (n, K, A, Lg, G) P
      obtain ⟨b2, h⟩ := h
      obtain ⟨b3, h⟩ := h
      refine j_cast (C := "DogsHour$Dog") q553 (j_l2 hf.1 b2) (fun s9 H9 hK9 hR9 h69 => jIs_in hK9 hR9 h69 b2 b3 rfl) (Or.inl rfl) dX5_dues_61 ?_
      refine j_getfi fl_X5_117_15 rfl b2 b3 dX5_dues_64 ?_
      refine j_iastJ (j := 4) (t_lt hf ha0 (j := 22) (by decide)) (tk_22 hf ha0) (by unfold vp_in; decide) rfl dX5_dues_67 (fun A4 eA4 => ?_)
      replace h := h A4 eA4
      refine j_aload_n 0 rfl dX5_dues_68 ?_
      refine j_getfr fl_X5_47_5 rfl (t_lt hf ha0 (j := 0) (by decide)) (tk_0 hf ha0) (tg_0_13 hf ha0) dX5_dues_69 ?_
      refine j_getfr fl_X5_105_6 rfl (t_lt hf ha0 (j := 21) (by decide)) (tk_21 hf ha0) (tg_21_0 hf ha0) dX5_dues_72 ?_
      refine j_iconst (v := 5) dX5_dues_75 (by decide) ?_
      refine j_aload_n 1 rfl dX5_dues_76 ?_
      refine j_getfr fl_X5_51_4 rfl (x_lt ha1 (j := 0) (by decide)) (xk_0 ha1) (xg_0_1 ha1) dX5_dues_77 ?_
      refine j_iload_n 2 rfl dX5_dues_80 ?_
      refine j_callV (b := (a1 + 2)) (As := [.int l2]) (st := [.int 5, .ref (a0 + 22)]) (C := RJ5) (kc' := 0) (ks' := 0) (tJ5_get hf (a1 + 2) (x_lt ha1 (j := 2) (by decide)) (xk_2 ha1) l2 _ h) myJ5_get rfl q539 q540 q541 (j_l2 hf.1 (x_lt ha1 (j := 2) (by decide))) (fun s9 H9 hK9 hR9 h69 => jIs_in hK9 hR9 h69 (x_lt ha1 (j := 2) (by decide)) (xk_2 ha1) rfl) rfl (Nat.le_of_ble_eq_true rfl) rfl (by decide) (Nat.le_refl 0) (Nat.le_refl 0) dX5_dues_81 (fun v9 u9 hq => ?_) (fun k9 u9 hq => by obtain ⟨_, e9, _⟩ := hq; cases e9)
      obtain ⟨r5, e9, rfl, h⟩ := hq
      obtain rfl := Sum.inl.inj e9
      show J Γ RX5 cX5_dues 4 (some .int) "dues" [] 503 0 0 84 [(0, .ref a0), (1, .ref a1), (2, .int l2), (3, .int l3)] [.ref r5, .int 5, .ref (a0 + 22)] (n, K, A4, Lg, G) P
      obtain ⟨b6, h⟩ := h
      obtain ⟨b7, h⟩ := h
      refine j_cast (C := "DogsHour$Dog") q553 (j_l2 hf.1 b6) (fun s9 H9 hK9 hR9 h69 => jIs_in hK9 hR9 h69 b6 b7 rfl) (Or.inl rfl) dX5_dues_84 ?_
      refine j_getfi fl_X5_120_15 rfl b6 b7 dX5_dues_87 ?_
      refine j_iastJ (j := 5) (t_lt hf ha0 (j := 22) (by decide)) (tk_22 hf ha0) (by unfold vp_in; decide) rfl dX5_dues_90 (fun A8 eA8 => ?_)
      replace h := h A8 eA8
      refine j_aload_n 0 rfl dX5_dues_91 ?_
      refine j_getfr fl_X5_47_5 rfl (t_lt hf ha0 (j := 0) (by decide)) (tk_0 hf ha0) (tg_0_13 hf ha0) dX5_dues_92 ?_
      refine j_getfr fl_X5_105_6 rfl (t_lt hf ha0 (j := 21) (by decide)) (tk_21 hf ha0) (tg_21_0 hf ha0) dX5_dues_95 ?_
      refine j_bipush (v := 6) dX5_dues_98 (by decide) ?_
      refine j_aload_n 0 rfl dX5_dues_100 ?_
      refine j_aload_n 1 rfl dX5_dues_101 ?_
      refine j_callV (b := a0) (As := [.ref a1]) (st := [.int 6, .ref (a0 + 22)]) (C := RX5) (kc' := 0) (ks' := 0) (tX5_minute hf a0 ha0 a1 ha1 _ h) myX5_minute rfl q1251 q1252 q1253 (j_l2 hf.1 (t_lt hf ha0 (j := 0) (by decide))) (fun s9 H9 hK9 hR9 h69 => jIs_in hK9 hR9 h69 (t_lt hf ha0 (j := 0) (by decide)) (tk_0 hf ha0) rfl) rfl (Nat.le_of_ble_eq_true rfl) rfl (by decide) (Nat.le_refl 0) (Nat.le_refl 0) dX5_dues_102 (fun v9 u9 hq => ?_) (fun k9 u9 hq => by obtain ⟨_, e9, _⟩ := hq; cases e9)
      obtain ⟨r9, e9, rfl, h⟩ := hq
      obtain rfl := Sum.inl.inj e9
      show J Γ RX5 cX5_dues 4 (some .int) "dues" [] 503 0 0 105 [(0, .ref a0), (1, .ref a1), (2, .int l2), (3, .int l3)] [.int r9, .int 6, .ref (a0 + 22)] (n, K, A8, Lg, G) P
      refine j_iastJ (j := 6) (t_lt hf ha0 (j := 22) (by decide)) (tk_22 hf ha0) (by unfold vp_in; decide) rfl dX5_dues_105 (fun A10 eA10 => ?_)
      replace h := h A10 eA10
      refine j_aload_n 0 rfl dX5_dues_106 ?_
      refine j_getfr fl_X5_47_5 rfl (t_lt hf ha0 (j := 0) (by decide)) (tk_0 hf ha0) (tg_0_13 hf ha0) dX5_dues_107 ?_
      refine j_getfr fl_X5_105_6 rfl (t_lt hf ha0 (j := 21) (by decide)) (tk_21 hf ha0) (tg_21_0 hf ha0) dX5_dues_110 ?_
      refine j_bipush (v := 7) dX5_dues_113 (by decide) ?_
      refine j_iload_n 2 rfl dX5_dues_115 ?_
      refine j_iastJ (j := 7) (t_lt hf ha0 (j := 22) (by decide)) (tk_22 hf ha0) (by unfold vp_in; decide) rfl dX5_dues_116 (fun A11 eA11 => ?_)
      replace h := h A11 eA11
      refine j_aload_n 0 rfl dX5_dues_117 ?_
      refine j_getfr fl_X5_47_5 rfl (t_lt hf ha0 (j := 0) (by decide)) (tk_0 hf ha0) (tg_0_13 hf ha0) dX5_dues_118 ?_
      refine j_getfr fl_X5_105_6 rfl (t_lt hf ha0 (j := 21) (by decide)) (tk_21 hf ha0) (tg_21_0 hf ha0) dX5_dues_121 ?_
      refine j_bipush (v := 8) dX5_dues_124 (by decide) ?_
      refine j_aload_n 0 rfl dX5_dues_126 ?_
      refine j_getfr fl_X5_15_5 rfl (t_lt hf ha0 (j := 0) (by decide)) (tk_0 hf ha0) (tg_0_1 hf ha0) dX5_dues_127 ?_
      refine j_iload_n 2 rfl dX5_dues_130 ?_
      obtain ⟨b12, h⟩ := h
      refine j_ialdJ (j := (l2).toNatClampNeg) (t_lt hf ha0 (j := 2) (by decide)) (tk_2 hf ha0) b12 rfl dX5_dues_131 ?_
      refine j_iastJ (j := 8) (t_lt hf ha0 (j := 22) (by decide)) (tk_22 hf ha0) (by unfold vp_in; decide) rfl dX5_dues_132 (fun A13 eA13 => ?_)
      replace h := h A13 eA13
      refine j_aload_n 1 rfl dX5_dues_133 ?_
      refine j_getfr fl_X5_127_4 rfl (x_lt ha1 (j := 0) (by decide)) (xk_0 ha1) (xg_0_5 ha1) dX5_dues_134 ?_
      refine j_iconst (v := 3) dX5_dues_137 (by decide) ?_
      obtain ⟨e14, e14h, h⟩ := h
      refine j_aaldJ (t := 7) (j := 3) rfl rfl rfl (x_lt ha1 (j := 6) (by decide)) (xk_6 ha1) (by unfold vp_in; decide) rfl e14h dX5_dues_138 ?_
      refine j_aload_n 0 rfl dX5_dues_139 ?_
      refine j_getfr fl_X5_47_5 rfl (t_lt hf ha0 (j := 0) (by decide)) (tk_0 hf ha0) (tg_0_13 hf ha0) dX5_dues_140 ?_
      obtain ⟨b15, h⟩ := h
      obtain ⟨b16, h⟩ := h
      refine j_callV (b := e14) (As := [.ref (a0 + 21)]) (st := []) (C := RX11) (kc' := 0) (ks' := 0) (tX11_of hf e14 b15 b16 a0 ha0 _ h) myX11_of rfl q1255 q1256 q1257 (j_l2 hf.1 b15) (fun s9 H9 hK9 hR9 h69 => jIs_in hK9 hR9 h69 b15 b16 rfl) rfl (Nat.le_of_ble_eq_true rfl) rfl (by decide) (Nat.le_refl 0) (Nat.le_refl 0) dX5_dues_143 (fun v9 u9 hq => ?_) (fun k9 u9 hq => by obtain ⟨_, _, e9, _⟩ := hq; cases e9)
      obtain ⟨r17, A18, e9, rfl, h⟩ := hq
      obtain rfl := Sum.inl.inj e9
      show J Γ RX5 cX5_dues 4 (some .int) "dues" [] 503 0 0 146 [(0, .ref a0), (1, .ref a1), (2, .int l2), (3, .int l3)] [.int r17] (n, K, A18, Lg, G) P
      refine j_iconst (v := 0) dX5_dues_146 (by decide) ?_
      refine j_bipush (v := 99) dX5_dues_147 (by decide) ?_
      refine j_callSN (As := [.int r17, .int 0, .int 99]) (st := []) (kc' := 0) (ks' := 0) (host := "DogsHour") (tX0_within hf r17 0 99 _ h) myX0_within (by decide) q1277 rfl (Nat.le_of_ble_eq_true rfl) rfl (by decide) (Nat.le_refl 0) (Nat.le_refl 0) dX5_dues_149 (fun v9 u9 hq => ?_) (fun k9 u9 hq => by obtain ⟨_, e9, _⟩ := hq; cases e9)
      obtain ⟨r19, e9, rfl, h⟩ := hq
      obtain rfl := Sum.inl.inj e9
      show J Γ RX5 cX5_dues 4 (some .int) "dues" [] 503 0 0 152 [(0, .ref a0), (1, .ref a1), (2, .int l2), (3, .int l3)] [.int r19] (n, K, A18, Lg, G) P
      refine j_iret rfl ?_ dX5_dues_152
      rw [hP]
      exact ⟨r19, A18, rfl, rfl, h⟩
    · rw [if_neg c] at h
      refine j_aload_n 0 rfl dX5_dues_29 ?_
      refine j_getfr fl_X5_47_5 rfl (t_lt hf ha0 (j := 0) (by decide)) (tk_0 hf ha0) (tg_0_13 hf ha0) dX5_dues_30 ?_
      refine j_getfr fl_X5_105_6 rfl (t_lt hf ha0 (j := 21) (by decide)) (tk_21 hf ha0) (tg_21_0 hf ha0) dX5_dues_33 ?_
      refine j_iload_n 3 rfl dX5_dues_36 ?_
      refine j_iconst (v := 0) dX5_dues_37 (by decide) ?_
      obtain ⟨b20, h⟩ := h
      refine j_iastJ (j := (l3).toNatClampNeg) (t_lt hf ha0 (j := 22) (by decide)) (tk_22 hf ha0) b20 rfl dX5_dues_38 (fun A21 eA21 => ?_)
      replace h := h A21 eA21
      refine j_iinc (v := l3 + 1) 3 rfl rfl (by decide) rfl dX5_dues_39 ?_
      refine j_goto (tgt := 23) dX5_dues_42 (by decide) ?_
      refine j_ls [1, 2, 3, 0] rfl ?_
      exact ih l2 (l3 + 1) A21 h
def fX5_dues (a0 : Nat) (a1 : Nat) (n : Nat) (K : Nat → pKd) (A : pA) (G : pG) (p2 : Int32) (Q : Int32 → pA → Prop) : Prop :=
    ((G (a1 + 6) 3 = .null ∧ ((vp_in p2 5) ∧ (Q (pmin 99 (A (a0 + 2) (p2).toNatClampNeg)) A))) ∨ (∃ x22 : Nat, G (a1 + 6) 3 = .ref x22 ∧ x22 < 2000000 ∧ (∃ m24, fX5_dues_L23 a0 a1 n K G  Q m24 p2 0 A)))
theorem tX5_dues {Γ : jG} {n : Nat} {K : Nat → pKd} {G : pG} {A : pA} {Lg : pL} (hf : fOK n K G) (a0 : Nat) (ha0 : isT a0) (a1 : Nat) (ha1 : xOK n K G a1) (p2 : Int32) (Q : Int32 → pA → Prop) (h : fX5_dues a0 a1 n K A G p2 Q) : jMet Γ yX5_dues cX5_dues 4 (some .int) [] 503 0 0 [.ref a0, .ref a1, .int p2] (n, K, A, Lg, G) (fun o u => ∃ (r : Int32) (A' : pA), o = .inl (some (.int r)) ∧ u = (n, K, A', Lg, G) ∧ Q r A') := by
  unfold fX5_dues at h
  obtain ⟨P, hP⟩ : ∃ P : jO → pS → Prop, P = (fun o u => ∃ (r : Int32) (A' : pA), o = .inl (some (.int r)) ∧ u = (n, K, A', Lg, G) ∧ Q r A') := ⟨_, rfl⟩
  rw [← hP]
  refine jMet_of rfl rfl rfl (Nat.le_of_ble_eq_true rfl) ?_
  show J Γ RX5 cX5_dues 4 (some .int) "dues" [] 503 0 0 0 [(0, .ref a0), (1, .ref a1), (2, .int p2)] [] (n, K, A, Lg, G) P
  refine j_aload_n 1 rfl dX5_dues_0 ?_
  refine j_getfr fl_X5_127_4 rfl (x_lt ha1 (j := 0) (by decide)) (xk_0 ha1) (xg_0_5 ha1) dX5_dues_1 ?_
  refine j_iconst (v := 3) dX5_dues_4 (by decide) ?_
  refine j_aaldJ (t := 7) (j := 3) rfl rfl rfl (x_lt ha1 (j := 6) (by decide)) (xk_6 ha1) (by unfold vp_in; decide) rfl rfl dX5_dues_5 ?_
  rcases h with ⟨c, h⟩ | ⟨x22, c, c2, h⟩
  · rw [c]
    refine j_ifnonnullN dX5_dues_6 ?_
    refine j_bipush (v := 99) dX5_dues_9 (by decide) ?_
    refine j_aload_n 0 rfl dX5_dues_11 ?_
    refine j_getfr fl_X5_15_5 rfl (t_lt hf ha0 (j := 0) (by decide)) (tk_0 hf ha0) (tg_0_1 hf ha0) dX5_dues_12 ?_
    refine j_iload_n 2 rfl dX5_dues_15 ?_
    obtain ⟨b23, h⟩ := h
    refine j_ialdJ (j := (p2).toNatClampNeg) (t_lt hf ha0 (j := 2) (by decide)) (tk_2 hf ha0) b23 rfl dX5_dues_16 ?_
    refine j_mmin q1250 q917 q153 q918 (Nat.le_of_ble_eq_true rfl) (by decide) dX5_dues_17 ?_
    refine j_iret rfl ?_ dX5_dues_20
    rw [hP]
    exact ⟨pmin 99 (A (a0 + 2) (p2).toNatClampNeg), A, rfl, rfl, h⟩
  · rw [c]
    refine j_ifnonnull (tgt := 21) c2 dX5_dues_6 (by decide) ?_
    refine j_iconst (v := 0) dX5_dues_21 (by decide) ?_
    refine j_istore_n (by decide) rfl dX5_dues_22 ?_
    refine j_ls [1, 2, 3, 0] rfl ?_
    obtain ⟨m24, h⟩ := h
    exact fX5_dues_L23_ok hf a0 ha0 a1 ha1 Q P hP   m24 p2 0 A h
theorem myX5_minds : jY yX5_minds cX5_minds 7 (some .int) 2 := ⟨q1355, q132, by decide +kernel, by decide +kernel, by decide⟩
def fX5_minds_J88 (a0 : Nat) (a1 : Nat) (n : Nat) (K : Nat → pKd) (G : pG) (k9 : Int32 → Int32 → Int32 → Int32 → pA → Prop) (Q : Int32 → pA → Prop) (l2 : Int32) (l3 : Int32) (l4 : Int32) (l5 : Int32) (A : pA) : Prop :=
    k9 l2 l3 l4 (l5 + 1) A
theorem fX5_minds_J88_ok {Γ : jG} {n : Nat} {K : Nat → pKd} {G : pG} {Lg : pL} (hf : fOK n K G) (a0 : Nat) (ha0 : isT a0) (a1 : Nat) (ha1 : xOK n K G a1) (Q : Int32 → pA → Prop) (P : jO → pS → Prop) (hP : P = (fun o u => ∃ (r : Int32) (A' : pA), o = .inl (some (.int r)) ∧ u = (n, K, A', Lg, G) ∧ Q r A')) (k9 : Int32 → Int32 → Int32 → Int32 → pA → Prop) (ok9 : ∀ (l2 : Int32) (l3 : Int32) (l4 : Int32) (l5 : Int32) (A : pA), k9 l2 l3 l4 l5 A → J Γ RX5 cX5_minds 7 (some .int) "minds" [] 504 0 0 9 [(0, .ref a0), (1, .ref a1), (2, .int l2), (3, .int l3), (4, .int l4), (5, .int l5)] [] (n, K, A, Lg, G) P) (l2 : Int32) (l3 : Int32) (l4 : Int32) (l5 : Int32) (A : pA) (h : fX5_minds_J88 a0 a1 n K G k9 Q l2 l3 l4 l5 A) : J Γ RX5 cX5_minds 7 (some .int) "minds" [] 504 0 0 88 [(0, .ref a0), (1, .ref a1), (2, .int l2), (3, .int l3), (4, .int l4), (5, .int l5)] [] (n, K, A, Lg, G) P := by
  unfold fX5_minds_J88 at h
  refine j_iinc (v := l5 + 1) 5 rfl rfl (by decide) rfl dX5_minds_88 ?_
  refine j_goto (tgt := 9) dX5_minds_91 (by decide) ?_
  refine j_ls [1, 2, 3, 4, 5, 0] rfl ?_
  exact ok9 l2 l3 l4 (l5 + 1) A h
def fX5_minds_J81 (a0 : Nat) (a1 : Nat) (n : Nat) (K : Nat → pKd) (G : pG) (k9 : Int32 → Int32 → Int32 → Int32 → pA → Prop) (Q : Int32 → pA → Prop) (l2 : Int32) (l5 : Int32) (l6 : Int32) (A : pA) : Prop :=
    fX5_minds_J88 a0 a1 n K G k9 Q l2 l5 l6 l5 A
theorem fX5_minds_J81_ok {Γ : jG} {n : Nat} {K : Nat → pKd} {G : pG} {Lg : pL} (hf : fOK n K G) (a0 : Nat) (ha0 : isT a0) (a1 : Nat) (ha1 : xOK n K G a1) (Q : Int32 → pA → Prop) (P : jO → pS → Prop) (hP : P = (fun o u => ∃ (r : Int32) (A' : pA), o = .inl (some (.int r)) ∧ u = (n, K, A', Lg, G) ∧ Q r A')) (k9 : Int32 → Int32 → Int32 → Int32 → pA → Prop) (ok9 : ∀ (l2 : Int32) (l3 : Int32) (l4 : Int32) (l5 : Int32) (A : pA), k9 l2 l3 l4 l5 A → J Γ RX5 cX5_minds 7 (some .int) "minds" [] 504 0 0 9 [(0, .ref a0), (1, .ref a1), (2, .int l2), (3, .int l3), (4, .int l4), (5, .int l5)] [] (n, K, A, Lg, G) P) (l2 : Int32) (l5 : Int32) (l6 : Int32) (A : pA) (h : fX5_minds_J81 a0 a1 n K G k9 Q l2 l5 l6 A) : J Γ RX5 cX5_minds 7 (some .int) "minds" [] 504 0 0 81 [(0, .ref a0), (1, .ref a1), (2, .int l2), (5, .int l5), (6, .int l6)] [] (n, K, A, Lg, G) P := by
  unfold fX5_minds_J81 at h
  refine j_iload 3 rfl dX5_minds_81 ?_
  refine j_istore_n (by decide) rfl dX5_minds_83 ?_
  refine j_iload 5 rfl dX5_minds_84 ?_
  refine j_istore (by decide) rfl dX5_minds_86 ?_
  refine j_ls [2, 3, 4, 1, 0, 5] rfl ?_
  exact fX5_minds_J88_ok hf a0 ha0 a1 ha1 Q P hP k9 ok9 l2 l5 l6 l5 A h
def fX5_minds_L9 (a0 : Nat) (a1 : Nat) (n : Nat) (K : Nat → pKd) (G : pG)  (Q : Int32 → pA → Prop) : Nat → Int32 → Int32 → Int32 → Int32 → pA → Prop
  | 0, _, _, _, _, _ => False
  | n9 + 1, l2, l3, l4, l5, A =>
    fJ5_size (a1 + 3) A (fun r1 => (if r1 ≤ l5 then Q l3 A else fX5_isFetched a0 A l5 (fun r2 => (if r2 = 0 then (vp_in l2 5) ∧ ((vp_in (A (a0 + 1) (l2).toNatClampNeg) 7) ∧ ((vp_in l5 4) ∧ ((vp_in (A (a0 + 4) (l5).toNatClampNeg) 7) ∧ ((if (A (a1 + 8 + (A (a0 + 1) (l2).toNatClampNeg).toNatClampNeg) (A (a0 + 4) (l5).toNatClampNeg).toNatClampNeg) < 1000000 then fX5_wants a0 a1 n K A G l2 l5 (fun r7 A8 => (if l3 < 0 then fX5_minds_J81 a0 a1 n K G (fun x0 x1 x2 x3 x4 => fX5_minds_L9 a0 a1 n K G  Q n9 x0 x1 x2 x3 x4) Q l2 l5 r7 A8 else (if l4 < r7 then fX5_minds_J81 a0 a1 n K G (fun x0 x1 x2 x3 x4 => fX5_minds_L9 a0 a1 n K G  Q n9 x0 x1 x2 x3 x4) Q l2 l5 r7 A8 else fX5_minds_J88 a0 a1 n K G (fun x0 x1 x2 x3 x4 => fX5_minds_L9 a0 a1 n K G  Q n9 x0 x1 x2 x3 x4) Q l2 l3 l4 l5 A8))) else fX5_minds_J88 a0 a1 n K G (fun x0 x1 x2 x3 x4 => fX5_minds_L9 a0 a1 n K G  Q n9 x0 x1 x2 x3 x4) Q l2 l3 l4 l5 A))))) else fX5_minds_J88 a0 a1 n K G (fun x0 x1 x2 x3 x4 => fX5_minds_L9 a0 a1 n K G  Q n9 x0 x1 x2 x3 x4) Q l2 l3 l4 l5 A))))
theorem fX5_minds_L9_ok {Γ : jG} {n : Nat} {K : Nat → pKd} {G : pG} {Lg : pL} (hf : fOK n K G) (a0 : Nat) (ha0 : isT a0) (a1 : Nat) (ha1 : xOK n K G a1) (Q : Int32 → pA → Prop) (P : jO → pS → Prop) (hP : P = (fun o u => ∃ (r : Int32) (A' : pA), o = .inl (some (.int r)) ∧ u = (n, K, A', Lg, G) ∧ Q r A'))    : ∀ (n9 : Nat) (l2 : Int32) (l3 : Int32) (l4 : Int32) (l5 : Int32) (A : pA), fX5_minds_L9 a0 a1 n K G  Q n9 l2 l3 l4 l5 A → J Γ RX5 cX5_minds 7 (some .int) "minds" [] 504 0 0 9 [(0, .ref a0), (1, .ref a1), (2, .int l2), (3, .int l3), (4, .int l4), (5, .int l5)] [] (n, K, A, Lg, G) P := by
  intro n9
  induction n9 with
  | zero => intro l2 l3 l4 l5 A h; exact h.elim
  | succ n9 ih =>
    intro l2 l3 l4 l5 A h
    unfold fX5_minds_L9 at h
    refine j_iload 5 rfl dX5_minds_9 ?_
    refine j_aload_n 1 rfl dX5_minds_11 ?_
    refine j_getfr fl_X5_73_4 rfl (x_lt ha1 (j := 0) (by decide)) (xk_0 ha1) (xg_0_2 ha1) dX5_minds_12 ?_
    refine j_callV (b := (a1 + 3)) (As := []) (st := [.int l5]) (C := RJ5) (kc' := 0) (ks' := 0) (tJ5_size hf (a1 + 3) (x_lt ha1 (j := 3) (by decide)) (xk_3 ha1) _ h) myJ5_size rfl q535 q536 q537 (j_l2 hf.1 (x_lt ha1 (j := 3) (by decide))) (fun s9 H9 hK9 hR9 h69 => jIs_in hK9 hR9 h69 (x_lt ha1 (j := 3) (by decide)) (xk_3 ha1) rfl) rfl (Nat.le_of_ble_eq_true rfl) rfl (by decide) (Nat.le_refl 0) (Nat.le_refl 0) dX5_minds_15 (fun v9 u9 hq => ?_) (fun k9 u9 hq => by obtain ⟨_, e9, _⟩ := hq; cases e9)
    obtain ⟨r1, e9, rfl, h⟩ := hq
    obtain rfl := Sum.inl.inj e9
    show J Γ RX5 cX5_minds 7 (some .int) "minds" [] 504 0 0 18 [(0, .ref a0), (1, .ref a1), (2, .int l2), (3, .int l3), (4, .int l4), (5, .int l5)] [.int r1, .int l5] (n, K, A, Lg, G) P
    refine j_icmp_ge (tgt := 94) dX5_minds_18 (by decide) (fun c => ?_) (fun c => ?_)
    · rw [if_pos c] at h
      refine j_iload_n 3 rfl dX5_minds_94 ?_
      refine j_iret rfl ?_ dX5_minds_95
      rw [hP]
      exact ⟨l3, A, rfl, rfl, h⟩
    · rw [if_neg c] at h
      refine j_aload_n 0 rfl dX5_minds_21 ?_
      refine j_iload 5 rfl dX5_minds_22 ?_
      refine j_callV (b := a0) (As := [.int l5]) (st := []) (C := RX5) (kc' := 0) (ks' := 0) (tX5_isFetched hf a0 ha0 l5 _ h) myX5_isFetched rfl q1328 q1230 q1231 (j_l2 hf.1 (t_lt hf ha0 (j := 0) (by decide))) (fun s9 H9 hK9 hR9 h69 => jIs_in hK9 hR9 h69 (t_lt hf ha0 (j := 0) (by decide)) (tk_0 hf ha0) rfl) rfl (Nat.le_of_ble_eq_true rfl) rfl (by decide) (Nat.le_refl 0) (Nat.le_refl 0) dX5_minds_24 (fun v9 u9 hq => ?_) (fun k9 u9 hq => by obtain ⟨_, e9, _⟩ := hq; cases e9)
      obtain ⟨r2, e9, rfl, h⟩ := hq
      obtain rfl := Sum.inl.inj e9
      show J Γ RX5 cX5_minds 7 (some .int) "minds" [] 504 0 0 27 [(0, .ref a0), (1, .ref a1), (2, .int l2), (3, .int l3), (4, .int l4), (5, .int l5)] [.int r2] (n, K, A, Lg, G) P
      refine j_if_ne (tgt := 88) dX5_minds_27 (by decide) (fun c => ?_) (fun c => ?_)
      · rw [if_neg c] at h
        exact fX5_minds_J88_ok hf a0 ha0 a1 ha1 Q P hP (fun x0 x1 x2 x3 x4 => fX5_minds_L9 a0 a1 n K G  Q n9 x0 x1 x2 x3 x4) (fun x0 x1 x2 x3 x4 h9 => ih x0 x1 x2 x3 x4 h9) l2 l3 l4 l5 A h
      · rw [if_pos c] at h
        refine j_aload_n 1 rfl dX5_minds_30 ?_
        refine j_getfr fl_X5_108_4 rfl (x_lt ha1 (j := 0) (by decide)) (xk_0 ha1) (xg_0_6 ha1) dX5_minds_31 ?_
        refine j_aload_n 0 rfl dX5_minds_34 ?_
        refine j_getfr fl_X5_9_5 rfl (t_lt hf ha0 (j := 0) (by decide)) (tk_0 hf ha0) (tg_0_0 hf ha0) dX5_minds_35 ?_
        refine j_iload_n 2 rfl dX5_minds_38 ?_
        obtain ⟨b3, h⟩ := h
        refine j_ialdJ (j := (l2).toNatClampNeg) (t_lt hf ha0 (j := 1) (by decide)) (tk_1 hf ha0) b3 rfl dX5_minds_39 ?_
        obtain ⟨b4, h⟩ := h
        refine j_aaldJ (t := 11) (j := (A (a0 + 1) (l2).toNatClampNeg).toNatClampNeg) rfl rfl rfl (x_lt ha1 (j := 7) (by decide)) (xk_7 ha1) b4 rfl (x_row ha1 (j_ix b4)).1 dX5_minds_40 ?_
        refine j_aload_n 0 rfl dX5_minds_41 ?_
        refine j_getfr fl_X5_21_5 rfl (t_lt hf ha0 (j := 0) (by decide)) (tk_0 hf ha0) (tg_0_3 hf ha0) dX5_minds_42 ?_
        refine j_iload 5 rfl dX5_minds_45 ?_
        obtain ⟨b5, h⟩ := h
        refine j_ialdJ (j := (l5).toNatClampNeg) (t_lt hf ha0 (j := 4) (by decide)) (tk_4 hf ha0) b5 rfl dX5_minds_47 ?_
        obtain ⟨b6, h⟩ := h
        refine j_ialdJ (j := (A (a0 + 4) (l5).toNatClampNeg).toNatClampNeg) (x_rowlt ha1 (j_ix b4)) (x_row ha1 (j_ix b4)).2 b6 rfl dX5_minds_48 ?_
        refine j_ldc (v := 1000000) q1356 dX5_minds_49 ?_
        refine j_icmp_lt (tgt := 57) dX5_minds_51 (by decide) (fun c => ?_) (fun c => ?_)
        · rw [if_pos c] at h
          refine j_aload_n 0 rfl dX5_minds_57 ?_
          refine j_aload_n 1 rfl dX5_minds_58 ?_
          refine j_iload_n 2 rfl dX5_minds_59 ?_
          refine j_iload 5 rfl dX5_minds_60 ?_
          refine j_callV (b := a0) (As := [.ref a1, .int l2, .int l5]) (st := []) (C := RX5) (kc' := 0) (ks' := 0) (tX5_wants hf a0 ha0 a1 ha1 l2 l5 _ h) myX5_wants rfl q1357 q1243 q1244 (j_l2 hf.1 (t_lt hf ha0 (j := 0) (by decide))) (fun s9 H9 hK9 hR9 h69 => jIs_in hK9 hR9 h69 (t_lt hf ha0 (j := 0) (by decide)) (tk_0 hf ha0) rfl) rfl (Nat.le_of_ble_eq_true rfl) rfl (by decide) (Nat.le_refl 0) (Nat.le_refl 0) dX5_minds_62 (fun v9 u9 hq => ?_) (fun k9 u9 hq => by obtain ⟨_, _, e9, _⟩ := hq; cases e9)
          obtain ⟨r7, A8, e9, rfl, h⟩ := hq
          obtain rfl := Sum.inl.inj e9
          show J Γ RX5 cX5_minds 7 (some .int) "minds" [] 504 0 0 65 [(0, .ref a0), (1, .ref a1), (2, .int l2), (3, .int l3), (4, .int l4), (5, .int l5)] [.int r7] (n, K, A8, Lg, G) P
          refine j_istore (by decide) rfl dX5_minds_65 ?_
          refine j_iload_n 4 rfl dX5_minds_67 ?_
          refine j_if_lt (tgt := 81) dX5_minds_68 (by decide) (fun c => ?_) (fun c => ?_)
          · rw [if_pos c] at h
            refine j_ls [1, 2, 3, 6, 0] rfl ?_
            exact fX5_minds_J81_ok hf a0 ha0 a1 ha1 Q P hP (fun x0 x1 x2 x3 x4 => fX5_minds_L9 a0 a1 n K G  Q n9 x0 x1 x2 x3 x4) (fun x0 x1 x2 x3 x4 h9 => ih x0 x1 x2 x3 x4 h9) l2 l5 r7 A8 h
          · rw [if_neg c] at h
            refine j_iload 0 rfl dX5_minds_71 ?_
            refine j_iload 5 rfl dX5_minds_73 ?_
            refine j_icmp_gt (tgt := 81) dX5_minds_75 (by decide) (fun c => ?_) (fun c => ?_)
            · rw [if_pos c] at h
              refine j_ls [1, 2, 3, 6, 0] rfl ?_
              exact fX5_minds_J81_ok hf a0 ha0 a1 ha1 Q P hP (fun x0 x1 x2 x3 x4 => fX5_minds_L9 a0 a1 n K G  Q n9 x0 x1 x2 x3 x4) (fun x0 x1 x2 x3 x4 h9 => ih x0 x1 x2 x3 x4 h9) l2 l5 r7 A8 h
            · rw [if_neg c] at h
              refine j_goto (tgt := 88) dX5_minds_78 (by decide) ?_
              refine j_ls [1, 2, 3, 4, 5, 6] rfl ?_
              exact fX5_minds_J88_ok hf a0 ha0 a1 ha1 Q P hP (fun x0 x1 x2 x3 x4 => fX5_minds_L9 a0 a1 n K G  Q n9 x0 x1 x2 x3 x4) (fun x0 x1 x2 x3 x4 h9 => ih x0 x1 x2 x3 x4 h9) l2 l3 l4 l5 A8 h
        · rw [if_neg c] at h
          refine j_goto (tgt := 88) dX5_minds_54 (by decide) ?_
          exact fX5_minds_J88_ok hf a0 ha0 a1 ha1 Q P hP (fun x0 x1 x2 x3 x4 => fX5_minds_L9 a0 a1 n K G  Q n9 x0 x1 x2 x3 x4) (fun x0 x1 x2 x3 x4 h9 => ih x0 x1 x2 x3 x4 h9) l2 l3 l4 l5 A h
def fX5_minds (a0 : Nat) (a1 : Nat) (n : Nat) (K : Nat → pKd) (A : pA) (G : pG) (p2 : Int32) (Q : Int32 → pA → Prop) : Prop :=
    ∃ m9, fX5_minds_L9 a0 a1 n K G  Q m9 p2 (-2) 0 0 A
theorem tX5_minds {Γ : jG} {n : Nat} {K : Nat → pKd} {G : pG} {A : pA} {Lg : pL} (hf : fOK n K G) (a0 : Nat) (ha0 : isT a0) (a1 : Nat) (ha1 : xOK n K G a1) (p2 : Int32) (Q : Int32 → pA → Prop) (h : fX5_minds a0 a1 n K A G p2 Q) : jMet Γ yX5_minds cX5_minds 7 (some .int) [] 504 0 0 [.ref a0, .ref a1, .int p2] (n, K, A, Lg, G) (fun o u => ∃ (r : Int32) (A' : pA), o = .inl (some (.int r)) ∧ u = (n, K, A', Lg, G) ∧ Q r A') := by
  unfold fX5_minds at h
  obtain ⟨P, hP⟩ : ∃ P : jO → pS → Prop, P = (fun o u => ∃ (r : Int32) (A' : pA), o = .inl (some (.int r)) ∧ u = (n, K, A', Lg, G) ∧ Q r A') := ⟨_, rfl⟩
  rw [← hP]
  refine jMet_of rfl rfl rfl (Nat.le_of_ble_eq_true rfl) ?_
  show J Γ RX5 cX5_minds 7 (some .int) "minds" [] 504 0 0 0 [(0, .ref a0), (1, .ref a1), (2, .int p2)] [] (n, K, A, Lg, G) P
  refine j_bipush (v := (-2)) dX5_minds_0 (by decide) ?_
  refine j_istore_n (by decide) rfl dX5_minds_2 ?_
  refine j_iconst (v := 0) dX5_minds_3 (by decide) ?_
  refine j_istore (by decide) rfl dX5_minds_4 ?_
  refine j_iconst (v := 0) dX5_minds_6 (by decide) ?_
  refine j_istore (by decide) rfl dX5_minds_7 ?_
  refine j_ls [3, 4, 5, 2, 1, 0] rfl ?_
  obtain ⟨m9, h⟩ := h
  exact fX5_minds_L9_ok hf a0 ha0 a1 ha1 Q P hP   m9 p2 (-2) 0 0 A h
theorem myX5_hunts : jY yX5_hunts cX5_hunts 5 none 2 := ⟨q1351, q132, by decide +kernel, by decide +kernel, by decide⟩
def fX5_hunts (a0 : Nat) (a1 : Nat) (n : Nat) (K : Nat → pKd) (A : pA) (G : pG) (p2 : Int32) (Q : pA → Prop) : Prop :=
    fX5_minds a0 a1 n K A G p2 (fun r1 A2 => (if 0 ≤ r1 then (vp_in p2 5) ∧ ((vp_in r1 4) ∧ ((if (A2 (a0 + 1) (p2).toNatClampNeg) = (A2 (a0 + 4) (r1).toNatClampNeg) then (vp_in p2 5) ∧ ((vp_in r1 4) ∧ ((vp_in p2 5) ∧ ((vp_in r1 4) ∧ ((if (A2 (a0 + 15 + (p2).toNatClampNeg) (r1).toNatClampNeg) ≤ (A2 (a0 + 9 + (p2).toNatClampNeg) (r1).toNatClampNeg) then fX5_takesOf a0 a1 n K A2 G p2 r1 (fun r9 A10 => (vp_in r1 4) ∧ ((vp_in r1 4) ∧ (∀ A13 : pA, A13 = pup A10 (a0 + 6) (r1).toNatClampNeg ((A10 (a0 + 6) (r1).toNatClampNeg) - r9) → (vp_in p2 5) ∧ ((vp_in p2 5) ∧ (∀ A16 : pA, A16 = pup A13 (a0 + 2) (p2).toNatClampNeg ((A13 (a0 + 2) (p2).toNatClampNeg) + r9) → (vp_in p2 5) ∧ ((vp_in p2 5) ∧ (∀ A19 : pA, A19 = pup A16 (a0 + 3) (p2).toNatClampNeg ((A16 (a0 + 3) (p2).toNatClampNeg) + r9) → Q A19))))))) else ∀ A20 : pA, A20 = pup A2 a0 9 ((A2 a0 9) ||| ((1 : Int32) <<< (r1 &&& 31))) → (vp_in r1 4) ∧ ((vp_in r1 4) ∧ (∀ A23 : pA, A23 = pup A20 (a0 + 7) (r1).toNatClampNeg ((A20 (a0 + 7) (r1).toNatClampNeg) + 1) → (vp_in r1 4) ∧ (∀ A25 : pA, A25 = pup A23 (a0 + 4) (r1).toNatClampNeg 0 → (vp_in r1 4) ∧ (∀ A27 : pA, A27 = pup A25 (a0 + 5) (r1).toNatClampNeg (-2) → Q A27))))))))) else (vp_in p2 5) ∧ ((vp_in r1 4) ∧ (fX4_step a1 n K A2 G (A2 (a0 + 1) (p2).toNatClampNeg) (A2 (a0 + 4) (r1).toNatClampNeg) (fun r30 => (vp_in p2 5) ∧ (∀ A32 : pA, A32 = pup A2 (a0 + 1) (p2).toNatClampNeg r30 → Q A32))))))) else Q A2))
theorem tX5_hunts {Γ : jG} {n : Nat} {K : Nat → pKd} {G : pG} {A : pA} {Lg : pL} (hf : fOK n K G) (a0 : Nat) (ha0 : isT a0) (a1 : Nat) (ha1 : xOK n K G a1) (p2 : Int32) (Q : pA → Prop) (h : fX5_hunts a0 a1 n K A G p2 Q) : jMet Γ yX5_hunts cX5_hunts 5 none [] 505 0 0 [.ref a0, .ref a1, .int p2] (n, K, A, Lg, G) (fun o u => ∃ (A' : pA), o = .inl none ∧ u = (n, K, A', Lg, G) ∧ Q A') := by
  unfold fX5_hunts at h
  obtain ⟨P, hP⟩ : ∃ P : jO → pS → Prop, P = (fun o u => ∃ (A' : pA), o = .inl none ∧ u = (n, K, A', Lg, G) ∧ Q A') := ⟨_, rfl⟩
  rw [← hP]
  refine jMet_of rfl rfl rfl (Nat.le_of_ble_eq_true rfl) ?_
  show J Γ RX5 cX5_hunts 5 none "hunts" [] 505 0 0 0 [(0, .ref a0), (1, .ref a1), (2, .int p2)] [] (n, K, A, Lg, G) P
  refine j_aload_n 0 rfl dX5_hunts_0 ?_
  refine j_aload_n 1 rfl dX5_hunts_1 ?_
  refine j_iload_n 2 rfl dX5_hunts_2 ?_
  refine j_callV (b := a0) (As := [.ref a1, .int p2]) (st := []) (C := RX5) (kc' := 0) (ks' := 0) (tX5_minds hf a0 ha0 a1 ha1 p2 _ h) myX5_minds rfl q1352 q1353 q1354 (j_l2 hf.1 (t_lt hf ha0 (j := 0) (by decide))) (fun s9 H9 hK9 hR9 h69 => jIs_in hK9 hR9 h69 (t_lt hf ha0 (j := 0) (by decide)) (tk_0 hf ha0) rfl) rfl (Nat.le_of_ble_eq_true rfl) rfl (by decide) (Nat.le_refl 0) (Nat.le_refl 0) dX5_hunts_3 (fun v9 u9 hq => ?_) (fun k9 u9 hq => by obtain ⟨_, _, e9, _⟩ := hq; cases e9)
  obtain ⟨r1, A2, e9, rfl, h⟩ := hq
  obtain rfl := Sum.inl.inj e9
  show J Γ RX5 cX5_hunts 5 none "hunts" [] 505 0 0 6 [(0, .ref a0), (1, .ref a1), (2, .int p2)] [.int r1] (n, K, A2, Lg, G) P
  refine j_istore_n (by decide) rfl dX5_hunts_6 ?_
  refine j_iload_n 0 rfl dX5_hunts_7 ?_
  refine j_if_ge (tgt := 12) dX5_hunts_8 (by decide) (fun c => ?_) (fun c => ?_)
  · rw [if_pos c] at h
    refine j_aload_n 1 rfl dX5_hunts_12 ?_
    refine j_getfr fl_X5_9_5 rfl (t_lt hf ha0 (j := 0) (by decide)) (tk_0 hf ha0) (tg_0_0 hf ha0) dX5_hunts_13 ?_
    refine j_iload_n 3 rfl dX5_hunts_16 ?_
    obtain ⟨b3, h⟩ := h
    refine j_ialdJ (j := (p2).toNatClampNeg) (t_lt hf ha0 (j := 1) (by decide)) (tk_1 hf ha0) b3 rfl dX5_hunts_17 ?_
    refine j_aload_n 1 rfl dX5_hunts_18 ?_
    refine j_getfr fl_X5_21_5 rfl (t_lt hf ha0 (j := 0) (by decide)) (tk_0 hf ha0) (tg_0_3 hf ha0) dX5_hunts_19 ?_
    refine j_iload_n 0 rfl dX5_hunts_22 ?_
    obtain ⟨b4, h⟩ := h
    refine j_ialdJ (j := (r1).toNatClampNeg) (t_lt hf ha0 (j := 4) (by decide)) (tk_4 hf ha0) b4 rfl dX5_hunts_23 ?_
    refine j_icmp_eq (tgt := 50) dX5_hunts_24 (by decide) (fun c => ?_) (fun c => ?_)
    · rw [if_pos c] at h
      refine j_aload_n 1 rfl dX5_hunts_50 ?_
      refine j_getfr fl_X5_38_5 rfl (t_lt hf ha0 (j := 0) (by decide)) (tk_0 hf ha0) (tg_0_8 hf ha0) dX5_hunts_51 ?_
      refine j_iload_n 3 rfl dX5_hunts_54 ?_
      obtain ⟨b5, h⟩ := h
      refine j_aaldJ (t := 11) (j := (p2).toNatClampNeg) rfl rfl rfl (t_lt hf ha0 (j := 14) (by decide)) (tk_14 hf ha0) b5 rfl (t_row14 hf ha0 (j_ix b5)).1 dX5_hunts_55 ?_
      refine j_iload_n 0 rfl dX5_hunts_56 ?_
      obtain ⟨b6, h⟩ := h
      refine j_ialdJ (j := (r1).toNatClampNeg) (t_rowlt14 hf ha0 (j_ix b5)) (t_row14 hf ha0 (j_ix b5)).2 b6 rfl dX5_hunts_57 ?_
      refine j_aload_n 1 rfl dX5_hunts_58 ?_
      refine j_getfr fl_X5_35_5 rfl (t_lt hf ha0 (j := 0) (by decide)) (tk_0 hf ha0) (tg_0_7 hf ha0) dX5_hunts_59 ?_
      refine j_iload_n 3 rfl dX5_hunts_62 ?_
      obtain ⟨b7, h⟩ := h
      refine j_aaldJ (t := 11) (j := (p2).toNatClampNeg) rfl rfl rfl (t_lt hf ha0 (j := 8) (by decide)) (tk_8 hf ha0) b7 rfl (t_row8 hf ha0 (j_ix b7)).1 dX5_hunts_63 ?_
      refine j_iload_n 0 rfl dX5_hunts_64 ?_
      obtain ⟨b8, h⟩ := h
      refine j_ialdJ (j := (r1).toNatClampNeg) (t_rowlt8 hf ha0 (j_ix b7)) (t_row8 hf ha0 (j_ix b7)).2 b8 rfl dX5_hunts_65 ?_
      refine j_icmp_le (tgt := 107) dX5_hunts_66 (by decide) (fun c => ?_) (fun c => ?_)
      · rw [if_pos c] at h
        refine j_aload_n 1 rfl dX5_hunts_107 ?_
        refine j_aload_n 2 rfl dX5_hunts_108 ?_
        refine j_iload_n 3 rfl dX5_hunts_109 ?_
        refine j_iload_n 0 rfl dX5_hunts_110 ?_
        refine j_callV (b := a0) (As := [.ref a1, .int p2, .int r1]) (st := []) (C := RX5) (kc' := 0) (ks' := 0) (tX5_takesOf hf a0 ha0 a1 ha1 p2 r1 _ h) myX5_takesOf rfl q1358 q1273 q1274 (j_l2 hf.1 (t_lt hf ha0 (j := 0) (by decide))) (fun s9 H9 hK9 hR9 h69 => jIs_in hK9 hR9 h69 (t_lt hf ha0 (j := 0) (by decide)) (tk_0 hf ha0) rfl) rfl (Nat.le_of_ble_eq_true rfl) rfl (by decide) (Nat.le_refl 0) (Nat.le_refl 0) dX5_hunts_111 (fun v9 u9 hq => ?_) (fun k9 u9 hq => by obtain ⟨_, _, e9, _⟩ := hq; cases e9)
        obtain ⟨r9, A10, e9, rfl, h⟩ := hq
        obtain rfl := Sum.inl.inj e9
        show J Γ RX5 cX5_hunts 5 none "hunts" [] 505 0 0 114 [(3, .int r1), (0, .ref a0), (1, .ref a1), (2, .int p2)] [.int r9] (n, K, A10, Lg, G) P
        refine j_istore (by decide) rfl dX5_hunts_114 ?_
        refine j_aload_n 2 rfl dX5_hunts_116 ?_
        refine j_getfr fl_X5_27_5 rfl (t_lt hf ha0 (j := 0) (by decide)) (tk_0 hf ha0) (tg_0_5 hf ha0) dX5_hunts_117 ?_
        refine j_iload_n 1 rfl dX5_hunts_120 ?_
        refine j_dup2 rfl rfl dX5_hunts_121 ?_
        obtain ⟨b11, h⟩ := h
        refine j_ialdJ (j := (r1).toNatClampNeg) (t_lt hf ha0 (j := 6) (by decide)) (tk_6 hf ha0) b11 rfl dX5_hunts_122 ?_
        refine j_iload 0 rfl dX5_hunts_123 ?_
        refine j_isub dX5_hunts_125 ?_
        obtain ⟨b12, h⟩ := h
        refine j_iastJ (j := (r1).toNatClampNeg) (t_lt hf ha0 (j := 6) (by decide)) (tk_6 hf ha0) b12 rfl dX5_hunts_126 (fun A13 eA13 => ?_)
        replace h := h A13 eA13
        refine j_aload_n 2 rfl dX5_hunts_127 ?_
        refine j_getfr fl_X5_15_5 rfl (t_lt hf ha0 (j := 0) (by decide)) (tk_0 hf ha0) (tg_0_1 hf ha0) dX5_hunts_128 ?_
        refine j_iload_n 4 rfl dX5_hunts_131 ?_
        refine j_dup2 rfl rfl dX5_hunts_132 ?_
        obtain ⟨b14, h⟩ := h
        refine j_ialdJ (j := (p2).toNatClampNeg) (t_lt hf ha0 (j := 2) (by decide)) (tk_2 hf ha0) b14 rfl dX5_hunts_133 ?_
        refine j_iload 0 rfl dX5_hunts_134 ?_
        refine j_iadd dX5_hunts_136 ?_
        obtain ⟨b15, h⟩ := h
        refine j_iastJ (j := (p2).toNatClampNeg) (t_lt hf ha0 (j := 2) (by decide)) (tk_2 hf ha0) b15 rfl dX5_hunts_137 (fun A16 eA16 => ?_)
        replace h := h A16 eA16
        refine j_aload_n 2 rfl dX5_hunts_138 ?_
        refine j_getfr fl_X5_18_5 rfl (t_lt hf ha0 (j := 0) (by decide)) (tk_0 hf ha0) (tg_0_2 hf ha0) dX5_hunts_139 ?_
        refine j_iload_n 4 rfl dX5_hunts_142 ?_
        refine j_dup2 rfl rfl dX5_hunts_143 ?_
        obtain ⟨b17, h⟩ := h
        refine j_ialdJ (j := (p2).toNatClampNeg) (t_lt hf ha0 (j := 3) (by decide)) (tk_3 hf ha0) b17 rfl dX5_hunts_144 ?_
        refine j_iload 0 rfl dX5_hunts_145 ?_
        refine j_iadd dX5_hunts_147 ?_
        obtain ⟨b18, h⟩ := h
        refine j_iastJ (j := (p2).toNatClampNeg) (t_lt hf ha0 (j := 3) (by decide)) (tk_3 hf ha0) b18 rfl dX5_hunts_148 (fun A19 eA19 => ?_)
        replace h := h A19 eA19
        refine j_vret rfl ?_ dX5_hunts_149
        rw [hP]
        exact ⟨A19, rfl, rfl, h⟩
      · rw [if_neg c] at h
        refine j_aload_n 1 rfl dX5_hunts_69 ?_
        refine j_dup rfl dX5_hunts_70 ?_
        refine j_getfi fl_X5_83_5 rfl (t_lt hf ha0 (j := 0) (by decide)) (tk_0 hf ha0) dX5_hunts_71 ?_
        refine j_iconst (v := 1) dX5_hunts_74 (by decide) ?_
        refine j_iload_n 0 rfl dX5_hunts_75 ?_
        refine j_ishl dX5_hunts_76 ?_
        refine j_ior dX5_hunts_77 ?_
        refine j_putfiE (fp_X5_83_5 _) rfl rfl rfl (t_lt hf ha0 (j := 0) (by decide)) (tk_0 hf ha0) dX5_hunts_78 (fun A20 eA20 => ?_)
        replace h := h A20 eA20
        refine j_aload_n 1 rfl dX5_hunts_81 ?_
        refine j_getfr fl_X5_30_5 rfl (t_lt hf ha0 (j := 0) (by decide)) (tk_0 hf ha0) (tg_0_6 hf ha0) dX5_hunts_82 ?_
        refine j_iload_n 0 rfl dX5_hunts_85 ?_
        refine j_dup2 rfl rfl dX5_hunts_86 ?_
        obtain ⟨b21, h⟩ := h
        refine j_ialdJ (j := (r1).toNatClampNeg) (t_lt hf ha0 (j := 7) (by decide)) (tk_7 hf ha0) b21 rfl dX5_hunts_87 ?_
        refine j_iconst (v := 1) dX5_hunts_88 (by decide) ?_
        refine j_iadd dX5_hunts_89 ?_
        obtain ⟨b22, h⟩ := h
        refine j_iastJ (j := (r1).toNatClampNeg) (t_lt hf ha0 (j := 7) (by decide)) (tk_7 hf ha0) b22 rfl dX5_hunts_90 (fun A23 eA23 => ?_)
        replace h := h A23 eA23
        refine j_aload_n 1 rfl dX5_hunts_91 ?_
        refine j_getfr fl_X5_21_5 rfl (t_lt hf ha0 (j := 0) (by decide)) (tk_0 hf ha0) (tg_0_3 hf ha0) dX5_hunts_92 ?_
        refine j_iload_n 0 rfl dX5_hunts_95 ?_
        refine j_iconst (v := 0) dX5_hunts_96 (by decide) ?_
        obtain ⟨b24, h⟩ := h
        refine j_iastJ (j := (r1).toNatClampNeg) (t_lt hf ha0 (j := 4) (by decide)) (tk_4 hf ha0) b24 rfl dX5_hunts_97 (fun A25 eA25 => ?_)
        replace h := h A25 eA25
        refine j_aload_n 1 rfl dX5_hunts_98 ?_
        refine j_getfr fl_X5_24_5 rfl (t_lt hf ha0 (j := 0) (by decide)) (tk_0 hf ha0) (tg_0_4 hf ha0) dX5_hunts_99 ?_
        refine j_iload_n 0 rfl dX5_hunts_102 ?_
        refine j_bipush (v := (-2)) dX5_hunts_103 (by decide) ?_
        obtain ⟨b26, h⟩ := h
        refine j_iastJ (j := (r1).toNatClampNeg) (t_lt hf ha0 (j := 5) (by decide)) (tk_5 hf ha0) b26 rfl dX5_hunts_105 (fun A27 eA27 => ?_)
        replace h := h A27 eA27
        refine j_vret rfl ?_ dX5_hunts_106
        rw [hP]
        exact ⟨A27, rfl, rfl, h⟩
    · rw [if_neg c] at h
      refine j_aload_n 1 rfl dX5_hunts_27 ?_
      refine j_getfr fl_X5_9_5 rfl (t_lt hf ha0 (j := 0) (by decide)) (tk_0 hf ha0) (tg_0_0 hf ha0) dX5_hunts_28 ?_
      refine j_iload_n 3 rfl dX5_hunts_31 ?_
      refine j_aload_n 2 rfl dX5_hunts_32 ?_
      refine j_aload_n 1 rfl dX5_hunts_33 ?_
      refine j_getfr fl_X5_9_5 rfl (t_lt hf ha0 (j := 0) (by decide)) (tk_0 hf ha0) (tg_0_0 hf ha0) dX5_hunts_34 ?_
      refine j_iload_n 3 rfl dX5_hunts_37 ?_
      obtain ⟨b28, h⟩ := h
      refine j_ialdJ (j := (p2).toNatClampNeg) (t_lt hf ha0 (j := 1) (by decide)) (tk_1 hf ha0) b28 rfl dX5_hunts_38 ?_
      refine j_aload_n 1 rfl dX5_hunts_39 ?_
      refine j_getfr fl_X5_21_5 rfl (t_lt hf ha0 (j := 0) (by decide)) (tk_0 hf ha0) (tg_0_3 hf ha0) dX5_hunts_40 ?_
      refine j_iload_n 0 rfl dX5_hunts_43 ?_
      obtain ⟨b29, h⟩ := h
      refine j_ialdJ (j := (r1).toNatClampNeg) (t_lt hf ha0 (j := 4) (by decide)) (tk_4 hf ha0) b29 rfl dX5_hunts_44 ?_
      refine j_callV (b := a1) (As := [.int (A2 (a0 + 1) (p2).toNatClampNeg), .int (A2 (a0 + 4) (r1).toNatClampNeg)]) (st := [.int p2, .ref (a0 + 1)]) (C := RX4) (kc' := 0) (ks' := 0) (tX4_step hf a1 ha1 (A2 (a0 + 1) (p2).toNatClampNeg) (A2 (a0 + 4) (r1).toNatClampNeg) _ h) myX4_step rfl q1333 q1334 q1335 (j_l2 hf.1 (x_lt ha1 (j := 0) (by decide))) (fun s9 H9 hK9 hR9 h69 => jIs_in hK9 hR9 h69 (x_lt ha1 (j := 0) (by decide)) (xk_0 ha1) rfl) rfl (Nat.le_of_ble_eq_true rfl) rfl (by decide) (Nat.le_refl 0) (Nat.le_refl 0) dX5_hunts_45 (fun v9 u9 hq => ?_) (fun k9 u9 hq => by obtain ⟨_, e9, _⟩ := hq; cases e9)
      obtain ⟨r30, e9, rfl, h⟩ := hq
      obtain rfl := Sum.inl.inj e9
      show J Γ RX5 cX5_hunts 5 none "hunts" [] 505 0 0 48 [(3, .int r1), (0, .ref a0), (1, .ref a1), (2, .int p2)] [.int r30, .int p2, .ref (a0 + 1)] (n, K, A2, Lg, G) P
      obtain ⟨b31, h⟩ := h
      refine j_iastJ (j := (p2).toNatClampNeg) (t_lt hf ha0 (j := 1) (by decide)) (tk_1 hf ha0) b31 rfl dX5_hunts_48 (fun A32 eA32 => ?_)
      replace h := h A32 eA32
      refine j_vret rfl ?_ dX5_hunts_49
      rw [hP]
      exact ⟨A32, rfl, rfl, h⟩
  · rw [if_neg c] at h
    refine j_vret rfl ?_ dX5_hunts_11
    rw [hP]
    exact ⟨A2, rfl, rfl, h⟩
theorem myX5_forgets : jY yX5_forgets cX5_forgets 4 none 2 := ⟨q1369, q132, by decide +kernel, by decide +kernel, by decide⟩
def fX5_forgets_L34 (a0 : Nat) (a1 : Nat) (n : Nat) (K : Nat → pKd) (G : pG)  (Q : pA → Prop) : Nat → Int32 → Int32 → pA → Prop
  | 0, _, _, _ => False
  | n9 + 1, l2, l3, A =>
    fJ5_size (a1 + 3) A (fun r1 => (if r1 ≤ l3 then Q A else (vp_in l2 5) ∧ ((vp_in l2 5) ∧ ((vp_in l3 4) ∧ ((vp_in l3 4) ∧ ((vp_in l3 4) ∧ (∀ A7 : pA, A7 = pup A (a0 + 9 + (l2).toNatClampNeg) (l3).toNatClampNeg (pmax 0 ((A (a0 + 9 + (l2).toNatClampNeg) (l3).toNatClampNeg) - (A (a0 + 20) (l3).toNatClampNeg))) → (vp_in l2 5) ∧ ((vp_in l2 5) ∧ ((vp_in l3 4) ∧ ((vp_in l3 4) ∧ ((vp_in l3 4) ∧ (∀ A13 : pA, A13 = pup A7 (a0 + 15 + (l2).toNatClampNeg) (l3).toNatClampNeg (pmax 0 ((A7 (a0 + 15 + (l2).toNatClampNeg) (l3).toNatClampNeg) - (A7 (a0 + 20) (l3).toNatClampNeg))) → fX5_forgets_L34 a0 a1 n K G  Q n9 l2 (l3 + 1) A13))))))))))))
theorem fX5_forgets_L34_ok {Γ : jG} {n : Nat} {K : Nat → pKd} {G : pG} {Lg : pL} (hf : fOK n K G) (a0 : Nat) (ha0 : isT a0) (a1 : Nat) (ha1 : xOK n K G a1) (Q : pA → Prop) (P : jO → pS → Prop) (hP : P = (fun o u => ∃ (A' : pA), o = .inl none ∧ u = (n, K, A', Lg, G) ∧ Q A'))    : ∀ (n9 : Nat) (l2 : Int32) (l3 : Int32) (A : pA), fX5_forgets_L34 a0 a1 n K G  Q n9 l2 l3 A → J Γ RX5 cX5_forgets 4 none "forgets" [] 504 0 0 34 [(0, .ref a0), (1, .ref a1), (2, .int l2), (3, .int l3)] [] (n, K, A, Lg, G) P := by
  intro n9
  induction n9 with
  | zero => intro l2 l3 A h; exact h.elim
  | succ n9 ih =>
    intro l2 l3 A h
    unfold fX5_forgets_L34 at h
    refine j_iload_n 3 rfl dX5_forgets_34 ?_
    refine j_aload_n 1 rfl dX5_forgets_35 ?_
    refine j_getfr fl_X5_73_4 rfl (x_lt ha1 (j := 0) (by decide)) (xk_0 ha1) (xg_0_2 ha1) dX5_forgets_36 ?_
    refine j_callV (b := (a1 + 3)) (As := []) (st := [.int l3]) (C := RJ5) (kc' := 0) (ks' := 0) (tJ5_size hf (a1 + 3) (x_lt ha1 (j := 3) (by decide)) (xk_3 ha1) _ h) myJ5_size rfl q535 q536 q537 (j_l2 hf.1 (x_lt ha1 (j := 3) (by decide))) (fun s9 H9 hK9 hR9 h69 => jIs_in hK9 hR9 h69 (x_lt ha1 (j := 3) (by decide)) (xk_3 ha1) rfl) rfl (Nat.le_of_ble_eq_true rfl) rfl (by decide) (Nat.le_refl 0) (Nat.le_refl 0) dX5_forgets_39 (fun v9 u9 hq => ?_) (fun k9 u9 hq => by obtain ⟨_, e9, _⟩ := hq; cases e9)
    obtain ⟨r1, e9, rfl, h⟩ := hq
    obtain rfl := Sum.inl.inj e9
    show J Γ RX5 cX5_forgets 4 none "forgets" [] 504 0 0 42 [(0, .ref a0), (1, .ref a1), (2, .int l2), (3, .int l3)] [.int r1, .int l3] (n, K, A, Lg, G) P
    refine j_icmp_ge (tgt := 105) dX5_forgets_42 (by decide) (fun c => ?_) (fun c => ?_)
    · rw [if_pos c] at h
      refine j_vret rfl ?_ dX5_forgets_105
      rw [hP]
      exact ⟨A, rfl, rfl, h⟩
    · rw [if_neg c] at h
      refine j_aload_n 0 rfl dX5_forgets_45 ?_
      refine j_getfr fl_X5_35_5 rfl (t_lt hf ha0 (j := 0) (by decide)) (tk_0 hf ha0) (tg_0_7 hf ha0) dX5_forgets_46 ?_
      refine j_iload_n 2 rfl dX5_forgets_49 ?_
      obtain ⟨b2, h⟩ := h
      refine j_aaldJ (t := 11) (j := (l2).toNatClampNeg) rfl rfl rfl (t_lt hf ha0 (j := 8) (by decide)) (tk_8 hf ha0) b2 rfl (t_row8 hf ha0 (j_ix b2)).1 dX5_forgets_50 ?_
      refine j_iload_n 3 rfl dX5_forgets_51 ?_
      refine j_iconst (v := 0) dX5_forgets_52 (by decide) ?_
      refine j_aload_n 0 rfl dX5_forgets_53 ?_
      refine j_getfr fl_X5_35_5 rfl (t_lt hf ha0 (j := 0) (by decide)) (tk_0 hf ha0) (tg_0_7 hf ha0) dX5_forgets_54 ?_
      refine j_iload_n 2 rfl dX5_forgets_57 ?_
      obtain ⟨b3, h⟩ := h
      refine j_aaldJ (t := 11) (j := (l2).toNatClampNeg) rfl rfl rfl (t_lt hf ha0 (j := 8) (by decide)) (tk_8 hf ha0) b3 rfl (t_row8 hf ha0 (j_ix b3)).1 dX5_forgets_58 ?_
      refine j_iload_n 3 rfl dX5_forgets_59 ?_
      obtain ⟨b4, h⟩ := h
      refine j_ialdJ (j := (l3).toNatClampNeg) (t_rowlt8 hf ha0 (j_ix b3)) (t_row8 hf ha0 (j_ix b3)).2 b4 rfl dX5_forgets_60 ?_
      refine j_aload_n 0 rfl dX5_forgets_61 ?_
      refine j_getfr fl_X5_41_5 rfl (t_lt hf ha0 (j := 0) (by decide)) (tk_0 hf ha0) (tg_0_12 hf ha0) dX5_forgets_62 ?_
      refine j_iload_n 3 rfl dX5_forgets_65 ?_
      obtain ⟨b5, h⟩ := h
      refine j_ialdJ (j := (l3).toNatClampNeg) (t_lt hf ha0 (j := 20) (by decide)) (tk_20 hf ha0) b5 rfl dX5_forgets_66 ?_
      refine j_isub dX5_forgets_67 ?_
      refine j_mmax q1371 q899 q153 q900 (Nat.le_of_ble_eq_true rfl) (by decide) dX5_forgets_68 ?_
      obtain ⟨b6, h⟩ := h
      refine j_iastJ (j := (l3).toNatClampNeg) (t_rowlt8 hf ha0 (j_ix b2)) (t_row8 hf ha0 (j_ix b2)).2 b6 rfl dX5_forgets_71 (fun A7 eA7 => ?_)
      replace h := h A7 eA7
      refine j_aload_n 0 rfl dX5_forgets_72 ?_
      refine j_getfr fl_X5_38_5 rfl (t_lt hf ha0 (j := 0) (by decide)) (tk_0 hf ha0) (tg_0_8 hf ha0) dX5_forgets_73 ?_
      refine j_iload_n 2 rfl dX5_forgets_76 ?_
      obtain ⟨b8, h⟩ := h
      refine j_aaldJ (t := 11) (j := (l2).toNatClampNeg) rfl rfl rfl (t_lt hf ha0 (j := 14) (by decide)) (tk_14 hf ha0) b8 rfl (t_row14 hf ha0 (j_ix b8)).1 dX5_forgets_77 ?_
      refine j_iload_n 3 rfl dX5_forgets_78 ?_
      refine j_iconst (v := 0) dX5_forgets_79 (by decide) ?_
      refine j_aload_n 0 rfl dX5_forgets_80 ?_
      refine j_getfr fl_X5_38_5 rfl (t_lt hf ha0 (j := 0) (by decide)) (tk_0 hf ha0) (tg_0_8 hf ha0) dX5_forgets_81 ?_
      refine j_iload_n 2 rfl dX5_forgets_84 ?_
      obtain ⟨b9, h⟩ := h
      refine j_aaldJ (t := 11) (j := (l2).toNatClampNeg) rfl rfl rfl (t_lt hf ha0 (j := 14) (by decide)) (tk_14 hf ha0) b9 rfl (t_row14 hf ha0 (j_ix b9)).1 dX5_forgets_85 ?_
      refine j_iload_n 3 rfl dX5_forgets_86 ?_
      obtain ⟨b10, h⟩ := h
      refine j_ialdJ (j := (l3).toNatClampNeg) (t_rowlt14 hf ha0 (j_ix b9)) (t_row14 hf ha0 (j_ix b9)).2 b10 rfl dX5_forgets_87 ?_
      refine j_aload_n 0 rfl dX5_forgets_88 ?_
      refine j_getfr fl_X5_41_5 rfl (t_lt hf ha0 (j := 0) (by decide)) (tk_0 hf ha0) (tg_0_12 hf ha0) dX5_forgets_89 ?_
      refine j_iload_n 3 rfl dX5_forgets_92 ?_
      obtain ⟨b11, h⟩ := h
      refine j_ialdJ (j := (l3).toNatClampNeg) (t_lt hf ha0 (j := 20) (by decide)) (tk_20 hf ha0) b11 rfl dX5_forgets_93 ?_
      refine j_isub dX5_forgets_94 ?_
      refine j_mmax q1371 q899 q153 q900 (Nat.le_of_ble_eq_true rfl) (by decide) dX5_forgets_95 ?_
      obtain ⟨b12, h⟩ := h
      refine j_iastJ (j := (l3).toNatClampNeg) (t_rowlt14 hf ha0 (j_ix b8)) (t_row14 hf ha0 (j_ix b8)).2 b12 rfl dX5_forgets_98 (fun A13 eA13 => ?_)
      replace h := h A13 eA13
      refine j_iinc (v := l3 + 1) 3 rfl rfl (by decide) rfl dX5_forgets_99 ?_
      refine j_goto (tgt := 34) dX5_forgets_102 (by decide) ?_
      refine j_ls [1, 2, 3, 0] rfl ?_
      exact ih l2 (l3 + 1) A13 h
def fX5_forgets_L2 (a0 : Nat) (a1 : Nat) (n : Nat) (K : Nat → pKd) (G : pG)  (Q : pA → Prop) : Nat → Int32 → Int32 → pA → Prop
  | 0, _, _, _ => False
  | n9 + 1, l2, l3, A =>
    fJ5_size (a1 + 3) A (fun r14 => (if r14 ≤ l3 then ∃ m15, fX5_forgets_L34 a0 a1 n K G  Q m15 l2 0 A else fX5_fades a0 a1 n K A G l2 l3 (fun r16 A17 => (vp_in l3 4) ∧ (∀ A19 : pA, A19 = pup A17 (a0 + 20) (l3).toNatClampNeg r16 → fX5_forgets_L2 a0 a1 n K G  Q n9 l2 (l3 + 1) A19))))
theorem fX5_forgets_L2_ok {Γ : jG} {n : Nat} {K : Nat → pKd} {G : pG} {Lg : pL} (hf : fOK n K G) (a0 : Nat) (ha0 : isT a0) (a1 : Nat) (ha1 : xOK n K G a1) (Q : pA → Prop) (P : jO → pS → Prop) (hP : P = (fun o u => ∃ (A' : pA), o = .inl none ∧ u = (n, K, A', Lg, G) ∧ Q A'))    : ∀ (n9 : Nat) (l2 : Int32) (l3 : Int32) (A : pA), fX5_forgets_L2 a0 a1 n K G  Q n9 l2 l3 A → J Γ RX5 cX5_forgets 4 none "forgets" [] 504 0 0 2 [(0, .ref a0), (1, .ref a1), (2, .int l2), (3, .int l3)] [] (n, K, A, Lg, G) P := by
  intro n9
  induction n9 with
  | zero => intro l2 l3 A h; exact h.elim
  | succ n9 ih =>
    intro l2 l3 A h
    unfold fX5_forgets_L2 at h
    refine j_iload_n 3 rfl dX5_forgets_2 ?_
    refine j_aload_n 1 rfl dX5_forgets_3 ?_
    refine j_getfr fl_X5_73_4 rfl (x_lt ha1 (j := 0) (by decide)) (xk_0 ha1) (xg_0_2 ha1) dX5_forgets_4 ?_
    refine j_callV (b := (a1 + 3)) (As := []) (st := [.int l3]) (C := RJ5) (kc' := 0) (ks' := 0) (tJ5_size hf (a1 + 3) (x_lt ha1 (j := 3) (by decide)) (xk_3 ha1) _ h) myJ5_size rfl q535 q536 q537 (j_l2 hf.1 (x_lt ha1 (j := 3) (by decide))) (fun s9 H9 hK9 hR9 h69 => jIs_in hK9 hR9 h69 (x_lt ha1 (j := 3) (by decide)) (xk_3 ha1) rfl) rfl (Nat.le_of_ble_eq_true rfl) rfl (by decide) (Nat.le_refl 0) (Nat.le_refl 0) dX5_forgets_7 (fun v9 u9 hq => ?_) (fun k9 u9 hq => by obtain ⟨_, e9, _⟩ := hq; cases e9)
    obtain ⟨r14, e9, rfl, h⟩ := hq
    obtain rfl := Sum.inl.inj e9
    show J Γ RX5 cX5_forgets 4 none "forgets" [] 504 0 0 10 [(0, .ref a0), (1, .ref a1), (2, .int l2), (3, .int l3)] [.int r14, .int l3] (n, K, A, Lg, G) P
    refine j_icmp_ge (tgt := 32) dX5_forgets_10 (by decide) (fun c => ?_) (fun c => ?_)
    · rw [if_pos c] at h
      refine j_iconst (v := 0) dX5_forgets_32 (by decide) ?_
      refine j_istore_n (by decide) rfl dX5_forgets_33 ?_
      refine j_ls [1, 2, 3, 0] rfl ?_
      obtain ⟨m15, h⟩ := h
      exact fX5_forgets_L34_ok hf a0 ha0 a1 ha1 Q P hP   m15 l2 0 A h
    · rw [if_neg c] at h
      refine j_aload_n 0 rfl dX5_forgets_13 ?_
      refine j_getfr fl_X5_41_5 rfl (t_lt hf ha0 (j := 0) (by decide)) (tk_0 hf ha0) (tg_0_12 hf ha0) dX5_forgets_14 ?_
      refine j_iload_n 3 rfl dX5_forgets_17 ?_
      refine j_aload_n 0 rfl dX5_forgets_18 ?_
      refine j_aload_n 1 rfl dX5_forgets_19 ?_
      refine j_iload_n 2 rfl dX5_forgets_20 ?_
      refine j_iload_n 3 rfl dX5_forgets_21 ?_
      refine j_callV (b := a0) (As := [.ref a1, .int l2, .int l3]) (st := [.int l3, .ref (a0 + 20)]) (C := RX5) (kc' := 0) (ks' := 0) (tX5_fades hf a0 ha0 a1 ha1 l2 l3 _ h) myX5_fades rfl q1370 q1282 q1283 (j_l2 hf.1 (t_lt hf ha0 (j := 0) (by decide))) (fun s9 H9 hK9 hR9 h69 => jIs_in hK9 hR9 h69 (t_lt hf ha0 (j := 0) (by decide)) (tk_0 hf ha0) rfl) rfl (Nat.le_of_ble_eq_true rfl) rfl (by decide) (Nat.le_refl 0) (Nat.le_refl 0) dX5_forgets_22 (fun v9 u9 hq => ?_) (fun k9 u9 hq => by obtain ⟨_, _, e9, _⟩ := hq; cases e9)
      obtain ⟨r16, A17, e9, rfl, h⟩ := hq
      obtain rfl := Sum.inl.inj e9
      show J Γ RX5 cX5_forgets 4 none "forgets" [] 504 0 0 25 [(0, .ref a0), (1, .ref a1), (2, .int l2), (3, .int l3)] [.int r16, .int l3, .ref (a0 + 20)] (n, K, A17, Lg, G) P
      obtain ⟨b18, h⟩ := h
      refine j_iastJ (j := (l3).toNatClampNeg) (t_lt hf ha0 (j := 20) (by decide)) (tk_20 hf ha0) b18 rfl dX5_forgets_25 (fun A19 eA19 => ?_)
      replace h := h A19 eA19
      refine j_iinc (v := l3 + 1) 3 rfl rfl (by decide) rfl dX5_forgets_26 ?_
      refine j_goto (tgt := 2) dX5_forgets_29 (by decide) ?_
      refine j_ls [1, 2, 3, 0] rfl ?_
      exact ih l2 (l3 + 1) A19 h
def fX5_forgets (a0 : Nat) (a1 : Nat) (n : Nat) (K : Nat → pKd) (A : pA) (G : pG) (p2 : Int32) (Q : pA → Prop) : Prop :=
    ∃ m20, fX5_forgets_L2 a0 a1 n K G  Q m20 p2 0 A
theorem tX5_forgets {Γ : jG} {n : Nat} {K : Nat → pKd} {G : pG} {A : pA} {Lg : pL} (hf : fOK n K G) (a0 : Nat) (ha0 : isT a0) (a1 : Nat) (ha1 : xOK n K G a1) (p2 : Int32) (Q : pA → Prop) (h : fX5_forgets a0 a1 n K A G p2 Q) : jMet Γ yX5_forgets cX5_forgets 4 none [] 504 0 0 [.ref a0, .ref a1, .int p2] (n, K, A, Lg, G) (fun o u => ∃ (A' : pA), o = .inl none ∧ u = (n, K, A', Lg, G) ∧ Q A') := by
  unfold fX5_forgets at h
  obtain ⟨P, hP⟩ : ∃ P : jO → pS → Prop, P = (fun o u => ∃ (A' : pA), o = .inl none ∧ u = (n, K, A', Lg, G) ∧ Q A') := ⟨_, rfl⟩
  rw [← hP]
  refine jMet_of rfl rfl rfl (Nat.le_of_ble_eq_true rfl) ?_
  show J Γ RX5 cX5_forgets 4 none "forgets" [] 504 0 0 0 [(0, .ref a0), (1, .ref a1), (2, .int p2)] [] (n, K, A, Lg, G) P
  refine j_iconst (v := 0) dX5_forgets_0 (by decide) ?_
  refine j_istore_n (by decide) rfl dX5_forgets_1 ?_
  refine j_ls [1, 2, 3, 0] rfl ?_
  obtain ⟨m20, h⟩ := h
  exact fX5_forgets_L2_ok hf a0 ha0 a1 ha1 Q P hP   m20 p2 0 A h
theorem myX8_goes : jY yX8_goes cX8_goes 3 none 2 := ⟨q1361, q135, by decide +kernel, by decide +kernel, by decide⟩
def fX8_goes (a0 : Nat) (a1 : Nat) (a2 : Nat) (n : Nat) (K : Nat → pKd) (A : pA) (G : pG) (Q : pA → Prop) : Prop :=
    fX5_rests a1 a2 n K A G (fun A1 => Q A1)
theorem tX8_goes {Γ : jG} {n : Nat} {K : Nat → pKd} {G : pG} {A : pA} {Lg : pL} (hf : fOK n K G) (a0 : Nat) (la0 : a0 < n) (ha0 : K a0 = .inl 7) (a1 : Nat) (ha1 : isT a1) (a2 : Nat) (ha2 : xOK n K G a2)  (Q : pA → Prop) (h : fX8_goes a0 a1 a2 n K A G Q) : jMet Γ yX8_goes cX8_goes 3 none [] 5 0 0 [.ref a0, .ref a1, .ref a2] (n, K, A, Lg, G) (fun o u => ∃ (A' : pA), o = .inl none ∧ u = (n, K, A', Lg, G) ∧ Q A') := by
  unfold fX8_goes at h
  obtain ⟨P, hP⟩ : ∃ P : jO → pS → Prop, P = (fun o u => ∃ (A' : pA), o = .inl none ∧ u = (n, K, A', Lg, G) ∧ Q A') := ⟨_, rfl⟩
  rw [← hP]
  refine jMet_of rfl rfl rfl (Nat.le_of_ble_eq_true rfl) ?_
  show J Γ RX8 cX8_goes 3 none "goes" [] 5 0 0 0 [(0, .ref a0), (1, .ref a1), (2, .ref a2)] [] (n, K, A, Lg, G) P
  refine j_aload_n 1 rfl dX8_goes_0 ?_
  refine j_aload_n 2 rfl dX8_goes_1 ?_
  refine j_callV (b := a1) (As := [.ref a2]) (st := []) (C := RX5) (kc' := 0) (ks' := 0) (tX5_rests hf a1 ha1 a2 ha2 _ h) myX5_rests rfl q1362 q1363 q1364 (j_l2 hf.1 (t_lt hf ha1 (j := 0) (by decide))) (fun s9 H9 hK9 hR9 h69 => jIs_in hK9 hR9 h69 (t_lt hf ha1 (j := 0) (by decide)) (tk_0 hf ha1) rfl) rfl (Nat.le_of_ble_eq_true rfl) rfl (by decide) (Nat.le_refl 0) (Nat.le_refl 0) dX8_goes_2 (fun v9 u9 hq => ?_) (fun k9 u9 hq => by obtain ⟨_, e9, _⟩ := hq; cases e9)
  obtain ⟨A1, e9, rfl, h⟩ := hq
  obtain rfl := Sum.inl.inj e9
  show J Γ RX8 cX8_goes 3 none "goes" [] 5 0 0 5 [(0, .ref a0), (1, .ref a1), (2, .ref a2)] [] (n, K, A1, Lg, G) P
  refine j_vret rfl ?_ dX8_goes_5
  rw [hP]
  exact ⟨A1, rfl, rfl, h⟩
theorem myX9_goes : jY yX9_goes cX9_goes 4 none 2 := ⟨q1346, q136, by decide +kernel, by decide +kernel, by decide⟩
def fX9_goes_L2 (a0 : Nat) (a1 : Nat) (a2 : Nat) (n : Nat) (K : Nat → pKd) (G : pG)  (Q : pA → Prop) : Nat → Int32 → pA → Prop
  | 0, _, _ => False
  | n9 + 1, l3, A =>
    fJ5_size (a2 + 2) A (fun r1 => (if r1 ≤ l3 then Q A else fX5_hunts a1 a2 n K A G l3 (fun A2 => fX9_goes_L2 a0 a1 a2 n K G  Q n9 (l3 + 1) A2)))
theorem fX9_goes_L2_ok {Γ : jG} {n : Nat} {K : Nat → pKd} {G : pG} {Lg : pL} (hf : fOK n K G) (a0 : Nat) (la0 : a0 < n) (ha0 : K a0 = .inl 8) (a1 : Nat) (ha1 : isT a1) (a2 : Nat) (ha2 : xOK n K G a2) (Q : pA → Prop) (P : jO → pS → Prop) (hP : P = (fun o u => ∃ (A' : pA), o = .inl none ∧ u = (n, K, A', Lg, G) ∧ Q A'))    : ∀ (n9 : Nat) (l3 : Int32) (A : pA), fX9_goes_L2 a0 a1 a2 n K G  Q n9 l3 A → J Γ RX9 cX9_goes 4 none "goes" [] 506 0 0 2 [(1, .ref a1), (2, .ref a2), (3, .int l3)] [] (n, K, A, Lg, G) P := by
  intro n9
  induction n9 with
  | zero => intro l3 A h; exact h.elim
  | succ n9 ih =>
    intro l3 A h
    unfold fX9_goes_L2 at h
    refine j_iload_n 2 rfl dX9_goes_2 ?_
    refine j_aload_n 1 rfl dX9_goes_3 ?_
    refine j_getfr fl_X9_7_4 rfl (x_lt ha2 (j := 0) (by decide)) (xk_0 ha2) (xg_0_1 ha2) dX9_goes_4 ?_
    refine j_callV (b := (a2 + 2)) (As := []) (st := [.int l3]) (C := RJ5) (kc' := 0) (ks' := 0) (tJ5_size hf (a2 + 2) (x_lt ha2 (j := 2) (by decide)) (xk_2 ha2) _ h) myJ5_size rfl q1347 q536 q537 (j_l2 hf.1 (x_lt ha2 (j := 2) (by decide))) (fun s9 H9 hK9 hR9 h69 => jIs_in hK9 hR9 h69 (x_lt ha2 (j := 2) (by decide)) (xk_2 ha2) rfl) rfl (Nat.le_of_ble_eq_true rfl) rfl (by decide) (Nat.le_refl 0) (Nat.le_refl 0) dX9_goes_7 (fun v9 u9 hq => ?_) (fun k9 u9 hq => by obtain ⟨_, e9, _⟩ := hq; cases e9)
    obtain ⟨r1, e9, rfl, h⟩ := hq
    obtain rfl := Sum.inl.inj e9
    show J Γ RX9 cX9_goes 4 none "goes" [] 506 0 0 10 [(1, .ref a1), (2, .ref a2), (3, .int l3)] [.int r1, .int l3] (n, K, A, Lg, G) P
    refine j_icmp_ge (tgt := 25) dX9_goes_10 (by decide) (fun c => ?_) (fun c => ?_)
    · rw [if_pos c] at h
      refine j_vret rfl ?_ dX9_goes_25
      rw [hP]
      exact ⟨A, rfl, rfl, h⟩
    · rw [if_neg c] at h
      refine j_aload_n 0 rfl dX9_goes_13 ?_
      refine j_aload_n 1 rfl dX9_goes_14 ?_
      refine j_iload_n 2 rfl dX9_goes_15 ?_
      refine j_callV (b := a1) (As := [.ref a2, .int l3]) (st := []) (C := RX5) (kc' := 0) (ks' := 0) (tX5_hunts hf a1 ha1 a2 ha2 l3 _ h) myX5_hunts rfl q1348 q1349 q1350 (j_l2 hf.1 (t_lt hf ha1 (j := 0) (by decide))) (fun s9 H9 hK9 hR9 h69 => jIs_in hK9 hR9 h69 (t_lt hf ha1 (j := 0) (by decide)) (tk_0 hf ha1) rfl) rfl (Nat.le_of_ble_eq_true rfl) rfl (by decide) (Nat.le_refl 0) (Nat.le_refl 0) dX9_goes_16 (fun v9 u9 hq => ?_) (fun k9 u9 hq => by obtain ⟨_, e9, _⟩ := hq; cases e9)
      obtain ⟨A2, e9, rfl, h⟩ := hq
      obtain rfl := Sum.inl.inj e9
      show J Γ RX9 cX9_goes 4 none "goes" [] 506 0 0 19 [(1, .ref a1), (2, .ref a2), (3, .int l3)] [] (n, K, A2, Lg, G) P
      refine j_iinc (v := l3 + 1) 2 rfl rfl (by decide) rfl dX9_goes_19 ?_
      refine j_goto (tgt := 2) dX9_goes_22 (by decide) ?_
      refine j_ls [1, 2, 0] rfl ?_
      exact ih (l3 + 1) A2 h
def fX9_goes (a0 : Nat) (a1 : Nat) (a2 : Nat) (n : Nat) (K : Nat → pKd) (A : pA) (G : pG) (Q : pA → Prop) : Prop :=
    ∃ m3, fX9_goes_L2 a0 a1 a2 n K G  Q m3 0 A
theorem tX9_goes {Γ : jG} {n : Nat} {K : Nat → pKd} {G : pG} {A : pA} {Lg : pL} (hf : fOK n K G) (a0 : Nat) (la0 : a0 < n) (ha0 : K a0 = .inl 8) (a1 : Nat) (ha1 : isT a1) (a2 : Nat) (ha2 : xOK n K G a2)  (Q : pA → Prop) (h : fX9_goes a0 a1 a2 n K A G Q) : jMet Γ yX9_goes cX9_goes 4 none [] 506 0 0 [.ref a0, .ref a1, .ref a2] (n, K, A, Lg, G) (fun o u => ∃ (A' : pA), o = .inl none ∧ u = (n, K, A', Lg, G) ∧ Q A') := by
  unfold fX9_goes at h
  obtain ⟨P, hP⟩ : ∃ P : jO → pS → Prop, P = (fun o u => ∃ (A' : pA), o = .inl none ∧ u = (n, K, A', Lg, G) ∧ Q A') := ⟨_, rfl⟩
  rw [← hP]
  refine jMet_of rfl rfl rfl (Nat.le_of_ble_eq_true rfl) ?_
  show J Γ RX9 cX9_goes 4 none "goes" [] 506 0 0 0 [(0, .ref a0), (1, .ref a1), (2, .ref a2)] [] (n, K, A, Lg, G) P
  refine j_iconst (v := 0) dX9_goes_0 (by decide) ?_
  refine j_istore_n (by decide) rfl dX9_goes_1 ?_
  refine j_ls [2, 3, 0] rfl ?_
  obtain ⟨m3, h⟩ := h
  exact fX9_goes_L2_ok hf a0 la0 ha0 a1 ha1 a2 ha2 Q P hP   m3 0 A h
