set_option maxRecDepth 100000
set_option maxHeartbeats 4000000
theorem myX10_plain : jY yX10_plain cX10_plain 3 none 1 := ⟨q1532, q139, by decide +kernel, by decide +kernel, by decide⟩
def fX10_plain_L86   (Q : pA → Prop) : Nat → Int32 → Int32 → pA → Prop
  | 0, _, _, _ => False
  | n9 + 1, l1, l2, A =>
    (if 4 ≤ l2 then Q A else (vp_in ((4 * l1) + l2) 8) ∧ (∀ A2 : pA, A2 = pup A 1224 ((4 * l1) + l2).toNatClampNeg 0 → (vp_in ((4 * l1) + l2) 8) ∧ (∀ A4 : pA, A4 = pup A2 1225 ((4 * l1) + l2).toNatClampNeg 0 → fX10_plain_L86   Q n9 l1 (l2 + 1) A4)))
theorem fX10_plain_L86_ok {Γ : jG} {n : Nat} {K : Nat → pKd} {G : pG} {Lg : pL} (hf : mOK n K G) (Q : pA → Prop) (P : jO → pS → Prop) (hP : P = (fun o u => ∃ (A' : pA), o = .inl none ∧ u = (n, K, A', Lg, G) ∧ Q A'))    : ∀ (n9 : Nat) (l1 : Int32) (l2 : Int32) (A : pA), fX10_plain_L86   Q n9 l1 l2 A → J Γ RX10 cX10_plain 3 none "plain" [] 1 0 0 86 [(0, .ref 1198), (1, .int l1), (2, .int l2)] [] (n, K, A, Lg, G) P := by
  intro n9
  induction n9 with
  | zero => intro l1 l2 A h; exact h.elim
  | succ n9 ih =>
    intro l1 l2 A h
    unfold fX10_plain_L86 at h
    refine j_iload_n 2 rfl dX10_plain_86 ?_
    refine j_iconst (v := 4) dX10_plain_87 (by decide) ?_
    refine j_icmp_ge (tgt := 119) dX10_plain_88 (by decide) (fun c => ?_) (fun c => ?_)
    · rw [if_pos c] at h
      refine j_vret rfl ?_ dX10_plain_119
      rw [hP]
      exact ⟨A, rfl, rfl, h⟩
    · rw [if_neg c] at h
      refine j_aload_n 0 rfl dX10_plain_91 ?_
      refine j_getfr fl_X10_94_9 rfl (m_lt hf (by decide)) (fk_1198 hf) (fg_1198_39 hf) dX10_plain_92 ?_
      refine j_iconst (v := 4) dX10_plain_95 (by decide) ?_
      refine j_iload_n 1 rfl dX10_plain_96 ?_
      refine j_imul dX10_plain_97 ?_
      refine j_iload_n 2 rfl dX10_plain_98 ?_
      refine j_iadd dX10_plain_99 ?_
      refine j_iconst (v := 0) dX10_plain_100 (by decide) ?_
      obtain ⟨b1, h⟩ := h
      refine j_iastJ (j := ((4 * l1) + l2).toNatClampNeg) (m_lt hf (by decide)) (fk_1224 hf) b1 rfl dX10_plain_101 (fun A2 eA2 => ?_)
      replace h := h A2 eA2
      refine j_aload_n 0 rfl dX10_plain_102 ?_
      refine j_getfr fl_X10_97_9 rfl (m_lt hf (by decide)) (fk_1198 hf) (fg_1198_40 hf) dX10_plain_103 ?_
      refine j_iconst (v := 4) dX10_plain_106 (by decide) ?_
      refine j_iload_n 1 rfl dX10_plain_107 ?_
      refine j_imul dX10_plain_108 ?_
      refine j_iload_n 2 rfl dX10_plain_109 ?_
      refine j_iadd dX10_plain_110 ?_
      refine j_iconst (v := 0) dX10_plain_111 (by decide) ?_
      obtain ⟨b3, h⟩ := h
      refine j_iastJ (j := ((4 * l1) + l2).toNatClampNeg) (m_lt hf (by decide)) (fk_1225 hf) b3 rfl dX10_plain_112 (fun A4 eA4 => ?_)
      replace h := h A4 eA4
      refine j_iinc (v := l2 + 1) 2 rfl rfl (by decide) rfl dX10_plain_113 ?_
      refine j_goto (tgt := 86) dX10_plain_116 (by decide) ?_
      refine j_ls [1, 2, 0] rfl ?_
      exact ih l1 (l2 + 1) A4 h
def fX10_plain_L60   (Q : pA → Prop) : Nat → Int32 → Int32 → pA → Prop
  | 0, _, _, _ => False
  | n9 + 1, l1, l2, A =>
    (if 7 ≤ l2 then ∃ m5, fX10_plain_L86   Q m5 l1 0 A else (vp_in ((7 * l1) + l2) 14) ∧ (∀ A7 : pA, A7 = pup A 1209 ((7 * l1) + l2).toNatClampNeg 0 → fX10_plain_L60   Q n9 l1 (l2 + 1) A7))
theorem fX10_plain_L60_ok {Γ : jG} {n : Nat} {K : Nat → pKd} {G : pG} {Lg : pL} (hf : mOK n K G) (Q : pA → Prop) (P : jO → pS → Prop) (hP : P = (fun o u => ∃ (A' : pA), o = .inl none ∧ u = (n, K, A', Lg, G) ∧ Q A'))    : ∀ (n9 : Nat) (l1 : Int32) (l2 : Int32) (A : pA), fX10_plain_L60   Q n9 l1 l2 A → J Γ RX10 cX10_plain 3 none "plain" [] 1 0 0 60 [(0, .ref 1198), (1, .int l1), (2, .int l2)] [] (n, K, A, Lg, G) P := by
  intro n9
  induction n9 with
  | zero => intro l1 l2 A h; exact h.elim
  | succ n9 ih =>
    intro l1 l2 A h
    unfold fX10_plain_L60 at h
    refine j_iload_n 2 rfl dX10_plain_60 ?_
    refine j_bipush (v := 7) dX10_plain_61 (by decide) ?_
    refine j_icmp_ge (tgt := 84) dX10_plain_63 (by decide) (fun c => ?_) (fun c => ?_)
    · rw [if_pos c] at h
      refine j_iconst (v := 0) dX10_plain_84 (by decide) ?_
      refine j_istore_n (by decide) rfl dX10_plain_85 ?_
      refine j_ls [1, 2, 0] rfl ?_
      obtain ⟨m5, h⟩ := h
      exact fX10_plain_L86_ok hf Q P hP   m5 l1 0 A h
    · rw [if_neg c] at h
      refine j_aload_n 0 rfl dX10_plain_66 ?_
      refine j_getfr fl_X10_49_9 rfl (m_lt hf (by decide)) (fk_1198 hf) (fg_1198_24 hf) dX10_plain_67 ?_
      refine j_bipush (v := 7) dX10_plain_70 (by decide) ?_
      refine j_iload_n 1 rfl dX10_plain_72 ?_
      refine j_imul dX10_plain_73 ?_
      refine j_iload_n 2 rfl dX10_plain_74 ?_
      refine j_iadd dX10_plain_75 ?_
      refine j_iconst (v := 0) dX10_plain_76 (by decide) ?_
      obtain ⟨b6, h⟩ := h
      refine j_iastJ (j := ((7 * l1) + l2).toNatClampNeg) (m_lt hf (by decide)) (fk_1209 hf) b6 rfl dX10_plain_77 (fun A7 eA7 => ?_)
      replace h := h A7 eA7
      refine j_iinc (v := l2 + 1) 2 rfl rfl (by decide) rfl dX10_plain_78 ?_
      refine j_goto (tgt := 60) dX10_plain_81 (by decide) ?_
      refine j_ls [1, 2, 0] rfl ?_
      exact ih l1 (l2 + 1) A7 h
def fX10_plain (A : pA) (p1 : Int32) (Q : pA → Prop) : Prop :=
    (vp_in p1 2) ∧ (∀ A9 : pA, A9 = pup A 1208 (p1).toNatClampNeg 0 → (vp_in p1 2) ∧ (∀ A11 : pA, A11 = pup A9 1210 (p1).toNatClampNeg 0 → (vp_in p1 2) ∧ (∀ A13 : pA, A13 = pup A11 1211 (p1).toNatClampNeg 0 → (vp_in p1 2) ∧ (∀ A15 : pA, A15 = pup A13 1215 (p1).toNatClampNeg 0 → (vp_in p1 2) ∧ (∀ A17 : pA, A17 = pup A15 1218 (p1).toNatClampNeg 0 → (vp_in p1 2) ∧ (∀ A19 : pA, A19 = pup A17 1221 (p1).toNatClampNeg 60 → (vp_in p1 2) ∧ (∀ A21 : pA, A21 = pup A19 1222 (p1).toNatClampNeg 120 → (vp_in p1 2) ∧ (∀ A23 : pA, A23 = pup A21 1223 (p1).toNatClampNeg 0 → ∃ m24, fX10_plain_L60   Q m24 p1 0 A23))))))))
theorem tX10_plain {Γ : jG} {n : Nat} {K : Nat → pKd} {G : pG} {Lg : pL} (hf : mOK n K G) {A : pA} (p1 : Int32) (Q : pA → Prop) (h : fX10_plain A p1 Q) : jMet Γ yX10_plain cX10_plain 3 none [] 1 0 0 [.ref 1198, .int p1] (n, K, A, Lg, G) (fun o u => ∃ (A' : pA), o = .inl none ∧ u = (n, K, A', Lg, G) ∧ Q A') := by
  unfold fX10_plain at h
  obtain ⟨P, hP⟩ : ∃ P : jO → pS → Prop, P = (fun o u => ∃ (A' : pA), o = .inl none ∧ u = (n, K, A', Lg, G) ∧ Q A') := ⟨_, rfl⟩
  rw [← hP]
  refine jMet_of rfl rfl rfl (Nat.le_of_ble_eq_true rfl) ?_
  show J Γ RX10 cX10_plain 3 none "plain" [] 1 0 0 0 [(0, .ref 1198), (1, .int p1)] [] (n, K, A, Lg, G) P
  refine j_aload_n 0 rfl dX10_plain_0 ?_
  refine j_getfr fl_X10_46_9 rfl (m_lt hf (by decide)) (fk_1198 hf) (fg_1198_23 hf) dX10_plain_1 ?_
  refine j_iload_n 1 rfl dX10_plain_4 ?_
  refine j_iconst (v := 0) dX10_plain_5 (by decide) ?_
  obtain ⟨b8, h⟩ := h
  refine j_iastJ (j := (p1).toNatClampNeg) (m_lt hf (by decide)) (fk_1208 hf) b8 rfl dX10_plain_6 (fun A9 eA9 => ?_)
  replace h := h A9 eA9
  refine j_aload_n 0 rfl dX10_plain_7 ?_
  refine j_getfr fl_X10_52_9 rfl (m_lt hf (by decide)) (fk_1198 hf) (fg_1198_25 hf) dX10_plain_8 ?_
  refine j_iload_n 1 rfl dX10_plain_11 ?_
  refine j_iconst (v := 0) dX10_plain_12 (by decide) ?_
  obtain ⟨b10, h⟩ := h
  refine j_iastJ (j := (p1).toNatClampNeg) (m_lt hf (by decide)) (fk_1210 hf) b10 rfl dX10_plain_13 (fun A11 eA11 => ?_)
  replace h := h A11 eA11
  refine j_aload_n 0 rfl dX10_plain_14 ?_
  refine j_getfr fl_X10_55_9 rfl (m_lt hf (by decide)) (fk_1198 hf) (fg_1198_26 hf) dX10_plain_15 ?_
  refine j_iload_n 1 rfl dX10_plain_18 ?_
  refine j_iconst (v := 0) dX10_plain_19 (by decide) ?_
  obtain ⟨b12, h⟩ := h
  refine j_iastJ (j := (p1).toNatClampNeg) (m_lt hf (by decide)) (fk_1211 hf) b12 rfl dX10_plain_20 (fun A13 eA13 => ?_)
  replace h := h A13 eA13
  refine j_aload_n 0 rfl dX10_plain_21 ?_
  refine j_getfr fl_X10_67_9 rfl (m_lt hf (by decide)) (fk_1198 hf) (fg_1198_30 hf) dX10_plain_22 ?_
  refine j_iload_n 1 rfl dX10_plain_25 ?_
  refine j_iconst (v := 0) dX10_plain_26 (by decide) ?_
  obtain ⟨b14, h⟩ := h
  refine j_iastJ (j := (p1).toNatClampNeg) (m_lt hf (by decide)) (fk_1215 hf) b14 rfl dX10_plain_27 (fun A15 eA15 => ?_)
  replace h := h A15 eA15
  refine j_aload_n 0 rfl dX10_plain_28 ?_
  refine j_getfr fl_X10_76_9 rfl (m_lt hf (by decide)) (fk_1198 hf) (fg_1198_33 hf) dX10_plain_29 ?_
  refine j_iload_n 1 rfl dX10_plain_32 ?_
  refine j_iconst (v := 0) dX10_plain_33 (by decide) ?_
  obtain ⟨b16, h⟩ := h
  refine j_iastJ (j := (p1).toNatClampNeg) (m_lt hf (by decide)) (fk_1218 hf) b16 rfl dX10_plain_34 (fun A17 eA17 => ?_)
  replace h := h A17 eA17
  refine j_aload_n 0 rfl dX10_plain_35 ?_
  refine j_getfr fl_X10_85_9 rfl (m_lt hf (by decide)) (fk_1198 hf) (fg_1198_36 hf) dX10_plain_36 ?_
  refine j_iload_n 1 rfl dX10_plain_39 ?_
  refine j_bipush (v := 60) dX10_plain_40 (by decide) ?_
  obtain ⟨b18, h⟩ := h
  refine j_iastJ (j := (p1).toNatClampNeg) (m_lt hf (by decide)) (fk_1221 hf) b18 rfl dX10_plain_42 (fun A19 eA19 => ?_)
  replace h := h A19 eA19
  refine j_aload_n 0 rfl dX10_plain_43 ?_
  refine j_getfr fl_X10_88_9 rfl (m_lt hf (by decide)) (fk_1198 hf) (fg_1198_37 hf) dX10_plain_44 ?_
  refine j_iload_n 1 rfl dX10_plain_47 ?_
  refine j_bipush (v := 120) dX10_plain_48 (by decide) ?_
  obtain ⟨b20, h⟩ := h
  refine j_iastJ (j := (p1).toNatClampNeg) (m_lt hf (by decide)) (fk_1222 hf) b20 rfl dX10_plain_50 (fun A21 eA21 => ?_)
  replace h := h A21 eA21
  refine j_aload_n 0 rfl dX10_plain_51 ?_
  refine j_getfr fl_X10_91_9 rfl (m_lt hf (by decide)) (fk_1198 hf) (fg_1198_38 hf) dX10_plain_52 ?_
  refine j_iload_n 1 rfl dX10_plain_55 ?_
  refine j_iconst (v := 0) dX10_plain_56 (by decide) ?_
  obtain ⟨b22, h⟩ := h
  refine j_iastJ (j := (p1).toNatClampNeg) (m_lt hf (by decide)) (fk_1223 hf) b22 rfl dX10_plain_57 (fun A23 eA23 => ?_)
  replace h := h A23 eA23
  refine j_iconst (v := 0) dX10_plain_58 (by decide) ?_
  refine j_istore_n (by decide) rfl dX10_plain_59 ?_
  refine j_ls [1, 2, 0] rfl ?_
  obtain ⟨m24, h⟩ := h
  exact fX10_plain_L60_ok hf Q P hP   m24 p1 0 A23 h
theorem myX10_appends : jY yX10_appends cX10_appends 3 (some .long) 2 := ⟨q1538, q139, by decide +kernel, by decide +kernel, by decide⟩
def fX10_appends (A : pA) (p0 : Int64) (p2 : Int32) (Q : Int64 → Prop) : Prop :=
    (if p2 = 0 then Q p0 else Q ((27 * p0) + ((((p2 - 97) + 1) : Int32).toInt64)))
theorem tX10_appends {Γ : jG} {n : Nat} {K : Nat → pKd} {G : pG} {Lg : pL} (hf : mOK n K G) {A : pA} (p0 : Int64) (p2 : Int32) (Q : Int64 → Prop) (h : fX10_appends A p0 p2 Q) : jMet Γ yX10_appends cX10_appends 3 (some .long) [] 1 0 0 [.long p0, .int p2] (n, K, A, Lg, G) (fun o u => ∃ (r : Int64), o = .inl (some (.long r)) ∧ u = (n, K, A, Lg, G) ∧ Q r) := by
  unfold fX10_appends at h
  obtain ⟨P, hP⟩ : ∃ P : jO → pS → Prop, P = (fun o u => ∃ (r : Int64), o = .inl (some (.long r)) ∧ u = (n, K, A, Lg, G) ∧ Q r) := ⟨_, rfl⟩
  rw [← hP]
  refine jMet_of rfl rfl rfl (Nat.le_of_ble_eq_true rfl) ?_
  show J Γ RX10 cX10_appends 3 (some .long) "appends" [] 1 0 0 0 [(0, .long p0), (2, .int p2)] [] (n, K, A, Lg, G) P
  refine j_iload_n 1 rfl dX10_appends_0 ?_
  refine j_if_ne (tgt := 8) dX10_appends_1 (by decide) (fun c => ?_) (fun c => ?_)
  · rw [if_neg c] at h
    refine j_ldc2 (v := 27) q1539 dX10_appends_8 ?_
    refine j_lload_n 0 rfl dX10_appends_11 ?_
    refine j_lmul dX10_appends_12 ?_
    refine j_iload_n 1 rfl dX10_appends_13 ?_
    refine j_bipush (v := 97) dX10_appends_14 (by decide) ?_
    refine j_isub dX10_appends_16 ?_
    refine j_iconst (v := 1) dX10_appends_17 (by decide) ?_
    refine j_iadd dX10_appends_18 ?_
    refine j_i2l dX10_appends_19 ?_
    refine j_ladd dX10_appends_20 ?_
    refine j_lret rfl ?_ dX10_appends_21
    rw [hP]
    exact ⟨(27 * p0) + ((((p2 - 97) + 1) : Int32).toInt64), rfl, rfl, h⟩
  · rw [if_pos c] at h
    refine j_lload_n 0 rfl dX10_appends_4 ?_
    refine j_goto (tgt := 21) dX10_appends_5 (by decide) ?_
    refine j_lret rfl ?_ dX10_appends_21
    rw [hP]
    exact ⟨p0, rfl, rfl, h⟩
theorem myX10_word : jY yX10_word cX10_word 7 (some .long) 7 := ⟨q1535, q139, by decide +kernel, by decide +kernel, by decide⟩
def fX10_word (A : pA) (p0 : Int32) (p1 : Int32) (p2 : Int32) (p3 : Int32) (p4 : Int32) (p5 : Int32) (p6 : Int32) (Q : Int64 → Prop) : Prop :=
    fX10_appends A 0 p0 (fun r1 => fX10_appends A r1 p1 (fun r2 => fX10_appends A r2 p2 (fun r3 => fX10_appends A r3 p3 (fun r4 => fX10_appends A r4 p4 (fun r5 => fX10_appends A r5 p5 (fun r6 => fX10_appends A r6 p6 (fun r7 => Q r7)))))))
theorem tX10_word {Γ : jG} {n : Nat} {K : Nat → pKd} {G : pG} {Lg : pL} (hf : mOK n K G) {A : pA} (p0 : Int32) (p1 : Int32) (p2 : Int32) (p3 : Int32) (p4 : Int32) (p5 : Int32) (p6 : Int32) (Q : Int64 → Prop) (h : fX10_word A p0 p1 p2 p3 p4 p5 p6 Q) : jMet Γ yX10_word cX10_word 7 (some .long) [] 2 0 0 [.int p0, .int p1, .int p2, .int p3, .int p4, .int p5, .int p6] (n, K, A, Lg, G) (fun o u => ∃ (r : Int64), o = .inl (some (.long r)) ∧ u = (n, K, A, Lg, G) ∧ Q r) := by
  unfold fX10_word at h
  obtain ⟨P, hP⟩ : ∃ P : jO → pS → Prop, P = (fun o u => ∃ (r : Int64), o = .inl (some (.long r)) ∧ u = (n, K, A, Lg, G) ∧ Q r) := ⟨_, rfl⟩
  rw [← hP]
  refine jMet_of rfl rfl rfl (Nat.le_of_ble_eq_true rfl) ?_
  show J Γ RX10 cX10_word 7 (some .long) "word" [] 2 0 0 0 [(0, .int p0), (1, .int p1), (2, .int p2), (3, .int p3), (4, .int p4), (5, .int p5), (6, .int p6)] [] (n, K, A, Lg, G) P
  refine j_lconst (v := 0) dX10_word_0 (by decide) ?_
  refine j_iload_n 0 rfl dX10_word_1 ?_
  refine j_callS (As := [.long 0, .int p0]) (st := []) (kc' := 0) (ks' := 0) (tX10_appends hf 0 p0 _ h) myX10_appends q1536 q1537 rfl (Nat.le_of_ble_eq_true rfl) rfl (by decide) (Nat.le_refl 0) (Nat.le_refl 0) dX10_word_2 (fun v9 u9 hq => ?_) (fun k9 u9 hq => by obtain ⟨_, e9, _⟩ := hq; cases e9)
  obtain ⟨r1, e9, rfl, h⟩ := hq
  obtain rfl := Sum.inl.inj e9
  show J Γ RX10 cX10_word 7 (some .long) "word" [] 2 0 0 5 [(0, .int p0), (1, .int p1), (2, .int p2), (3, .int p3), (4, .int p4), (5, .int p5), (6, .int p6)] [.long r1] (n, K, A, Lg, G) P
  refine j_iload_n 1 rfl dX10_word_5 ?_
  refine j_callS (As := [.long r1, .int p1]) (st := []) (kc' := 0) (ks' := 0) (tX10_appends hf r1 p1 _ h) myX10_appends q1536 q1537 rfl (Nat.le_of_ble_eq_true rfl) rfl (by decide) (Nat.le_refl 0) (Nat.le_refl 0) dX10_word_6 (fun v9 u9 hq => ?_) (fun k9 u9 hq => by obtain ⟨_, e9, _⟩ := hq; cases e9)
  obtain ⟨r2, e9, rfl, h⟩ := hq
  obtain rfl := Sum.inl.inj e9
  show J Γ RX10 cX10_word 7 (some .long) "word" [] 2 0 0 9 [(0, .int p0), (1, .int p1), (2, .int p2), (3, .int p3), (4, .int p4), (5, .int p5), (6, .int p6)] [.long r2] (n, K, A, Lg, G) P
  refine j_iload_n 2 rfl dX10_word_9 ?_
  refine j_callS (As := [.long r2, .int p2]) (st := []) (kc' := 0) (ks' := 0) (tX10_appends hf r2 p2 _ h) myX10_appends q1536 q1537 rfl (Nat.le_of_ble_eq_true rfl) rfl (by decide) (Nat.le_refl 0) (Nat.le_refl 0) dX10_word_10 (fun v9 u9 hq => ?_) (fun k9 u9 hq => by obtain ⟨_, e9, _⟩ := hq; cases e9)
  obtain ⟨r3, e9, rfl, h⟩ := hq
  obtain rfl := Sum.inl.inj e9
  show J Γ RX10 cX10_word 7 (some .long) "word" [] 2 0 0 13 [(0, .int p0), (1, .int p1), (2, .int p2), (3, .int p3), (4, .int p4), (5, .int p5), (6, .int p6)] [.long r3] (n, K, A, Lg, G) P
  refine j_iload_n 3 rfl dX10_word_13 ?_
  refine j_callS (As := [.long r3, .int p3]) (st := []) (kc' := 0) (ks' := 0) (tX10_appends hf r3 p3 _ h) myX10_appends q1536 q1537 rfl (Nat.le_of_ble_eq_true rfl) rfl (by decide) (Nat.le_refl 0) (Nat.le_refl 0) dX10_word_14 (fun v9 u9 hq => ?_) (fun k9 u9 hq => by obtain ⟨_, e9, _⟩ := hq; cases e9)
  obtain ⟨r4, e9, rfl, h⟩ := hq
  obtain rfl := Sum.inl.inj e9
  show J Γ RX10 cX10_word 7 (some .long) "word" [] 2 0 0 17 [(0, .int p0), (1, .int p1), (2, .int p2), (3, .int p3), (4, .int p4), (5, .int p5), (6, .int p6)] [.long r4] (n, K, A, Lg, G) P
  refine j_iload 4 rfl dX10_word_17 ?_
  refine j_callS (As := [.long r4, .int p4]) (st := []) (kc' := 0) (ks' := 0) (tX10_appends hf r4 p4 _ h) myX10_appends q1536 q1537 rfl (Nat.le_of_ble_eq_true rfl) rfl (by decide) (Nat.le_refl 0) (Nat.le_refl 0) dX10_word_19 (fun v9 u9 hq => ?_) (fun k9 u9 hq => by obtain ⟨_, e9, _⟩ := hq; cases e9)
  obtain ⟨r5, e9, rfl, h⟩ := hq
  obtain rfl := Sum.inl.inj e9
  show J Γ RX10 cX10_word 7 (some .long) "word" [] 2 0 0 22 [(0, .int p0), (1, .int p1), (2, .int p2), (3, .int p3), (4, .int p4), (5, .int p5), (6, .int p6)] [.long r5] (n, K, A, Lg, G) P
  refine j_iload 5 rfl dX10_word_22 ?_
  refine j_callS (As := [.long r5, .int p5]) (st := []) (kc' := 0) (ks' := 0) (tX10_appends hf r5 p5 _ h) myX10_appends q1536 q1537 rfl (Nat.le_of_ble_eq_true rfl) rfl (by decide) (Nat.le_refl 0) (Nat.le_refl 0) dX10_word_24 (fun v9 u9 hq => ?_) (fun k9 u9 hq => by obtain ⟨_, e9, _⟩ := hq; cases e9)
  obtain ⟨r6, e9, rfl, h⟩ := hq
  obtain rfl := Sum.inl.inj e9
  show J Γ RX10 cX10_word 7 (some .long) "word" [] 2 0 0 27 [(0, .int p0), (1, .int p1), (2, .int p2), (3, .int p3), (4, .int p4), (5, .int p5), (6, .int p6)] [.long r6] (n, K, A, Lg, G) P
  refine j_iload 6 rfl dX10_word_27 ?_
  refine j_callS (As := [.long r6, .int p6]) (st := []) (kc' := 0) (ks' := 0) (tX10_appends hf r6 p6 _ h) myX10_appends q1536 q1537 rfl (Nat.le_of_ble_eq_true rfl) rfl (by decide) (Nat.le_refl 0) (Nat.le_refl 0) dX10_word_29 (fun v9 u9 hq => ?_) (fun k9 u9 hq => by obtain ⟨_, e9, _⟩ := hq; cases e9)
  obtain ⟨r7, e9, rfl, h⟩ := hq
  obtain rfl := Sum.inl.inj e9
  show J Γ RX10 cX10_word 7 (some .long) "word" [] 2 0 0 32 [(0, .int p0), (1, .int p1), (2, .int p2), (3, .int p3), (4, .int p4), (5, .int p5), (6, .int p6)] [.long r7] (n, K, A, Lg, G) P
  refine j_lret rfl ?_ dX10_word_32
  rw [hP]
  exact ⟨r7, rfl, rfl, h⟩
theorem myX10_begins : jY yX10_begins cX10_begins 2 none 0 := ⟨q1543, q139, by decide +kernel, by decide +kernel, by decide⟩
def fX10_begins_L87   (Q : pA → Prop) : Nat → Int32 → pA → Prop
  | 0, _, _ => False
  | n9 + 1, l1, A =>
    (vp_in (A 1198 18) 2) ∧ ((if (A 1215 (A 1198 18).toNatClampNeg) ≤ l1 then Q A else (vp_in ((4 * (A 1198 18)) + l1) 8) ∧ ((vp_in (15 + l1) 77) ∧ (∀ A4 : pA, A4 = pup A 1238 (15 + l1).toNatClampNeg (A 1216 ((4 * (A 1198 18)) + l1).toNatClampNeg) → (vp_in ((4 * (A4 1198 18)) + l1) 8) ∧ ((vp_in (23 + l1) 77) ∧ (∀ A7 : pA, A7 = pup A4 1238 (23 + l1).toNatClampNeg (A4 1217 ((4 * (A4 1198 18)) + l1).toNatClampNeg) → fX10_begins_L87   Q n9 (l1 + 1) A7))))))
theorem fX10_begins_L87_ok {Γ : jG} {n : Nat} {K : Nat → pKd} {G : pG} {Lg : pL} (hf : mOK n K G) (Q : pA → Prop) (P : jO → pS → Prop) (hP : P = (fun o u => ∃ (A' : pA), o = .inl none ∧ u = (n, K, A', Lg, G) ∧ Q A'))    : ∀ (n9 : Nat) (l1 : Int32) (A : pA), fX10_begins_L87   Q n9 l1 A → J Γ RX10 cX10_begins 2 none "begins" [] 1 0 0 87 [(0, .ref 1198), (1, .int l1)] [] (n, K, A, Lg, G) P := by
  intro n9
  induction n9 with
  | zero => intro l1 A h; exact h.elim
  | succ n9 ih =>
    intro l1 A h
    unfold fX10_begins_L87 at h
    refine j_iload_n 1 rfl dX10_begins_87 ?_
    refine j_aload_n 0 rfl dX10_begins_88 ?_
    refine j_getfr fl_X10_67_9 rfl (m_lt hf (by decide)) (fk_1198 hf) (fg_1198_30 hf) dX10_begins_89 ?_
    refine j_aload_n 0 rfl dX10_begins_92 ?_
    refine j_getfi fl_X10_242_9 rfl (m_lt hf (by decide)) (fk_1198 hf) dX10_begins_93 ?_
    obtain ⟨b1, h⟩ := h
    refine j_ialdJ (j := (A 1198 18).toNatClampNeg) (m_lt hf (by decide)) (fk_1215 hf) b1 rfl dX10_begins_96 ?_
    refine j_icmp_ge (tgt := 150) dX10_begins_97 (by decide) (fun c => ?_) (fun c => ?_)
    · rw [if_pos c] at h
      refine j_vret rfl ?_ dX10_begins_150
      rw [hP]
      exact ⟨A, rfl, rfl, h⟩
    · rw [if_neg c] at h
      refine j_aload_n 0 rfl dX10_begins_100 ?_
      refine j_getfr fl_X10_137_9 rfl (m_lt hf (by decide)) (fk_1198 hf) (fg_1198_57 hf) dX10_begins_101 ?_
      refine j_bipush (v := 15) dX10_begins_104 (by decide) ?_
      refine j_iload_n 1 rfl dX10_begins_106 ?_
      refine j_iadd dX10_begins_107 ?_
      refine j_aload_n 0 rfl dX10_begins_108 ?_
      refine j_getfr fl_X10_70_9 rfl (m_lt hf (by decide)) (fk_1198 hf) (fg_1198_31 hf) dX10_begins_109 ?_
      refine j_iconst (v := 4) dX10_begins_112 (by decide) ?_
      refine j_aload_n 0 rfl dX10_begins_113 ?_
      refine j_getfi fl_X10_242_9 rfl (m_lt hf (by decide)) (fk_1198 hf) dX10_begins_114 ?_
      refine j_imul dX10_begins_117 ?_
      refine j_iload_n 1 rfl dX10_begins_118 ?_
      refine j_iadd dX10_begins_119 ?_
      obtain ⟨b2, h⟩ := h
      refine j_ialdJ (j := ((4 * (A 1198 18)) + l1).toNatClampNeg) (m_lt hf (by decide)) (fk_1216 hf) b2 rfl dX10_begins_120 ?_
      obtain ⟨b3, h⟩ := h
      refine j_iastJ (j := (15 + l1).toNatClampNeg) (m_lt hf (by decide)) (fk_1238 hf) b3 rfl dX10_begins_121 (fun A4 eA4 => ?_)
      replace h := h A4 eA4
      refine j_aload_n 0 rfl dX10_begins_122 ?_
      refine j_getfr fl_X10_137_9 rfl (m_lt hf (by decide)) (fk_1198 hf) (fg_1198_57 hf) dX10_begins_123 ?_
      refine j_bipush (v := 23) dX10_begins_126 (by decide) ?_
      refine j_iload_n 1 rfl dX10_begins_128 ?_
      refine j_iadd dX10_begins_129 ?_
      refine j_aload_n 0 rfl dX10_begins_130 ?_
      refine j_getfr fl_X10_73_9 rfl (m_lt hf (by decide)) (fk_1198 hf) (fg_1198_32 hf) dX10_begins_131 ?_
      refine j_iconst (v := 4) dX10_begins_134 (by decide) ?_
      refine j_aload_n 0 rfl dX10_begins_135 ?_
      refine j_getfi fl_X10_242_9 rfl (m_lt hf (by decide)) (fk_1198 hf) dX10_begins_136 ?_
      refine j_imul dX10_begins_139 ?_
      refine j_iload_n 1 rfl dX10_begins_140 ?_
      refine j_iadd dX10_begins_141 ?_
      obtain ⟨b5, h⟩ := h
      refine j_ialdJ (j := ((4 * (A4 1198 18)) + l1).toNatClampNeg) (m_lt hf (by decide)) (fk_1217 hf) b5 rfl dX10_begins_142 ?_
      obtain ⟨b6, h⟩ := h
      refine j_iastJ (j := (23 + l1).toNatClampNeg) (m_lt hf (by decide)) (fk_1238 hf) b6 rfl dX10_begins_143 (fun A7 eA7 => ?_)
      replace h := h A7 eA7
      refine j_iinc (v := l1 + 1) 1 rfl rfl (by decide) rfl dX10_begins_144 ?_
      refine j_goto (tgt := 87) dX10_begins_147 (by decide) ?_
      refine j_ls [1, 0] rfl ?_
      exact ih (l1 + 1) A7 h
def fX10_begins_L63   (Q : pA → Prop) : Nat → Int32 → pA → Prop
  | 0, _, _ => False
  | n9 + 1, l1, A =>
    (if 4 ≤ l1 then ∃ m8, fX10_begins_L87   Q m8 0 A else (vp_in (19 + l1) 77) ∧ (∀ A10 : pA, A10 = pup A 1238 (19 + l1).toNatClampNeg (-2) → fX10_begins_L63   Q n9 (l1 + 1) A10))
theorem fX10_begins_L63_ok {Γ : jG} {n : Nat} {K : Nat → pKd} {G : pG} {Lg : pL} (hf : mOK n K G) (Q : pA → Prop) (P : jO → pS → Prop) (hP : P = (fun o u => ∃ (A' : pA), o = .inl none ∧ u = (n, K, A', Lg, G) ∧ Q A'))    : ∀ (n9 : Nat) (l1 : Int32) (A : pA), fX10_begins_L63   Q n9 l1 A → J Γ RX10 cX10_begins 2 none "begins" [] 1 0 0 63 [(0, .ref 1198), (1, .int l1)] [] (n, K, A, Lg, G) P := by
  intro n9
  induction n9 with
  | zero => intro l1 A h; exact h.elim
  | succ n9 ih =>
    intro l1 A h
    unfold fX10_begins_L63 at h
    refine j_iload_n 1 rfl dX10_begins_63 ?_
    refine j_iconst (v := 4) dX10_begins_64 (by decide) ?_
    refine j_icmp_ge (tgt := 85) dX10_begins_65 (by decide) (fun c => ?_) (fun c => ?_)
    · rw [if_pos c] at h
      refine j_iconst (v := 0) dX10_begins_85 (by decide) ?_
      refine j_istore_n (by decide) rfl dX10_begins_86 ?_
      refine j_ls [1, 0] rfl ?_
      obtain ⟨m8, h⟩ := h
      exact fX10_begins_L87_ok hf Q P hP   m8 0 A h
    · rw [if_neg c] at h
      refine j_aload_n 0 rfl dX10_begins_68 ?_
      refine j_getfr fl_X10_137_9 rfl (m_lt hf (by decide)) (fk_1198 hf) (fg_1198_57 hf) dX10_begins_69 ?_
      refine j_bipush (v := 19) dX10_begins_72 (by decide) ?_
      refine j_iload_n 1 rfl dX10_begins_74 ?_
      refine j_iadd dX10_begins_75 ?_
      refine j_bipush (v := (-2)) dX10_begins_76 (by decide) ?_
      obtain ⟨b9, h⟩ := h
      refine j_iastJ (j := (19 + l1).toNatClampNeg) (m_lt hf (by decide)) (fk_1238 hf) b9 rfl dX10_begins_78 (fun A10 eA10 => ?_)
      replace h := h A10 eA10
      refine j_iinc (v := l1 + 1) 1 rfl rfl (by decide) rfl dX10_begins_79 ?_
      refine j_goto (tgt := 63) dX10_begins_82 (by decide) ?_
      refine j_ls [1, 0] rfl ?_
      exact ih (l1 + 1) A10 h
def fX10_begins_L23   (Q : pA → Prop) : Nat → Int32 → pA → Prop
  | 0, _, _ => False
  | n9 + 1, l1, A =>
    (vp_in (A 1198 18) 2) ∧ ((if (A 1211 (A 1198 18).toNatClampNeg) ≤ l1 then ∃ m12, fX10_begins_L63   Q m12 0 A else (vp_in ((5 * (A 1198 18)) + l1) 10) ∧ ((vp_in l1 77) ∧ (∀ A15 : pA, A15 = pup A 1238 (l1).toNatClampNeg (A 1212 ((5 * (A 1198 18)) + l1).toNatClampNeg) → fX10_begins_L23   Q n9 (l1 + 1) A15))))
theorem fX10_begins_L23_ok {Γ : jG} {n : Nat} {K : Nat → pKd} {G : pG} {Lg : pL} (hf : mOK n K G) (Q : pA → Prop) (P : jO → pS → Prop) (hP : P = (fun o u => ∃ (A' : pA), o = .inl none ∧ u = (n, K, A', Lg, G) ∧ Q A'))    : ∀ (n9 : Nat) (l1 : Int32) (A : pA), fX10_begins_L23   Q n9 l1 A → J Γ RX10 cX10_begins 2 none "begins" [] 1 0 0 23 [(0, .ref 1198), (1, .int l1)] [] (n, K, A, Lg, G) P := by
  intro n9
  induction n9 with
  | zero => intro l1 A h; exact h.elim
  | succ n9 ih =>
    intro l1 A h
    unfold fX10_begins_L23 at h
    refine j_iload_n 1 rfl dX10_begins_23 ?_
    refine j_aload_n 0 rfl dX10_begins_24 ?_
    refine j_getfr fl_X10_55_9 rfl (m_lt hf (by decide)) (fk_1198 hf) (fg_1198_26 hf) dX10_begins_25 ?_
    refine j_aload_n 0 rfl dX10_begins_28 ?_
    refine j_getfi fl_X10_242_9 rfl (m_lt hf (by decide)) (fk_1198 hf) dX10_begins_29 ?_
    obtain ⟨b11, h⟩ := h
    refine j_ialdJ (j := (A 1198 18).toNatClampNeg) (m_lt hf (by decide)) (fk_1211 hf) b11 rfl dX10_begins_32 ?_
    refine j_icmp_ge (tgt := 61) dX10_begins_33 (by decide) (fun c => ?_) (fun c => ?_)
    · rw [if_pos c] at h
      refine j_iconst (v := 0) dX10_begins_61 (by decide) ?_
      refine j_istore_n (by decide) rfl dX10_begins_62 ?_
      refine j_ls [1, 0] rfl ?_
      obtain ⟨m12, h⟩ := h
      exact fX10_begins_L63_ok hf Q P hP   m12 0 A h
    · rw [if_neg c] at h
      refine j_aload_n 0 rfl dX10_begins_36 ?_
      refine j_getfr fl_X10_137_9 rfl (m_lt hf (by decide)) (fk_1198 hf) (fg_1198_57 hf) dX10_begins_37 ?_
      refine j_iload_n 1 rfl dX10_begins_40 ?_
      refine j_aload_n 0 rfl dX10_begins_41 ?_
      refine j_getfr fl_X10_58_9 rfl (m_lt hf (by decide)) (fk_1198 hf) (fg_1198_27 hf) dX10_begins_42 ?_
      refine j_iconst (v := 5) dX10_begins_45 (by decide) ?_
      refine j_aload_n 0 rfl dX10_begins_46 ?_
      refine j_getfi fl_X10_242_9 rfl (m_lt hf (by decide)) (fk_1198 hf) dX10_begins_47 ?_
      refine j_imul dX10_begins_50 ?_
      refine j_iload_n 1 rfl dX10_begins_51 ?_
      refine j_iadd dX10_begins_52 ?_
      obtain ⟨b13, h⟩ := h
      refine j_ialdJ (j := ((5 * (A 1198 18)) + l1).toNatClampNeg) (m_lt hf (by decide)) (fk_1212 hf) b13 rfl dX10_begins_53 ?_
      obtain ⟨b14, h⟩ := h
      refine j_iastJ (j := (l1).toNatClampNeg) (m_lt hf (by decide)) (fk_1238 hf) b14 rfl dX10_begins_54 (fun A15 eA15 => ?_)
      replace h := h A15 eA15
      refine j_iinc (v := l1 + 1) 1 rfl rfl (by decide) rfl dX10_begins_55 ?_
      refine j_goto (tgt := 23) dX10_begins_58 (by decide) ?_
      refine j_ls [1, 0] rfl ?_
      exact ih (l1 + 1) A15 h
def fX10_begins_L2   (Q : pA → Prop) : Nat → Int32 → pA → Prop
  | 0, _, _ => False
  | n9 + 1, l1, A =>
    (if 77 ≤ l1 then ∃ m16, fX10_begins_L23   Q m16 0 A else (vp_in l1 77) ∧ (∀ A18 : pA, A18 = pup A 1238 (l1).toNatClampNeg 0 → fX10_begins_L2   Q n9 (l1 + 1) A18))
theorem fX10_begins_L2_ok {Γ : jG} {n : Nat} {K : Nat → pKd} {G : pG} {Lg : pL} (hf : mOK n K G) (Q : pA → Prop) (P : jO → pS → Prop) (hP : P = (fun o u => ∃ (A' : pA), o = .inl none ∧ u = (n, K, A', Lg, G) ∧ Q A'))    : ∀ (n9 : Nat) (l1 : Int32) (A : pA), fX10_begins_L2   Q n9 l1 A → J Γ RX10 cX10_begins 2 none "begins" [] 1 0 0 2 [(0, .ref 1198), (1, .int l1)] [] (n, K, A, Lg, G) P := by
  intro n9
  induction n9 with
  | zero => intro l1 A h; exact h.elim
  | succ n9 ih =>
    intro l1 A h
    unfold fX10_begins_L2 at h
    refine j_iload_n 1 rfl dX10_begins_2 ?_
    refine j_bipush (v := 77) dX10_begins_3 (by decide) ?_
    refine j_icmp_ge (tgt := 21) dX10_begins_5 (by decide) (fun c => ?_) (fun c => ?_)
    · rw [if_pos c] at h
      refine j_iconst (v := 0) dX10_begins_21 (by decide) ?_
      refine j_istore_n (by decide) rfl dX10_begins_22 ?_
      refine j_ls [1, 0] rfl ?_
      obtain ⟨m16, h⟩ := h
      exact fX10_begins_L23_ok hf Q P hP   m16 0 A h
    · rw [if_neg c] at h
      refine j_aload_n 0 rfl dX10_begins_8 ?_
      refine j_getfr fl_X10_137_9 rfl (m_lt hf (by decide)) (fk_1198 hf) (fg_1198_57 hf) dX10_begins_9 ?_
      refine j_iload_n 1 rfl dX10_begins_12 ?_
      refine j_iconst (v := 0) dX10_begins_13 (by decide) ?_
      obtain ⟨b17, h⟩ := h
      refine j_iastJ (j := (l1).toNatClampNeg) (m_lt hf (by decide)) (fk_1238 hf) b17 rfl dX10_begins_14 (fun A18 eA18 => ?_)
      replace h := h A18 eA18
      refine j_iinc (v := l1 + 1) 1 rfl rfl (by decide) rfl dX10_begins_15 ?_
      refine j_goto (tgt := 2) dX10_begins_18 (by decide) ?_
      refine j_ls [1, 0] rfl ?_
      exact ih (l1 + 1) A18 h
def fX10_begins (A : pA) (Q : pA → Prop) : Prop :=
    ∃ m19, fX10_begins_L2   Q m19 0 A
theorem tX10_begins {Γ : jG} {n : Nat} {K : Nat → pKd} {G : pG} {Lg : pL} (hf : mOK n K G) {A : pA}  (Q : pA → Prop) (h : fX10_begins A Q) : jMet Γ yX10_begins cX10_begins 2 none [] 1 0 0 [.ref 1198] (n, K, A, Lg, G) (fun o u => ∃ (A' : pA), o = .inl none ∧ u = (n, K, A', Lg, G) ∧ Q A') := by
  unfold fX10_begins at h
  obtain ⟨P, hP⟩ : ∃ P : jO → pS → Prop, P = (fun o u => ∃ (A' : pA), o = .inl none ∧ u = (n, K, A', Lg, G) ∧ Q A') := ⟨_, rfl⟩
  rw [← hP]
  refine jMet_of rfl rfl rfl (Nat.le_of_ble_eq_true rfl) ?_
  show J Γ RX10 cX10_begins 2 none "begins" [] 1 0 0 0 [(0, .ref 1198)] [] (n, K, A, Lg, G) P
  refine j_iconst (v := 0) dX10_begins_0 (by decide) ?_
  refine j_istore_n (by decide) rfl dX10_begins_1 ?_
  refine j_ls [1, 0] rfl ?_
  obtain ⟨m19, h⟩ := h
  exact fX10_begins_L2_ok hf Q P hP   m19 0 A h
theorem myX10_keepsRow : jY yX10_keepsRow cX10_keepsRow 2 none 0 := ⟨q1547, q139, by decide +kernel, by decide +kernel, by decide⟩
def fX10_keepsRow_L2   (Q : pA → Prop) : Nat → Int32 → pA → Prop
  | 0, _, _ => False
  | n9 + 1, l1, A =>
    (if 77 ≤ l1 then Q A else (vp_in l1 77) ∧ ((vp_in l1 77) ∧ (∀ A3 : pA, A3 = pup A 1237 (l1).toNatClampNeg (A 1238 (l1).toNatClampNeg) → fX10_keepsRow_L2   Q n9 (l1 + 1) A3)))
theorem fX10_keepsRow_L2_ok {Γ : jG} {n : Nat} {K : Nat → pKd} {G : pG} {Lg : pL} (hf : mOK n K G) (Q : pA → Prop) (P : jO → pS → Prop) (hP : P = (fun o u => ∃ (A' : pA), o = .inl none ∧ u = (n, K, A', Lg, G) ∧ Q A'))    : ∀ (n9 : Nat) (l1 : Int32) (A : pA), fX10_keepsRow_L2   Q n9 l1 A → J Γ RX10 cX10_keepsRow 2 none "keepsRow" [] 1 0 0 2 [(0, .ref 1198), (1, .int l1)] [] (n, K, A, Lg, G) P := by
  intro n9
  induction n9 with
  | zero => intro l1 A h; exact h.elim
  | succ n9 ih =>
    intro l1 A h
    unfold fX10_keepsRow_L2 at h
    refine j_iload_n 1 rfl dX10_keepsRow_2 ?_
    refine j_bipush (v := 77) dX10_keepsRow_3 (by decide) ?_
    refine j_icmp_ge (tgt := 26) dX10_keepsRow_5 (by decide) (fun c => ?_) (fun c => ?_)
    · rw [if_pos c] at h
      refine j_vret rfl ?_ dX10_keepsRow_26
      rw [hP]
      exact ⟨A, rfl, rfl, h⟩
    · rw [if_neg c] at h
      refine j_aload_n 0 rfl dX10_keepsRow_8 ?_
      refine j_getfr fl_X10_134_9 rfl (m_lt hf (by decide)) (fk_1198 hf) (fg_1198_56 hf) dX10_keepsRow_9 ?_
      refine j_iload_n 1 rfl dX10_keepsRow_12 ?_
      refine j_aload_n 0 rfl dX10_keepsRow_13 ?_
      refine j_getfr fl_X10_137_9 rfl (m_lt hf (by decide)) (fk_1198 hf) (fg_1198_57 hf) dX10_keepsRow_14 ?_
      refine j_iload_n 1 rfl dX10_keepsRow_17 ?_
      obtain ⟨b1, h⟩ := h
      refine j_ialdJ (j := (l1).toNatClampNeg) (m_lt hf (by decide)) (fk_1238 hf) b1 rfl dX10_keepsRow_18 ?_
      obtain ⟨b2, h⟩ := h
      refine j_iastJ (j := (l1).toNatClampNeg) (m_lt hf (by decide)) (fk_1237 hf) b2 rfl dX10_keepsRow_19 (fun A3 eA3 => ?_)
      replace h := h A3 eA3
      refine j_iinc (v := l1 + 1) 1 rfl rfl (by decide) rfl dX10_keepsRow_20 ?_
      refine j_goto (tgt := 2) dX10_keepsRow_23 (by decide) ?_
      refine j_ls [1, 0] rfl ?_
      exact ih (l1 + 1) A3 h
def fX10_keepsRow (A : pA) (Q : pA → Prop) : Prop :=
    ∃ m4, fX10_keepsRow_L2   Q m4 0 A
theorem tX10_keepsRow {Γ : jG} {n : Nat} {K : Nat → pKd} {G : pG} {Lg : pL} (hf : mOK n K G) {A : pA}  (Q : pA → Prop) (h : fX10_keepsRow A Q) : jMet Γ yX10_keepsRow cX10_keepsRow 2 none [] 1 0 0 [.ref 1198] (n, K, A, Lg, G) (fun o u => ∃ (A' : pA), o = .inl none ∧ u = (n, K, A', Lg, G) ∧ Q A') := by
  unfold fX10_keepsRow at h
  obtain ⟨P, hP⟩ : ∃ P : jO → pS → Prop, P = (fun o u => ∃ (A' : pA), o = .inl none ∧ u = (n, K, A', Lg, G) ∧ Q A') := ⟨_, rfl⟩
  rw [← hP]
  refine jMet_of rfl rfl rfl (Nat.le_of_ble_eq_true rfl) ?_
  show J Γ RX10 cX10_keepsRow 2 none "keepsRow" [] 1 0 0 0 [(0, .ref 1198)] [] (n, K, A, Lg, G) P
  refine j_iconst (v := 0) dX10_keepsRow_0 (by decide) ?_
  refine j_istore_n (by decide) rfl dX10_keepsRow_1 ?_
  refine j_ls [1, 0] rfl ?_
  obtain ⟨m4, h⟩ := h
  exact fX10_keepsRow_L2_ok hf Q P hP   m4 0 A h
theorem myX10_put : jY yX10_put cX10_put 3 none 1 := ⟨q1757, q139, by decide +kernel, by decide +kernel, by decide⟩
def fX10_put_L3   (Q : pA → Prop) : Nat → Int32 → Int32 → pA → Prop
  | 0, _, _, _ => False
  | n9 + 1, l1, l2, A =>
    (if l2 < 0 then Q A else (vp_in (A 1198 2) 2000) ∧ (∀ A2 : pA, A2 = pup A 1199 (A 1198 2).toNatClampNeg (vp_nar .byte (((l1 >>> (l2 &&& 31)) : Int32).toInt8.toInt32)) → ∀ A3 : pA, A3 = pup A2 1198 2 ((A2 1198 2) + 1) → fX10_put_L3   Q n9 l1 (l2 + (-8)) A3))
theorem fX10_put_L3_ok {Γ : jG} {n : Nat} {K : Nat → pKd} {G : pG} {Lg : pL} (hf : mOK n K G) (Q : pA → Prop) (P : jO → pS → Prop) (hP : P = (fun o u => ∃ (A' : pA), o = .inl none ∧ u = (n, K, A', Lg, G) ∧ Q A'))    : ∀ (n9 : Nat) (l1 : Int32) (l2 : Int32) (A : pA), fX10_put_L3   Q n9 l1 l2 A → J Γ RX10 cX10_put 3 none "put" [] 1 0 0 3 [(0, .ref 1198), (1, .int l1), (2, .int l2)] [] (n, K, A, Lg, G) P := by
  intro n9
  induction n9 with
  | zero => intro l1 l2 A h; exact h.elim
  | succ n9 ih =>
    intro l1 l2 A h
    unfold fX10_put_L3 at h
    refine j_iload_n 2 rfl dX10_put_3 ?_
    refine j_if_lt (tgt := 36) dX10_put_4 (by decide) (fun c => ?_) (fun c => ?_)
    · rw [if_pos c] at h
      refine j_vret rfl ?_ dX10_put_36
      rw [hP]
      exact ⟨A, rfl, rfl, h⟩
    · rw [if_neg c] at h
      refine j_aload_n 0 rfl dX10_put_7 ?_
      refine j_getfr fl_X10_13_9 rfl (m_lt hf (by decide)) (fk_1198 hf) (fg_1198_1 hf) dX10_put_8 ?_
      refine j_aload_n 0 rfl dX10_put_11 ?_
      refine j_getfi fl_X10_175_9 rfl (m_lt hf (by decide)) (fk_1198 hf) dX10_put_12 ?_
      refine j_iload_n 1 rfl dX10_put_15 ?_
      refine j_iload_n 2 rfl dX10_put_16 ?_
      refine j_ishr dX10_put_17 ?_
      refine j_i2b dX10_put_18 ?_
      obtain ⟨b1, h⟩ := h
      refine j_bastJ (j := (A 1198 2).toNatClampNeg) (m_lt hf (by decide)) (fk_1199 hf) b1 rfl dX10_put_19 (fun A2 eA2 => ?_)
      replace h := h A2 eA2
      refine j_aload_n 0 rfl dX10_put_20 ?_
      refine j_dup rfl dX10_put_21 ?_
      refine j_getfi fl_X10_175_9 rfl (m_lt hf (by decide)) (fk_1198 hf) dX10_put_22 ?_
      refine j_iconst (v := 1) dX10_put_25 (by decide) ?_
      refine j_iadd dX10_put_26 ?_
      refine j_putfiE (fp_X10_175_9 _) rfl rfl rfl (m_lt hf (by decide)) (fk_1198 hf) dX10_put_27 (fun A3 eA3 => ?_)
      replace h := h A3 eA3
      refine j_iinc (v := l2 + (-8)) 2 rfl (congrArg (fun z => l2 + z) (by decide)) (by decide) rfl dX10_put_30 ?_
      refine j_goto (tgt := 3) dX10_put_33 (by decide) ?_
      refine j_ls [1, 2, 0] rfl ?_
      exact ih l1 (l2 + (-8)) A3 h
def fX10_put (A : pA) (p1 : Int32) (Q : pA → Prop) : Prop :=
    ∃ m4, fX10_put_L3   Q m4 p1 24 A
theorem tX10_put {Γ : jG} {n : Nat} {K : Nat → pKd} {G : pG} {Lg : pL} (hf : mOK n K G) {A : pA} (p1 : Int32) (Q : pA → Prop) (h : fX10_put A p1 Q) : jMet Γ yX10_put cX10_put 3 none [] 1 0 0 [.ref 1198, .int p1] (n, K, A, Lg, G) (fun o u => ∃ (A' : pA), o = .inl none ∧ u = (n, K, A', Lg, G) ∧ Q A') := by
  unfold fX10_put at h
  obtain ⟨P, hP⟩ : ∃ P : jO → pS → Prop, P = (fun o u => ∃ (A' : pA), o = .inl none ∧ u = (n, K, A', Lg, G) ∧ Q A') := ⟨_, rfl⟩
  rw [← hP]
  refine jMet_of rfl rfl rfl (Nat.le_of_ble_eq_true rfl) ?_
  show J Γ RX10 cX10_put 3 none "put" [] 1 0 0 0 [(0, .ref 1198), (1, .int p1)] [] (n, K, A, Lg, G) P
  refine j_bipush (v := 24) dX10_put_0 (by decide) ?_
  refine j_istore_n (by decide) rfl dX10_put_2 ?_
  refine j_ls [1, 2, 0] rfl ?_
  obtain ⟨m4, h⟩ := h
  exact fX10_put_L3_ok hf Q P hP   m4 p1 24 A h
theorem myX10_feed : jY yX10_feed cX10_feed 6 (some .int) 5 := ⟨q1753, q139, by decide +kernel, by decide +kernel, by decide⟩
def fX10_feed (A : pA) (p1 : Int32) (p2 : Int32) (p3 : Int32) (p4 : Int32) (p5 : Int32) (Q : Int32 → pA → Prop) : Prop :=
    (if ((A 1198 2) + 20) ≤ 2000 then fX10_put A p1 (fun A1 => fX10_put A1 p2 (fun A2 => fX10_put A2 p3 (fun A3 => fX10_put A3 p4 (fun A4 => fX10_put A4 p5 (fun A5 => Q (A5 1198 2) A5))))) else Q (-1) A)
theorem tX10_feed {Γ : jG} {n : Nat} {K : Nat → pKd} {G : pG} {Lg : pL} (hf : mOK n K G) {A : pA} (p1 : Int32) (p2 : Int32) (p3 : Int32) (p4 : Int32) (p5 : Int32) (Q : Int32 → pA → Prop) (h : fX10_feed A p1 p2 p3 p4 p5 Q) : jMet Γ yX10_feed cX10_feed 6 (some .int) [] 2 0 0 [.ref 1198, .int p1, .int p2, .int p3, .int p4, .int p5] (n, K, A, Lg, G) (fun o u => ∃ (r : Int32) (A' : pA), o = .inl (some (.int r)) ∧ u = (n, K, A', Lg, G) ∧ Q r A') := by
  unfold fX10_feed at h
  obtain ⟨P, hP⟩ : ∃ P : jO → pS → Prop, P = (fun o u => ∃ (r : Int32) (A' : pA), o = .inl (some (.int r)) ∧ u = (n, K, A', Lg, G) ∧ Q r A') := ⟨_, rfl⟩
  rw [← hP]
  refine jMet_of rfl rfl rfl (Nat.le_of_ble_eq_true rfl) ?_
  show J Γ RX10 cX10_feed 6 (some .int) "feed" [] 2 0 0 0 [(0, .ref 1198), (1, .int p1), (2, .int p2), (3, .int p3), (4, .int p4), (5, .int p5)] [] (n, K, A, Lg, G) P
  refine j_aload_n 0 rfl dX10_feed_0 ?_
  refine j_getfi fl_X10_175_9 rfl (m_lt hf (by decide)) (fk_1198 hf) dX10_feed_1 ?_
  refine j_bipush (v := 20) dX10_feed_4 (by decide) ?_
  refine j_iadd dX10_feed_6 ?_
  refine j_sipush (v := 2000) dX10_feed_7 (by decide) ?_
  refine j_icmp_le (tgt := 15) dX10_feed_10 (by decide) (fun c => ?_) (fun c => ?_)
  · rw [if_pos c] at h
    refine j_aload_n 0 rfl dX10_feed_15 ?_
    refine j_iload_n 1 rfl dX10_feed_16 ?_
    refine j_callV (b := 1198) (As := [.int p1]) (st := []) (C := RX10) (kc' := 0) (ks' := 0) (tX10_put hf p1 _ h) myX10_put rfl q1754 q1756 qs57 (by decide) (fun s9 H9 hK9 hR9 h69 => jIs_in hK9 hR9 h69 (m_lt hf (by decide)) (fk_1198 hf) rfl) rfl (Nat.le_of_ble_eq_true rfl) rfl (by decide) (Nat.le_refl 0) (Nat.le_refl 0) dX10_feed_17 (fun v9 u9 hq => ?_) (fun k9 u9 hq => by obtain ⟨_, e9, _⟩ := hq; cases e9)
    obtain ⟨A1, e9, rfl, h⟩ := hq
    obtain rfl := Sum.inl.inj e9
    show J Γ RX10 cX10_feed 6 (some .int) "feed" [] 2 0 0 20 [(0, .ref 1198), (1, .int p1), (2, .int p2), (3, .int p3), (4, .int p4), (5, .int p5)] [] (n, K, A1, Lg, G) P
    refine j_aload_n 0 rfl dX10_feed_20 ?_
    refine j_iload_n 2 rfl dX10_feed_21 ?_
    refine j_callV (b := 1198) (As := [.int p2]) (st := []) (C := RX10) (kc' := 0) (ks' := 0) (tX10_put hf p2 _ h) myX10_put rfl q1754 q1756 qs57 (by decide) (fun s9 H9 hK9 hR9 h69 => jIs_in hK9 hR9 h69 (m_lt hf (by decide)) (fk_1198 hf) rfl) rfl (Nat.le_of_ble_eq_true rfl) rfl (by decide) (Nat.le_refl 0) (Nat.le_refl 0) dX10_feed_22 (fun v9 u9 hq => ?_) (fun k9 u9 hq => by obtain ⟨_, e9, _⟩ := hq; cases e9)
    obtain ⟨A2, e9, rfl, h⟩ := hq
    obtain rfl := Sum.inl.inj e9
    show J Γ RX10 cX10_feed 6 (some .int) "feed" [] 2 0 0 25 [(0, .ref 1198), (1, .int p1), (2, .int p2), (3, .int p3), (4, .int p4), (5, .int p5)] [] (n, K, A2, Lg, G) P
    refine j_aload_n 0 rfl dX10_feed_25 ?_
    refine j_iload_n 3 rfl dX10_feed_26 ?_
    refine j_callV (b := 1198) (As := [.int p3]) (st := []) (C := RX10) (kc' := 0) (ks' := 0) (tX10_put hf p3 _ h) myX10_put rfl q1754 q1756 qs57 (by decide) (fun s9 H9 hK9 hR9 h69 => jIs_in hK9 hR9 h69 (m_lt hf (by decide)) (fk_1198 hf) rfl) rfl (Nat.le_of_ble_eq_true rfl) rfl (by decide) (Nat.le_refl 0) (Nat.le_refl 0) dX10_feed_27 (fun v9 u9 hq => ?_) (fun k9 u9 hq => by obtain ⟨_, e9, _⟩ := hq; cases e9)
    obtain ⟨A3, e9, rfl, h⟩ := hq
    obtain rfl := Sum.inl.inj e9
    show J Γ RX10 cX10_feed 6 (some .int) "feed" [] 2 0 0 30 [(0, .ref 1198), (1, .int p1), (2, .int p2), (3, .int p3), (4, .int p4), (5, .int p5)] [] (n, K, A3, Lg, G) P
    refine j_aload_n 0 rfl dX10_feed_30 ?_
    refine j_iload 4 rfl dX10_feed_31 ?_
    refine j_callV (b := 1198) (As := [.int p4]) (st := []) (C := RX10) (kc' := 0) (ks' := 0) (tX10_put hf p4 _ h) myX10_put rfl q1754 q1756 qs57 (by decide) (fun s9 H9 hK9 hR9 h69 => jIs_in hK9 hR9 h69 (m_lt hf (by decide)) (fk_1198 hf) rfl) rfl (Nat.le_of_ble_eq_true rfl) rfl (by decide) (Nat.le_refl 0) (Nat.le_refl 0) dX10_feed_33 (fun v9 u9 hq => ?_) (fun k9 u9 hq => by obtain ⟨_, e9, _⟩ := hq; cases e9)
    obtain ⟨A4, e9, rfl, h⟩ := hq
    obtain rfl := Sum.inl.inj e9
    show J Γ RX10 cX10_feed 6 (some .int) "feed" [] 2 0 0 36 [(0, .ref 1198), (1, .int p1), (2, .int p2), (3, .int p3), (4, .int p4), (5, .int p5)] [] (n, K, A4, Lg, G) P
    refine j_aload_n 0 rfl dX10_feed_36 ?_
    refine j_iload 5 rfl dX10_feed_37 ?_
    refine j_callV (b := 1198) (As := [.int p5]) (st := []) (C := RX10) (kc' := 0) (ks' := 0) (tX10_put hf p5 _ h) myX10_put rfl q1754 q1756 qs57 (by decide) (fun s9 H9 hK9 hR9 h69 => jIs_in hK9 hR9 h69 (m_lt hf (by decide)) (fk_1198 hf) rfl) rfl (Nat.le_of_ble_eq_true rfl) rfl (by decide) (Nat.le_refl 0) (Nat.le_refl 0) dX10_feed_39 (fun v9 u9 hq => ?_) (fun k9 u9 hq => by obtain ⟨_, e9, _⟩ := hq; cases e9)
    obtain ⟨A5, e9, rfl, h⟩ := hq
    obtain rfl := Sum.inl.inj e9
    show J Γ RX10 cX10_feed 6 (some .int) "feed" [] 2 0 0 42 [(0, .ref 1198), (1, .int p1), (2, .int p2), (3, .int p3), (4, .int p4), (5, .int p5)] [] (n, K, A5, Lg, G) P
    refine j_aload_n 0 rfl dX10_feed_42 ?_
    refine j_getfi fl_X10_175_9 rfl (m_lt hf (by decide)) (fk_1198 hf) dX10_feed_43 ?_
    refine j_iret rfl ?_ dX10_feed_46
    rw [hP]
    exact ⟨A5 1198 2, A5, rfl, rfl, h⟩
  · rw [if_neg c] at h
    refine j_iconst (v := (-1)) dX10_feed_13 (by decide) ?_
    refine j_iret rfl ?_ dX10_feed_14
    rw [hP]
    exact ⟨(-1), A, rfl, rfl, h⟩
theorem myX10_back : jY yX10_back cX10_back 2 (some .int) 1 := ⟨q1761, q139, by decide +kernel, by decide +kernel, by decide⟩
def fX10_back (A : pA) (p1 : Int32) (Q : Int32 → pA → Prop) : Prop :=
    (if p1 < 0 then Q (-1) A else (if p1 ≤ (A 1198 2) then ∀ A1 : pA, A1 = pup A 1198 2 ((A 1198 2) - p1) → Q (A1 1198 2) A1 else Q (-1) A))
theorem tX10_back {Γ : jG} {n : Nat} {K : Nat → pKd} {G : pG} {Lg : pL} (hf : mOK n K G) {A : pA} (p1 : Int32) (Q : Int32 → pA → Prop) (h : fX10_back A p1 Q) : jMet Γ yX10_back cX10_back 2 (some .int) [] 1 0 0 [.ref 1198, .int p1] (n, K, A, Lg, G) (fun o u => ∃ (r : Int32) (A' : pA), o = .inl (some (.int r)) ∧ u = (n, K, A', Lg, G) ∧ Q r A') := by
  unfold fX10_back at h
  obtain ⟨P, hP⟩ : ∃ P : jO → pS → Prop, P = (fun o u => ∃ (r : Int32) (A' : pA), o = .inl (some (.int r)) ∧ u = (n, K, A', Lg, G) ∧ Q r A') := ⟨_, rfl⟩
  rw [← hP]
  refine jMet_of rfl rfl rfl (Nat.le_of_ble_eq_true rfl) ?_
  show J Γ RX10 cX10_back 2 (some .int) "back" [] 1 0 0 0 [(0, .ref 1198), (1, .int p1)] [] (n, K, A, Lg, G) P
  refine j_iload_n 1 rfl dX10_back_0 ?_
  refine j_if_lt (tgt := 12) dX10_back_1 (by decide) (fun c => ?_) (fun c => ?_)
  · rw [if_pos c] at h
    refine j_iconst (v := (-1)) dX10_back_12 (by decide) ?_
    refine j_iret rfl ?_ dX10_back_13
    rw [hP]
    exact ⟨(-1), A, rfl, rfl, h⟩
  · rw [if_neg c] at h
    refine j_iload_n 1 rfl dX10_back_4 ?_
    refine j_aload_n 0 rfl dX10_back_5 ?_
    refine j_getfi fl_X10_175_9 rfl (m_lt hf (by decide)) (fk_1198 hf) dX10_back_6 ?_
    refine j_icmp_le (tgt := 14) dX10_back_9 (by decide) (fun c => ?_) (fun c => ?_)
    · rw [if_pos c] at h
      refine j_aload_n 0 rfl dX10_back_14 ?_
      refine j_dup rfl dX10_back_15 ?_
      refine j_getfi fl_X10_175_9 rfl (m_lt hf (by decide)) (fk_1198 hf) dX10_back_16 ?_
      refine j_iload_n 1 rfl dX10_back_19 ?_
      refine j_isub dX10_back_20 ?_
      refine j_putfiE (fp_X10_175_9 _) rfl rfl rfl (m_lt hf (by decide)) (fk_1198 hf) dX10_back_21 (fun A1 eA1 => ?_)
      replace h := h A1 eA1
      refine j_aload_n 0 rfl dX10_back_24 ?_
      refine j_getfi fl_X10_175_9 rfl (m_lt hf (by decide)) (fk_1198 hf) dX10_back_25 ?_
      refine j_iret rfl ?_ dX10_back_28
      rw [hP]
      exact ⟨A1 1198 2, A1, rfl, rfl, h⟩
    · rw [if_neg c] at h
      refine j_iconst (v := (-1)) dX10_back_12 (by decide) ?_
      refine j_iret rfl ?_ dX10_back_13
      rw [hP]
      exact ⟨(-1), A, rfl, rfl, h⟩
theorem myX10_byteAt : jY yX10_byteAt cX10_byteAt 2 (some .int) 1 := ⟨q1773, q139, by decide +kernel, by decide +kernel, by decide⟩
def fX10_byteAt (A : pA) (p1 : Int32) (Q : Int32 → Prop) : Prop :=
    (if (A 1198 4) ≤ p1 then Q 0 else (vp_in p1 2000) ∧ (Q ((A 1200 (p1).toNatClampNeg) &&& 255)))
theorem tX10_byteAt {Γ : jG} {n : Nat} {K : Nat → pKd} {G : pG} {Lg : pL} (hf : mOK n K G) {A : pA} (p1 : Int32) (Q : Int32 → Prop) (h : fX10_byteAt A p1 Q) : jMet Γ yX10_byteAt cX10_byteAt 2 (some .int) [] 1 0 0 [.ref 1198, .int p1] (n, K, A, Lg, G) (fun o u => ∃ (r : Int32), o = .inl (some (.int r)) ∧ u = (n, K, A, Lg, G) ∧ Q r) := by
  unfold fX10_byteAt at h
  obtain ⟨P, hP⟩ : ∃ P : jO → pS → Prop, P = (fun o u => ∃ (r : Int32), o = .inl (some (.int r)) ∧ u = (n, K, A, Lg, G) ∧ Q r) := ⟨_, rfl⟩
  rw [← hP]
  refine jMet_of rfl rfl rfl (Nat.le_of_ble_eq_true rfl) ?_
  show J Γ RX10 cX10_byteAt 2 (some .int) "byteAt" [] 1 0 0 0 [(0, .ref 1198), (1, .int p1)] [] (n, K, A, Lg, G) P
  refine j_iload_n 1 rfl dX10_byteAt_0 ?_
  refine j_aload_n 0 rfl dX10_byteAt_1 ?_
  refine j_getfi fl_X10_181_9 rfl (m_lt hf (by decide)) (fk_1198 hf) dX10_byteAt_2 ?_
  refine j_icmp_ge (tgt := 21) dX10_byteAt_5 (by decide) (fun c => ?_) (fun c => ?_)
  · rw [if_pos c] at h
    refine j_iconst (v := 0) dX10_byteAt_21 (by decide) ?_
    refine j_iret rfl ?_ dX10_byteAt_22
    rw [hP]
    exact ⟨0, rfl, rfl, h⟩
  · rw [if_neg c] at h
    refine j_aload_n 0 rfl dX10_byteAt_8 ?_
    refine j_getfr fl_X10_17_9 rfl (m_lt hf (by decide)) (fk_1198 hf) (fg_1198_3 hf) dX10_byteAt_9 ?_
    refine j_iload_n 1 rfl dX10_byteAt_12 ?_
    obtain ⟨b1, h⟩ := h
    refine j_baldJ (j := (p1).toNatClampNeg) (m_lt hf (by decide)) (fk_1200 hf) b1 rfl dX10_byteAt_13 ?_
    refine j_sipush (v := 255) dX10_byteAt_14 (by decide) ?_
    refine j_iand dX10_byteAt_17 ?_
    refine j_goto (tgt := 22) dX10_byteAt_18 (by decide) ?_
    refine j_iret rfl ?_ dX10_byteAt_22
    rw [hP]
    exact ⟨(A 1200 (p1).toNatClampNeg) &&& 255, rfl, rfl, h⟩
theorem myX10_isDigit : jY yX10_isDigit cX10_isDigit 1 (some .boolean) 1 := ⟨q1783, q139, by decide +kernel, by decide +kernel, by decide⟩
def fX10_isDigit (A : pA) (p0 : Int32) (Q : Int32 → Prop) : Prop :=
    (if p0 < 48 then Q 0 else (if 57 < p0 then Q 0 else Q 1))
theorem tX10_isDigit {Γ : jG} {n : Nat} {K : Nat → pKd} {G : pG} {Lg : pL} (hf : mOK n K G) {A : pA} (p0 : Int32) (Q : Int32 → Prop) (h : fX10_isDigit A p0 Q) : jMet Γ yX10_isDigit cX10_isDigit 1 (some .boolean) [] 1 0 0 [.int p0] (n, K, A, Lg, G) (fun o u => ∃ (r : Int32), o = .inl (some (.int r)) ∧ u = (n, K, A, Lg, G) ∧ Q r) := by
  unfold fX10_isDigit at h
  obtain ⟨P, hP⟩ : ∃ P : jO → pS → Prop, P = (fun o u => ∃ (r : Int32), o = .inl (some (.int r)) ∧ u = (n, K, A, Lg, G) ∧ Q r) := ⟨_, rfl⟩
  rw [← hP]
  refine jMet_of rfl rfl rfl (Nat.le_of_ble_eq_true rfl) ?_
  show J Γ RX10 cX10_isDigit 1 (some .boolean) "isDigit" [] 1 0 0 0 [(0, .int p0)] [] (n, K, A, Lg, G) P
  refine j_iload_n 0 rfl dX10_isDigit_0 ?_
  refine j_bipush (v := 48) dX10_isDigit_1 (by decide) ?_
  refine j_icmp_lt (tgt := 16) dX10_isDigit_3 (by decide) (fun c => ?_) (fun c => ?_)
  · rw [if_pos c] at h
    refine j_iconst (v := 0) dX10_isDigit_16 (by decide) ?_
    refine j_zret rfl (by decide) ?_ dX10_isDigit_17
    rw [hP]
    exact ⟨0, rfl, rfl, h⟩
  · rw [if_neg c] at h
    refine j_iload_n 0 rfl dX10_isDigit_6 ?_
    refine j_bipush (v := 57) dX10_isDigit_7 (by decide) ?_
    refine j_icmp_gt (tgt := 16) dX10_isDigit_9 (by decide) (fun c => ?_) (fun c => ?_)
    · rw [if_pos c] at h
      refine j_iconst (v := 0) dX10_isDigit_16 (by decide) ?_
      refine j_zret rfl (by decide) ?_ dX10_isDigit_17
      rw [hP]
      exact ⟨0, rfl, rfl, h⟩
    · rw [if_neg c] at h
      refine j_iconst (v := 1) dX10_isDigit_12 (by decide) ?_
      refine j_goto (tgt := 17) dX10_isDigit_13 (by decide) ?_
      refine j_zret rfl (by decide) ?_ dX10_isDigit_17
      rw [hP]
      exact ⟨1, rfl, rfl, h⟩
theorem myX10_isLetter : jY yX10_isLetter cX10_isLetter 1 (some .boolean) 1 := ⟨q1780, q139, by decide +kernel, by decide +kernel, by decide⟩
def fX10_isLetter (A : pA) (p0 : Int32) (Q : Int32 → Prop) : Prop :=
    (if p0 < 97 then Q 0 else (if 122 < p0 then Q 0 else Q 1))
theorem tX10_isLetter {Γ : jG} {n : Nat} {K : Nat → pKd} {G : pG} {Lg : pL} (hf : mOK n K G) {A : pA} (p0 : Int32) (Q : Int32 → Prop) (h : fX10_isLetter A p0 Q) : jMet Γ yX10_isLetter cX10_isLetter 1 (some .boolean) [] 1 0 0 [.int p0] (n, K, A, Lg, G) (fun o u => ∃ (r : Int32), o = .inl (some (.int r)) ∧ u = (n, K, A, Lg, G) ∧ Q r) := by
  unfold fX10_isLetter at h
  obtain ⟨P, hP⟩ : ∃ P : jO → pS → Prop, P = (fun o u => ∃ (r : Int32), o = .inl (some (.int r)) ∧ u = (n, K, A, Lg, G) ∧ Q r) := ⟨_, rfl⟩
  rw [← hP]
  refine jMet_of rfl rfl rfl (Nat.le_of_ble_eq_true rfl) ?_
  show J Γ RX10 cX10_isLetter 1 (some .boolean) "isLetter" [] 1 0 0 0 [(0, .int p0)] [] (n, K, A, Lg, G) P
  refine j_iload_n 0 rfl dX10_isLetter_0 ?_
  refine j_bipush (v := 97) dX10_isLetter_1 (by decide) ?_
  refine j_icmp_lt (tgt := 16) dX10_isLetter_3 (by decide) (fun c => ?_) (fun c => ?_)
  · rw [if_pos c] at h
    refine j_iconst (v := 0) dX10_isLetter_16 (by decide) ?_
    refine j_zret rfl (by decide) ?_ dX10_isLetter_17
    rw [hP]
    exact ⟨0, rfl, rfl, h⟩
  · rw [if_neg c] at h
    refine j_iload_n 0 rfl dX10_isLetter_6 ?_
    refine j_bipush (v := 122) dX10_isLetter_7 (by decide) ?_
    refine j_icmp_gt (tgt := 16) dX10_isLetter_9 (by decide) (fun c => ?_) (fun c => ?_)
    · rw [if_pos c] at h
      refine j_iconst (v := 0) dX10_isLetter_16 (by decide) ?_
      refine j_zret rfl (by decide) ?_ dX10_isLetter_17
      rw [hP]
      exact ⟨0, rfl, rfl, h⟩
    · rw [if_neg c] at h
      refine j_iconst (v := 1) dX10_isLetter_12 (by decide) ?_
      refine j_goto (tgt := 17) dX10_isLetter_13 (by decide) ?_
      refine j_zret rfl (by decide) ?_ dX10_isLetter_17
      rw [hP]
      exact ⟨1, rfl, rfl, h⟩
theorem myX10_token : jY yX10_token cX10_token 6 none 4 := ⟨q1777, q139, by decide +kernel, by decide +kernel, by decide⟩
def fX10_token (A : pA) (Lg : pL) (p1 : Int32) (p2 : Int32) (p3 : Int32) (p4 : Int64) (Q : pA → pL → Prop) : Prop :=
    (vp_in (A 1198 10) 403) ∧ (∀ A2 : pA, A2 = pup A 1201 (A 1198 10).toNatClampNeg p1 → (vp_in (A2 1198 10) 403) ∧ (∀ A4 : pA, A4 = pup A2 1202 (A2 1198 10).toNatClampNeg p2 → (vp_in (A4 1198 10) 403) ∧ (∀ A6 : pA, A6 = pup A4 1203 (A4 1198 10).toNatClampNeg p3 → (vp_in (A6 1198 10) 403) ∧ (∀ L8 : pL, L8 = pup Lg 1204 (A6 1198 10).toNatClampNeg p4 → ∀ A9 : pA, A9 = pup A6 1198 10 ((A6 1198 10) + 1) → Q A9 L8))))
theorem tX10_token {Γ : jG} {n : Nat} {K : Nat → pKd} {G : pG} (hf : mOK n K G) {A : pA} {Lg : pL} (p1 : Int32) (p2 : Int32) (p3 : Int32) (p4 : Int64) (Q : pA → pL → Prop) (h : fX10_token A Lg p1 p2 p3 p4 Q) : jMet Γ yX10_token cX10_token 6 none [] 1 0 0 [.ref 1198, .int p1, .int p2, .int p3, .long p4] (n, K, A, Lg, G) (fun o u => ∃ (A' : pA) (Lg' : pL), o = .inl none ∧ u = (n, K, A', Lg', G) ∧ Q A' Lg') := by
  unfold fX10_token at h
  obtain ⟨P, hP⟩ : ∃ P : jO → pS → Prop, P = (fun o u => ∃ (A' : pA) (Lg' : pL), o = .inl none ∧ u = (n, K, A', Lg', G) ∧ Q A' Lg') := ⟨_, rfl⟩
  rw [← hP]
  refine jMet_of rfl rfl rfl (Nat.le_of_ble_eq_true rfl) ?_
  show J Γ RX10 cX10_token 6 none "token" [] 1 0 0 0 [(0, .ref 1198), (1, .int p1), (2, .int p2), (3, .int p3), (4, .long p4)] [] (n, K, A, Lg, G) P
  refine j_aload_n 0 rfl dX10_token_0 ?_
  refine j_getfr fl_X10_20_9 rfl (m_lt hf (by decide)) (fk_1198 hf) (fg_1198_5 hf) dX10_token_1 ?_
  refine j_aload_n 0 rfl dX10_token_4 ?_
  refine j_getfi fl_X10_190_9 rfl (m_lt hf (by decide)) (fk_1198 hf) dX10_token_5 ?_
  refine j_iload_n 1 rfl dX10_token_8 ?_
  obtain ⟨b1, h⟩ := h
  refine j_iastJ (j := (A 1198 10).toNatClampNeg) (m_lt hf (by decide)) (fk_1201 hf) b1 rfl dX10_token_9 (fun A2 eA2 => ?_)
  replace h := h A2 eA2
  refine j_aload_n 0 rfl dX10_token_10 ?_
  refine j_getfr fl_X10_24_9 rfl (m_lt hf (by decide)) (fk_1198 hf) (fg_1198_6 hf) dX10_token_11 ?_
  refine j_aload_n 0 rfl dX10_token_14 ?_
  refine j_getfi fl_X10_190_9 rfl (m_lt hf (by decide)) (fk_1198 hf) dX10_token_15 ?_
  refine j_iload_n 2 rfl dX10_token_18 ?_
  obtain ⟨b3, h⟩ := h
  refine j_iastJ (j := (A2 1198 10).toNatClampNeg) (m_lt hf (by decide)) (fk_1202 hf) b3 rfl dX10_token_19 (fun A4 eA4 => ?_)
  replace h := h A4 eA4
  refine j_aload_n 0 rfl dX10_token_20 ?_
  refine j_getfr fl_X10_27_9 rfl (m_lt hf (by decide)) (fk_1198 hf) (fg_1198_7 hf) dX10_token_21 ?_
  refine j_aload_n 0 rfl dX10_token_24 ?_
  refine j_getfi fl_X10_190_9 rfl (m_lt hf (by decide)) (fk_1198 hf) dX10_token_25 ?_
  refine j_iload_n 3 rfl dX10_token_28 ?_
  obtain ⟨b5, h⟩ := h
  refine j_iastJ (j := (A4 1198 10).toNatClampNeg) (m_lt hf (by decide)) (fk_1203 hf) b5 rfl dX10_token_29 (fun A6 eA6 => ?_)
  replace h := h A6 eA6
  refine j_aload_n 0 rfl dX10_token_30 ?_
  refine j_getfr fl_X10_30_9 rfl (m_lt hf (by decide)) (fk_1198 hf) (fg_1198_8 hf) dX10_token_31 ?_
  refine j_aload_n 0 rfl dX10_token_34 ?_
  refine j_getfi fl_X10_190_9 rfl (m_lt hf (by decide)) (fk_1198 hf) dX10_token_35 ?_
  refine j_lload 4 rfl dX10_token_38 ?_
  obtain ⟨b7, h⟩ := h
  refine j_lastJ (j := (A6 1198 10).toNatClampNeg) (m_lt hf (by decide)) (fk_1204 hf) b7 rfl dX10_token_40 (fun L8 eL8 => ?_)
  replace h := h L8 eL8
  refine j_aload_n 0 rfl dX10_token_41 ?_
  refine j_dup rfl dX10_token_42 ?_
  refine j_getfi fl_X10_190_9 rfl (m_lt hf (by decide)) (fk_1198 hf) dX10_token_43 ?_
  refine j_iconst (v := 1) dX10_token_46 (by decide) ?_
  refine j_iadd dX10_token_47 ?_
  refine j_putfiE (fp_X10_190_9 _) rfl rfl rfl (m_lt hf (by decide)) (fk_1198 hf) dX10_token_48 (fun A9 eA9 => ?_)
  replace h := h A9 eA9
  refine j_vret rfl ?_ dX10_token_51
  rw [hP]
  exact ⟨A9, L8, rfl, rfl, h⟩
theorem myX10_sign : jY yX10_sign cX10_sign 5 (some .int) 3 := ⟨q1787, q139, by decide +kernel, by decide +kernel, by decide⟩
def fX10_sign_J95   (Q : Int32 → pA → pL → Prop) (l1 : Int32) (l4 : Int32) (A : pA) (Lg : pL) : Prop :=
    fX10_token A Lg l4 l1 0 0 (fun A1 Lg2 => Q 1 A1 Lg2)
theorem fX10_sign_J95_ok {Γ : jG} {n : Nat} {K : Nat → pKd} {G : pG} (hf : mOK n K G) (Q : Int32 → pA → pL → Prop) (P : jO → pS → Prop) (hP : P = (fun o u => ∃ (r : Int32) (A' : pA) (Lg' : pL), o = .inl (some (.int r)) ∧ u = (n, K, A', Lg', G) ∧ Q r A' Lg'))   (l1 : Int32) (l4 : Int32) (A : pA) (Lg : pL) (h : fX10_sign_J95   Q l1 l4 A Lg) : J Γ RX10 cX10_sign 5 (some .int) "sign" [] 2 0 0 95 [(0, .ref 1198), (1, .int l1), (4, .int l4)] [] (n, K, A, Lg, G) P := by
  unfold fX10_sign_J95 at h
  refine j_aload_n 0 rfl dX10_sign_95 ?_
  refine j_iload 2 rfl dX10_sign_96 ?_
  refine j_iload_n 1 rfl dX10_sign_98 ?_
  refine j_iconst (v := 0) dX10_sign_99 (by decide) ?_
  refine j_lconst (v := 0) dX10_sign_100 (by decide) ?_
  refine j_callV (b := 1198) (As := [.int l4, .int l1, .int 0, .long 0]) (st := []) (C := RX10) (kc' := 0) (ks' := 0) (tX10_token hf l4 l1 0 0 _ h) myX10_token rfl q1774 q1776 qs60 (by decide) (fun s9 H9 hK9 hR9 h69 => jIs_in hK9 hR9 h69 (m_lt hf (by decide)) (fk_1198 hf) rfl) rfl (Nat.le_of_ble_eq_true rfl) rfl (by decide) (Nat.le_refl 0) (Nat.le_refl 0) dX10_sign_101 (fun v9 u9 hq => ?_) (fun k9 u9 hq => by obtain ⟨_, _, e9, _⟩ := hq; cases e9)
  obtain ⟨A1, Lg2, e9, rfl, h⟩ := hq
  obtain rfl := Sum.inl.inj e9
  show J Γ RX10 cX10_sign 5 (some .int) "sign" [] 2 0 0 104 [(0, .ref 1198), (1, .int l1), (4, .int l4)] [] (n, K, A1, Lg2, G) P
  refine j_iconst (v := 1) dX10_sign_104 (by decide) ?_
  refine j_iret rfl ?_ dX10_sign_105
  rw [hP]
  exact ⟨1, A1, Lg2, rfl, rfl, h⟩
def fX10_sign_J85   (Q : Int32 → pA → pL → Prop) (l1 : Int32) (l2 : Int32) (l4 : Int32) (A : pA) (Lg : pL) : Prop :=
    (if l2 = 60 then fX10_sign_J95   Q l1 13 A Lg else fX10_sign_J95   Q l1 l4 A Lg)
theorem fX10_sign_J85_ok {Γ : jG} {n : Nat} {K : Nat → pKd} {G : pG} (hf : mOK n K G) (Q : Int32 → pA → pL → Prop) (P : jO → pS → Prop) (hP : P = (fun o u => ∃ (r : Int32) (A' : pA) (Lg' : pL), o = .inl (some (.int r)) ∧ u = (n, K, A', Lg', G) ∧ Q r A' Lg'))   (l1 : Int32) (l2 : Int32) (l4 : Int32) (A : pA) (Lg : pL) (h : fX10_sign_J85   Q l1 l2 l4 A Lg) : J Γ RX10 cX10_sign 5 (some .int) "sign" [] 2 0 0 85 [(0, .ref 1198), (1, .int l1), (2, .int l2), (4, .int l4)] [] (n, K, A, Lg, G) P := by
  unfold fX10_sign_J85 at h
  refine j_iload_n 2 rfl dX10_sign_85 ?_
  refine j_bipush (v := 60) dX10_sign_86 (by decide) ?_
  refine j_icmp_ne (tgt := 95) dX10_sign_88 (by decide) (fun c => ?_) (fun c => ?_)
  · rw [if_neg c] at h
    refine j_ls [0, 1, 3] rfl ?_
    exact fX10_sign_J95_ok hf Q P hP   l1 l4 A Lg h
  · rw [if_pos c] at h
    refine j_bipush (v := 13) dX10_sign_91 (by decide) ?_
    refine j_istore (by decide) rfl dX10_sign_93 ?_
    refine j_ls [1, 2, 0] rfl ?_
    exact fX10_sign_J95_ok hf Q P hP   l1 13 A Lg h
def fX10_sign_J75   (Q : Int32 → pA → pL → Prop) (l1 : Int32) (l2 : Int32) (l4 : Int32) (A : pA) (Lg : pL) : Prop :=
    (if l2 = 47 then fX10_sign_J85   Q l1 l2 15 A Lg else fX10_sign_J85   Q l1 l2 l4 A Lg)
theorem fX10_sign_J75_ok {Γ : jG} {n : Nat} {K : Nat → pKd} {G : pG} (hf : mOK n K G) (Q : Int32 → pA → pL → Prop) (P : jO → pS → Prop) (hP : P = (fun o u => ∃ (r : Int32) (A' : pA) (Lg' : pL), o = .inl (some (.int r)) ∧ u = (n, K, A', Lg', G) ∧ Q r A' Lg'))   (l1 : Int32) (l2 : Int32) (l4 : Int32) (A : pA) (Lg : pL) (h : fX10_sign_J75   Q l1 l2 l4 A Lg) : J Γ RX10 cX10_sign 5 (some .int) "sign" [] 2 0 0 75 [(0, .ref 1198), (1, .int l1), (2, .int l2), (4, .int l4)] [] (n, K, A, Lg, G) P := by
  unfold fX10_sign_J75 at h
  refine j_iload_n 2 rfl dX10_sign_75 ?_
  refine j_bipush (v := 47) dX10_sign_76 (by decide) ?_
  refine j_icmp_ne (tgt := 85) dX10_sign_78 (by decide) (fun c => ?_) (fun c => ?_)
  · rw [if_neg c] at h
    exact fX10_sign_J85_ok hf Q P hP   l1 l2 l4 A Lg h
  · rw [if_pos c] at h
    refine j_bipush (v := 15) dX10_sign_81 (by decide) ?_
    refine j_istore (by decide) rfl dX10_sign_83 ?_
    refine j_ls [1, 2, 3, 0] rfl ?_
    exact fX10_sign_J85_ok hf Q P hP   l1 l2 15 A Lg h
def fX10_sign_J65   (Q : Int32 → pA → pL → Prop) (l1 : Int32) (l2 : Int32) (l4 : Int32) (A : pA) (Lg : pL) : Prop :=
    (if l2 = 42 then fX10_sign_J75   Q l1 l2 10 A Lg else fX10_sign_J75   Q l1 l2 l4 A Lg)
theorem fX10_sign_J65_ok {Γ : jG} {n : Nat} {K : Nat → pKd} {G : pG} (hf : mOK n K G) (Q : Int32 → pA → pL → Prop) (P : jO → pS → Prop) (hP : P = (fun o u => ∃ (r : Int32) (A' : pA) (Lg' : pL), o = .inl (some (.int r)) ∧ u = (n, K, A', Lg', G) ∧ Q r A' Lg'))   (l1 : Int32) (l2 : Int32) (l4 : Int32) (A : pA) (Lg : pL) (h : fX10_sign_J65   Q l1 l2 l4 A Lg) : J Γ RX10 cX10_sign 5 (some .int) "sign" [] 2 0 0 65 [(0, .ref 1198), (1, .int l1), (2, .int l2), (4, .int l4)] [] (n, K, A, Lg, G) P := by
  unfold fX10_sign_J65 at h
  refine j_iload_n 2 rfl dX10_sign_65 ?_
  refine j_bipush (v := 42) dX10_sign_66 (by decide) ?_
  refine j_icmp_ne (tgt := 75) dX10_sign_68 (by decide) (fun c => ?_) (fun c => ?_)
  · rw [if_neg c] at h
    exact fX10_sign_J75_ok hf Q P hP   l1 l2 l4 A Lg h
  · rw [if_pos c] at h
    refine j_bipush (v := 10) dX10_sign_71 (by decide) ?_
    refine j_istore (by decide) rfl dX10_sign_73 ?_
    refine j_ls [1, 2, 3, 0] rfl ?_
    exact fX10_sign_J75_ok hf Q P hP   l1 l2 10 A Lg h
def fX10_sign_J55   (Q : Int32 → pA → pL → Prop) (l1 : Int32) (l2 : Int32) (l4 : Int32) (A : pA) (Lg : pL) : Prop :=
    (if l2 = 45 then fX10_sign_J65   Q l1 l2 9 A Lg else fX10_sign_J65   Q l1 l2 l4 A Lg)
theorem fX10_sign_J55_ok {Γ : jG} {n : Nat} {K : Nat → pKd} {G : pG} (hf : mOK n K G) (Q : Int32 → pA → pL → Prop) (P : jO → pS → Prop) (hP : P = (fun o u => ∃ (r : Int32) (A' : pA) (Lg' : pL), o = .inl (some (.int r)) ∧ u = (n, K, A', Lg', G) ∧ Q r A' Lg'))   (l1 : Int32) (l2 : Int32) (l4 : Int32) (A : pA) (Lg : pL) (h : fX10_sign_J55   Q l1 l2 l4 A Lg) : J Γ RX10 cX10_sign 5 (some .int) "sign" [] 2 0 0 55 [(0, .ref 1198), (1, .int l1), (2, .int l2), (4, .int l4)] [] (n, K, A, Lg, G) P := by
  unfold fX10_sign_J55 at h
  refine j_iload_n 2 rfl dX10_sign_55 ?_
  refine j_bipush (v := 45) dX10_sign_56 (by decide) ?_
  refine j_icmp_ne (tgt := 65) dX10_sign_58 (by decide) (fun c => ?_) (fun c => ?_)
  · rw [if_neg c] at h
    exact fX10_sign_J65_ok hf Q P hP   l1 l2 l4 A Lg h
  · rw [if_pos c] at h
    refine j_bipush (v := 9) dX10_sign_61 (by decide) ?_
    refine j_istore (by decide) rfl dX10_sign_63 ?_
    refine j_ls [1, 2, 3, 0] rfl ?_
    exact fX10_sign_J65_ok hf Q P hP   l1 l2 9 A Lg h
def fX10_sign_J43   (Q : Int32 → pA → pL → Prop) (l1 : Int32) (l2 : Int32) (s0 : Int32) (A : pA) (Lg : pL) : Prop :=
    (if l2 = 43 then fX10_sign_J55   Q l1 l2 8 A Lg else fX10_sign_J55   Q l1 l2 s0 A Lg)
theorem fX10_sign_J43_ok {Γ : jG} {n : Nat} {K : Nat → pKd} {G : pG} (hf : mOK n K G) (Q : Int32 → pA → pL → Prop) (P : jO → pS → Prop) (hP : P = (fun o u => ∃ (r : Int32) (A' : pA) (Lg' : pL), o = .inl (some (.int r)) ∧ u = (n, K, A', Lg', G) ∧ Q r A' Lg'))   (l1 : Int32) (l2 : Int32) (s0 : Int32) (A : pA) (Lg : pL) (h : fX10_sign_J43   Q l1 l2 s0 A Lg) : J Γ RX10 cX10_sign 5 (some .int) "sign" [] 2 0 0 43 [(0, .ref 1198), (1, .int l1), (2, .int l2)] [.int s0] (n, K, A, Lg, G) P := by
  unfold fX10_sign_J43 at h
  refine j_istore (by decide) rfl dX10_sign_43 ?_
  refine j_iload_n 3 rfl dX10_sign_45 ?_
  refine j_bipush (v := 43) dX10_sign_46 (by decide) ?_
  refine j_icmp_ne (tgt := 55) dX10_sign_48 (by decide) (fun c => ?_) (fun c => ?_)
  · rw [if_neg c] at h
    refine j_ls [1, 2, 3, 0] rfl ?_
    exact fX10_sign_J55_ok hf Q P hP   l1 l2 s0 A Lg h
  · rw [if_pos c] at h
    refine j_bipush (v := 8) dX10_sign_51 (by decide) ?_
    refine j_istore (by decide) rfl dX10_sign_53 ?_
    refine j_ls [1, 2, 3, 0] rfl ?_
    exact fX10_sign_J55_ok hf Q P hP   l1 l2 8 A Lg h
def fX10_sign (A : pA) (Lg : pL) (p1 : Int32) (p2 : Int32) (p3 : Int32) (Q : Int32 → pA → pL → Prop) : Prop :=
    (if p2 = 59 then fX10_sign_J43   Q p1 p2 4 A Lg else (if p2 = 61 then fX10_sign_J43   Q p1 p2 5 A Lg else (if p2 = 40 then fX10_sign_J43   Q p1 p2 6 A Lg else (if p2 = 41 then fX10_sign_J43   Q p1 p2 7 A Lg else fX10_sign_J43   Q p1 p2 3 A Lg))))
theorem tX10_sign {Γ : jG} {n : Nat} {K : Nat → pKd} {G : pG} (hf : mOK n K G) {A : pA} {Lg : pL} (p1 : Int32) (p2 : Int32) (p3 : Int32) (Q : Int32 → pA → pL → Prop) (h : fX10_sign A Lg p1 p2 p3 Q) : jMet Γ yX10_sign cX10_sign 5 (some .int) [] 2 0 0 [.ref 1198, .int p1, .int p2, .int p3] (n, K, A, Lg, G) (fun o u => ∃ (r : Int32) (A' : pA) (Lg' : pL), o = .inl (some (.int r)) ∧ u = (n, K, A', Lg', G) ∧ Q r A' Lg') := by
  unfold fX10_sign at h
  obtain ⟨P, hP⟩ : ∃ P : jO → pS → Prop, P = (fun o u => ∃ (r : Int32) (A' : pA) (Lg' : pL), o = .inl (some (.int r)) ∧ u = (n, K, A', Lg', G) ∧ Q r A' Lg') := ⟨_, rfl⟩
  rw [← hP]
  refine jMet_of rfl rfl rfl (Nat.le_of_ble_eq_true rfl) ?_
  show J Γ RX10 cX10_sign 5 (some .int) "sign" [] 2 0 0 0 [(0, .ref 1198), (1, .int p1), (2, .int p2), (3, .int p3)] [] (n, K, A, Lg, G) P
  refine j_iload_n 2 rfl dX10_sign_0 ?_
  refine j_bipush (v := 59) dX10_sign_1 (by decide) ?_
  refine j_icmp_ne (tgt := 10) dX10_sign_3 (by decide) (fun c => ?_) (fun c => ?_)
  · rw [if_neg c] at h
    refine j_iload_n 2 rfl dX10_sign_10 ?_
    refine j_bipush (v := 61) dX10_sign_11 (by decide) ?_
    refine j_icmp_ne (tgt := 20) dX10_sign_13 (by decide) (fun c => ?_) (fun c => ?_)
    · rw [if_neg c] at h
      refine j_iload_n 2 rfl dX10_sign_20 ?_
      refine j_bipush (v := 40) dX10_sign_21 (by decide) ?_
      refine j_icmp_ne (tgt := 31) dX10_sign_23 (by decide) (fun c => ?_) (fun c => ?_)
      · rw [if_neg c] at h
        refine j_iload_n 2 rfl dX10_sign_31 ?_
        refine j_bipush (v := 41) dX10_sign_32 (by decide) ?_
        refine j_icmp_ne (tgt := 42) dX10_sign_34 (by decide) (fun c => ?_) (fun c => ?_)
        · rw [if_neg c] at h
          refine j_iconst (v := 3) dX10_sign_42 (by decide) ?_
          refine j_ls [0, 1, 2] rfl ?_
          exact fX10_sign_J43_ok hf Q P hP   p1 p2 3 A Lg h
        · rw [if_pos c] at h
          refine j_bipush (v := 7) dX10_sign_37 (by decide) ?_
          refine j_goto (tgt := 43) dX10_sign_39 (by decide) ?_
          refine j_ls [0, 1, 2] rfl ?_
          exact fX10_sign_J43_ok hf Q P hP   p1 p2 7 A Lg h
      · rw [if_pos c] at h
        refine j_bipush (v := 6) dX10_sign_26 (by decide) ?_
        refine j_goto (tgt := 43) dX10_sign_28 (by decide) ?_
        refine j_ls [0, 1, 2] rfl ?_
        exact fX10_sign_J43_ok hf Q P hP   p1 p2 6 A Lg h
    · rw [if_pos c] at h
      refine j_iconst (v := 5) dX10_sign_16 (by decide) ?_
      refine j_goto (tgt := 43) dX10_sign_17 (by decide) ?_
      refine j_ls [0, 1, 2] rfl ?_
      exact fX10_sign_J43_ok hf Q P hP   p1 p2 5 A Lg h
  · rw [if_pos c] at h
    refine j_iconst (v := 4) dX10_sign_6 (by decide) ?_
    refine j_goto (tgt := 43) dX10_sign_7 (by decide) ?_
    refine j_ls [0, 1, 2] rfl ?_
    exact fX10_sign_J43_ok hf Q P hP   p1 p2 4 A Lg h
theorem myX10_cut : jY yX10_cut cX10_cut 8 none 0 := ⟨q1769, q139, by decide +kernel, by decide +kernel, by decide⟩
def fX10_cut_J291  (k7 : Int32 → pA → pL → Prop) (Q : pA → pL → Prop) (l1 : Int32) (A : pA) (Lg : pL) : Prop :=
    k7 l1 A Lg
theorem fX10_cut_J291_ok {Γ : jG} {n : Nat} {K : Nat → pKd} {G : pG} (hf : mOK n K G) (Q : pA → pL → Prop) (P : jO → pS → Prop) (hP : P = (fun o u => ∃ (A' : pA) (Lg' : pL), o = .inl none ∧ u = (n, K, A', Lg', G) ∧ Q A' Lg')) (k7 : Int32 → pA → pL → Prop) (ok7 : ∀ (l1 : Int32) (A : pA) (Lg : pL), k7 l1 A Lg → J Γ RX10 cX10_cut 8 none "cut" [] 3 0 0 7 [(0, .ref 1198), (1, .int l1)] [] (n, K, A, Lg, G) P) (l1 : Int32) (A : pA) (Lg : pL) (h : fX10_cut_J291  k7 Q l1 A Lg) : J Γ RX10 cX10_cut 8 none "cut" [] 3 0 0 291 [(0, .ref 1198), (1, .int l1)] [] (n, K, A, Lg, G) P := by
  unfold fX10_cut_J291 at h
  refine j_goto (tgt := 7) dX10_cut_291 (by decide) ?_
  exact ok7 l1 A Lg h
def fX10_cut_J67  (k7 : Int32 → pA → pL → Prop) (Q : pA → pL → Prop) (l1 : Int32) (A : pA) (Lg : pL) : Prop :=
    fX10_cut_J291  k7 Q (l1 + 1) A Lg
theorem fX10_cut_J67_ok {Γ : jG} {n : Nat} {K : Nat → pKd} {G : pG} (hf : mOK n K G) (Q : pA → pL → Prop) (P : jO → pS → Prop) (hP : P = (fun o u => ∃ (A' : pA) (Lg' : pL), o = .inl none ∧ u = (n, K, A', Lg', G) ∧ Q A' Lg')) (k7 : Int32 → pA → pL → Prop) (ok7 : ∀ (l1 : Int32) (A : pA) (Lg : pL), k7 l1 A Lg → J Γ RX10 cX10_cut 8 none "cut" [] 3 0 0 7 [(0, .ref 1198), (1, .int l1)] [] (n, K, A, Lg, G) P) (l1 : Int32) (A : pA) (Lg : pL) (h : fX10_cut_J67  k7 Q l1 A Lg) : J Γ RX10 cX10_cut 8 none "cut" [] 3 0 0 67 [(0, .ref 1198), (1, .int l1)] [] (n, K, A, Lg, G) P := by
  unfold fX10_cut_J67 at h
  refine j_iinc (v := l1 + 1) 1 rfl rfl (by decide) rfl dX10_cut_67 ?_
  refine j_goto (tgt := 291) dX10_cut_70 (by decide) ?_
  refine j_ls [1, 0] rfl ?_
  exact fX10_cut_J291_ok hf Q P hP k7 ok7 (l1 + 1) A Lg h
def fX10_cut_J118  (k85 : Int32 → Int32 → Int64 → pA → pL → Prop) (Q : pA → pL → Prop) (l1 : Int32) (l3 : Int32) (l4 : Int64) (A : pA) (Lg : pL) : Prop :=
    k85 l1 (l3 + 1) l4 A Lg
theorem fX10_cut_J118_ok {Γ : jG} {n : Nat} {K : Nat → pKd} {G : pG} (hf : mOK n K G) (Q : pA → pL → Prop) (P : jO → pS → Prop) (hP : P = (fun o u => ∃ (A' : pA) (Lg' : pL), o = .inl none ∧ u = (n, K, A', Lg', G) ∧ Q A' Lg')) (k85 : Int32 → Int32 → Int64 → pA → pL → Prop) (ok85 : ∀ (l1 : Int32) (l3 : Int32) (l4 : Int64) (A : pA) (Lg : pL), k85 l1 l3 l4 A Lg → J Γ RX10 cX10_cut 8 none "cut" [] 3 0 0 85 [(0, .ref 1198), (1, .int l1), (3, .int l3), (4, .long l4)] [] (n, K, A, Lg, G) P) (l1 : Int32) (l3 : Int32) (l4 : Int64) (A : pA) (Lg : pL) (h : fX10_cut_J118  k85 Q l1 l3 l4 A Lg) : J Γ RX10 cX10_cut 8 none "cut" [] 3 0 0 118 [(0, .ref 1198), (1, .int l1), (3, .int l3), (4, .long l4)] [] (n, K, A, Lg, G) P := by
  unfold fX10_cut_J118 at h
  refine j_iinc (v := l3 + 1) 2 rfl rfl (by decide) rfl dX10_cut_118 ?_
  refine j_goto (tgt := 85) dX10_cut_121 (by decide) ?_
  refine j_ls [1, 2, 0, 3] rfl ?_
  exact ok85 l1 (l3 + 1) l4 A Lg h
def fX10_cut_J179  (k7 : Int32 → pA → pL → Prop) (Q : pA → pL → Prop) (l1 : Int32) (l3 : Int32) (l4 : Int64) (l6 : Int32) (A : pA) (Lg : pL) : Prop :=
    fX10_token A Lg l6 l1 0 l4 (fun A1 Lg2 => fX10_cut_J291  k7 Q (l1 + l3) A1 Lg2)
theorem fX10_cut_J179_ok {Γ : jG} {n : Nat} {K : Nat → pKd} {G : pG} (hf : mOK n K G) (Q : pA → pL → Prop) (P : jO → pS → Prop) (hP : P = (fun o u => ∃ (A' : pA) (Lg' : pL), o = .inl none ∧ u = (n, K, A', Lg', G) ∧ Q A' Lg')) (k7 : Int32 → pA → pL → Prop) (ok7 : ∀ (l1 : Int32) (A : pA) (Lg : pL), k7 l1 A Lg → J Γ RX10 cX10_cut 8 none "cut" [] 3 0 0 7 [(0, .ref 1198), (1, .int l1)] [] (n, K, A, Lg, G) P) (l1 : Int32) (l3 : Int32) (l4 : Int64) (l6 : Int32) (A : pA) (Lg : pL) (h : fX10_cut_J179  k7 Q l1 l3 l4 l6 A Lg) : J Γ RX10 cX10_cut 8 none "cut" [] 3 0 0 179 [(0, .ref 1198), (1, .int l1), (3, .int l3), (4, .long l4), (6, .int l6)] [] (n, K, A, Lg, G) P := by
  unfold fX10_cut_J179 at h
  refine j_aload_n 0 rfl dX10_cut_179 ?_
  refine j_iload 4 rfl dX10_cut_180 ?_
  refine j_iload_n 1 rfl dX10_cut_182 ?_
  refine j_iconst (v := 0) dX10_cut_183 (by decide) ?_
  refine j_lload 3 rfl dX10_cut_184 ?_
  refine j_callV (b := 1198) (As := [.int l6, .int l1, .int 0, .long l4]) (st := []) (C := RX10) (kc' := 0) (ks' := 0) (tX10_token hf l6 l1 0 l4 _ h) myX10_token rfl q1774 q1776 qs60 (by decide) (fun s9 H9 hK9 hR9 h69 => jIs_in hK9 hR9 h69 (m_lt hf (by decide)) (fk_1198 hf) rfl) rfl (Nat.le_of_ble_eq_true rfl) rfl (by decide) (Nat.le_refl 0) (Nat.le_refl 0) dX10_cut_186 (fun v9 u9 hq => ?_) (fun k9 u9 hq => by obtain ⟨_, _, e9, _⟩ := hq; cases e9)
  obtain ⟨A1, Lg2, e9, rfl, h⟩ := hq
  obtain rfl := Sum.inl.inj e9
  show J Γ RX10 cX10_cut 8 none "cut" [] 3 0 0 189 [(0, .ref 1198), (1, .int l1), (3, .int l3), (4, .long l4), (6, .int l6)] [] (n, K, A1, Lg2, G) P
  refine j_iload_n 1 rfl dX10_cut_189 ?_
  refine j_iload_n 2 rfl dX10_cut_190 ?_
  refine j_iadd dX10_cut_191 ?_
  refine j_istore_n (by decide) rfl dX10_cut_192 ?_
  refine j_goto (tgt := 291) dX10_cut_193 (by decide) ?_
  refine j_ls [1, 0] rfl ?_
  exact fX10_cut_J291_ok hf Q P hP k7 ok7 (l1 + l3) A1 Lg2 h
def fX10_cut_J173  (k146 : Int32 → Int32 → Int64 → Int32 → Int32 → pA → pL → Prop) (Q : pA → pL → Prop) (l1 : Int32) (l3 : Int32) (l4 : Int64) (l6 : Int32) (l7 : Int32) (A : pA) (Lg : pL) : Prop :=
    k146 l1 l3 l4 l6 (l7 + 1) A Lg
theorem fX10_cut_J173_ok {Γ : jG} {n : Nat} {K : Nat → pKd} {G : pG} (hf : mOK n K G) (Q : pA → pL → Prop) (P : jO → pS → Prop) (hP : P = (fun o u => ∃ (A' : pA) (Lg' : pL), o = .inl none ∧ u = (n, K, A', Lg', G) ∧ Q A' Lg')) (k146 : Int32 → Int32 → Int64 → Int32 → Int32 → pA → pL → Prop) (ok146 : ∀ (l1 : Int32) (l3 : Int32) (l4 : Int64) (l6 : Int32) (l7 : Int32) (A : pA) (Lg : pL), k146 l1 l3 l4 l6 l7 A Lg → J Γ RX10 cX10_cut 8 none "cut" [] 3 0 0 146 [(0, .ref 1198), (1, .int l1), (3, .int l3), (4, .long l4), (6, .int l6), (7, .int l7)] [] (n, K, A, Lg, G) P) (l1 : Int32) (l3 : Int32) (l4 : Int64) (l6 : Int32) (l7 : Int32) (A : pA) (Lg : pL) (h : fX10_cut_J173  k146 Q l1 l3 l4 l6 l7 A Lg) : J Γ RX10 cX10_cut 8 none "cut" [] 3 0 0 173 [(0, .ref 1198), (1, .int l1), (3, .int l3), (4, .long l4), (6, .int l6), (7, .int l7)] [] (n, K, A, Lg, G) P := by
  unfold fX10_cut_J173 at h
  refine j_iinc (v := l7 + 1) 5 rfl rfl (by decide) rfl dX10_cut_173 ?_
  refine j_goto (tgt := 146) dX10_cut_176 (by decide) ?_
  refine j_ls [1, 2, 3, 4, 5, 0] rfl ?_
  exact ok146 l1 l3 l4 l6 (l7 + 1) A Lg h
def fX10_cut_L146  (k7 : Int32 → pA → pL → Prop) (Q : pA → pL → Prop) : Nat → Int32 → Int32 → Int64 → Int32 → Int32 → pA → pL → Prop
  | 0, _, _, _, _, _, _, _ => False
  | n9 + 1, l1, l3, l4, l6, l7, A, Lg =>
    (if 23 ≤ l7 then fX10_cut_J179  k7 Q l1 l3 l4 l6 A Lg else (vp_in l7 23) ∧ ((if (lg_cmp (Lg 1205 (l7).toNatClampNeg) l4) = 0 then fX10_cut_J173  (fun x0 x1 x2 x3 x4 x5 x6 => fX10_cut_L146  k7 Q n9 x0 x1 x2 x3 x4 x5 x6) Q l1 l3 l4 (20 + l7) l7 A Lg else fX10_cut_J173  (fun x0 x1 x2 x3 x4 x5 x6 => fX10_cut_L146  k7 Q n9 x0 x1 x2 x3 x4 x5 x6) Q l1 l3 l4 l6 l7 A Lg)))
theorem fX10_cut_L146_ok {Γ : jG} {n : Nat} {K : Nat → pKd} {G : pG} (hf : mOK n K G) (Q : pA → pL → Prop) (P : jO → pS → Prop) (hP : P = (fun o u => ∃ (A' : pA) (Lg' : pL), o = .inl none ∧ u = (n, K, A', Lg', G) ∧ Q A' Lg'))  (k7 : Int32 → pA → pL → Prop) (ok7 : ∀ (l1 : Int32) (A : pA) (Lg : pL), k7 l1 A Lg → J Γ RX10 cX10_cut 8 none "cut" [] 3 0 0 7 [(0, .ref 1198), (1, .int l1)] [] (n, K, A, Lg, G) P) : ∀ (n9 : Nat) (l1 : Int32) (l3 : Int32) (l4 : Int64) (l6 : Int32) (l7 : Int32) (A : pA) (Lg : pL), fX10_cut_L146  k7 Q n9 l1 l3 l4 l6 l7 A Lg → J Γ RX10 cX10_cut 8 none "cut" [] 3 0 0 146 [(0, .ref 1198), (1, .int l1), (3, .int l3), (4, .long l4), (6, .int l6), (7, .int l7)] [] (n, K, A, Lg, G) P := by
  intro n9
  induction n9 with
  | zero => intro l1 l3 l4 l6 l7 A Lg h; exact h.elim
  | succ n9 ih =>
    intro l1 l3 l4 l6 l7 A Lg h
    unfold fX10_cut_L146 at h
    refine j_iload 5 rfl dX10_cut_146 ?_
    refine j_bipush (v := 23) dX10_cut_148 (by decide) ?_
    refine j_icmp_ge (tgt := 179) dX10_cut_150 (by decide) (fun c => ?_) (fun c => ?_)
    · rw [if_pos c] at h
      refine j_ls [0, 1, 2, 3, 4] rfl ?_
      exact fX10_cut_J179_ok hf Q P hP k7 ok7 l1 l3 l4 l6 A Lg h
    · rw [if_neg c] at h
      refine j_aload_n 0 rfl dX10_cut_153 ?_
      refine j_getfr fl_X10_34_9 rfl (m_lt hf (by decide)) (fk_1198 hf) (fg_1198_9 hf) dX10_cut_154 ?_
      refine j_iload 5 rfl dX10_cut_157 ?_
      obtain ⟨b3, h⟩ := h
      refine j_laldJ (j := (l7).toNatClampNeg) (m_lt hf (by decide)) (fk_1205 hf) b3 rfl dX10_cut_159 ?_
      refine j_lload 3 rfl dX10_cut_160 ?_
      refine j_lcmp dX10_cut_162 ?_
      refine j_if_ne (tgt := 173) dX10_cut_163 (by decide) (fun c => ?_) (fun c => ?_)
      · rw [if_neg c] at h
        exact fX10_cut_J173_ok hf Q P hP (fun x0 x1 x2 x3 x4 x5 x6 => fX10_cut_L146  k7 Q n9 x0 x1 x2 x3 x4 x5 x6) (fun x0 x1 x2 x3 x4 x5 x6 h9 => ih x0 x1 x2 x3 x4 x5 x6 h9) l1 l3 l4 l6 l7 A Lg h
      · rw [if_pos c] at h
        refine j_bipush (v := 20) dX10_cut_166 (by decide) ?_
        refine j_iload 5 rfl dX10_cut_168 ?_
        refine j_iadd dX10_cut_170 ?_
        refine j_istore (by decide) rfl dX10_cut_171 ?_
        refine j_ls [1, 2, 3, 4, 0, 5] rfl ?_
        exact fX10_cut_J173_ok hf Q P hP (fun x0 x1 x2 x3 x4 x5 x6 => fX10_cut_L146  k7 Q n9 x0 x1 x2 x3 x4 x5 x6) (fun x0 x1 x2 x3 x4 x5 x6 h9 => ih x0 x1 x2 x3 x4 x5 x6 h9) l1 l3 l4 (20 + l7) l7 A Lg h
def fX10_cut_J135  (k7 : Int32 → pA → pL → Prop) (Q : pA → pL → Prop) (l1 : Int32) (l3 : Int32) (l4 : Int64) (s0 : Int32) (A : pA) (Lg : pL) : Prop :=
    (if 8 < l3 then fX10_cut_J179  k7 Q l1 l3 l4 s0 A Lg else ∃ m4, fX10_cut_L146  k7 Q m4 l1 l3 l4 s0 0 A Lg)
theorem fX10_cut_J135_ok {Γ : jG} {n : Nat} {K : Nat → pKd} {G : pG} (hf : mOK n K G) (Q : pA → pL → Prop) (P : jO → pS → Prop) (hP : P = (fun o u => ∃ (A' : pA) (Lg' : pL), o = .inl none ∧ u = (n, K, A', Lg', G) ∧ Q A' Lg')) (k7 : Int32 → pA → pL → Prop) (ok7 : ∀ (l1 : Int32) (A : pA) (Lg : pL), k7 l1 A Lg → J Γ RX10 cX10_cut 8 none "cut" [] 3 0 0 7 [(0, .ref 1198), (1, .int l1)] [] (n, K, A, Lg, G) P) (l1 : Int32) (l3 : Int32) (l4 : Int64) (s0 : Int32) (A : pA) (Lg : pL) (h : fX10_cut_J135  k7 Q l1 l3 l4 s0 A Lg) : J Γ RX10 cX10_cut 8 none "cut" [] 3 0 0 135 [(0, .ref 1198), (1, .int l1), (3, .int l3), (4, .long l4)] [.int s0] (n, K, A, Lg, G) P := by
  unfold fX10_cut_J135 at h
  refine j_istore (by decide) rfl dX10_cut_135 ?_
  refine j_iload_n 3 rfl dX10_cut_137 ?_
  refine j_bipush (v := 8) dX10_cut_138 (by decide) ?_
  refine j_icmp_gt (tgt := 179) dX10_cut_140 (by decide) (fun c => ?_) (fun c => ?_)
  · rw [if_pos c] at h
    refine j_ls [1, 2, 3, 4, 0] rfl ?_
    exact fX10_cut_J179_ok hf Q P hP k7 ok7 l1 l3 l4 s0 A Lg h
  · rw [if_neg c] at h
    refine j_iconst (v := 0) dX10_cut_143 (by decide) ?_
    refine j_istore (by decide) rfl dX10_cut_144 ?_
    refine j_ls [2, 3, 4, 5, 1, 0] rfl ?_
    obtain ⟨m4, h⟩ := h
    exact fX10_cut_L146_ok hf Q P hP k7 ok7 m4 l1 l3 l4 s0 0 A Lg h
def fX10_cut_L85  (k7 : Int32 → pA → pL → Prop) (Q : pA → pL → Prop) : Nat → Int32 → Int32 → Int64 → pA → pL → Prop
  | 0, _, _, _, _, _ => False
  | n9 + 1, l1, l3, l4, A, Lg =>
    fX10_byteAt A (l1 + l3) (fun r5 => fX10_isLetter A r5 (fun r6 => (if r6 = 0 then (if l3 ≤ 8 then fX10_cut_J135  k7 Q l1 l3 l4 1 A Lg else fX10_cut_J135  k7 Q l1 l3 l4 3 A Lg) else (if 8 ≤ l3 then fX10_cut_J118  (fun x0 x1 x2 x3 x4 => fX10_cut_L85  k7 Q n9 x0 x1 x2 x3 x4) Q l1 l3 l4 A Lg else fX10_byteAt A (l1 + l3) (fun r7 => fX10_appends A l4 r7 (fun r8 => fX10_cut_J118  (fun x0 x1 x2 x3 x4 => fX10_cut_L85  k7 Q n9 x0 x1 x2 x3 x4) Q l1 l3 r8 A Lg))))))
theorem fX10_cut_L85_ok {Γ : jG} {n : Nat} {K : Nat → pKd} {G : pG} (hf : mOK n K G) (Q : pA → pL → Prop) (P : jO → pS → Prop) (hP : P = (fun o u => ∃ (A' : pA) (Lg' : pL), o = .inl none ∧ u = (n, K, A', Lg', G) ∧ Q A' Lg'))  (k7 : Int32 → pA → pL → Prop) (ok7 : ∀ (l1 : Int32) (A : pA) (Lg : pL), k7 l1 A Lg → J Γ RX10 cX10_cut 8 none "cut" [] 3 0 0 7 [(0, .ref 1198), (1, .int l1)] [] (n, K, A, Lg, G) P) : ∀ (n9 : Nat) (l1 : Int32) (l3 : Int32) (l4 : Int64) (A : pA) (Lg : pL), fX10_cut_L85  k7 Q n9 l1 l3 l4 A Lg → J Γ RX10 cX10_cut 8 none "cut" [] 3 0 0 85 [(0, .ref 1198), (1, .int l1), (3, .int l3), (4, .long l4)] [] (n, K, A, Lg, G) P := by
  intro n9
  induction n9 with
  | zero => intro l1 l3 l4 A Lg h; exact h.elim
  | succ n9 ih =>
    intro l1 l3 l4 A Lg h
    unfold fX10_cut_L85 at h
    refine j_aload_n 0 rfl dX10_cut_85 ?_
    refine j_iload_n 1 rfl dX10_cut_86 ?_
    refine j_iload_n 2 rfl dX10_cut_87 ?_
    refine j_iadd dX10_cut_88 ?_
    refine j_callV (b := 1198) (As := [.int (l1 + l3)]) (st := []) (C := RX10) (kc' := 0) (ks' := 0) (tX10_byteAt hf (l1 + l3) _ h) myX10_byteAt rfl q1770 q1772 qs59 (by decide) (fun s9 H9 hK9 hR9 h69 => jIs_in hK9 hR9 h69 (m_lt hf (by decide)) (fk_1198 hf) rfl) rfl (Nat.le_of_ble_eq_true rfl) rfl (by decide) (Nat.le_refl 0) (Nat.le_refl 0) dX10_cut_89 (fun v9 u9 hq => ?_) (fun k9 u9 hq => by obtain ⟨_, e9, _⟩ := hq; cases e9)
    obtain ⟨r5, e9, rfl, h⟩ := hq
    obtain rfl := Sum.inl.inj e9
    show J Γ RX10 cX10_cut 8 none "cut" [] 3 0 0 92 [(0, .ref 1198), (1, .int l1), (3, .int l3), (4, .long l4)] [.int r5] (n, K, A, Lg, G) P
    refine j_callS (As := [.int r5]) (st := []) (kc' := 0) (ks' := 0) (tX10_isLetter hf r5 _ h) myX10_isLetter q1778 q1779 rfl (Nat.le_of_ble_eq_true rfl) rfl (by decide) (Nat.le_refl 0) (Nat.le_refl 0) dX10_cut_92 (fun v9 u9 hq => ?_) (fun k9 u9 hq => by obtain ⟨_, e9, _⟩ := hq; cases e9)
    obtain ⟨r6, e9, rfl, h⟩ := hq
    obtain rfl := Sum.inl.inj e9
    show J Γ RX10 cX10_cut 8 none "cut" [] 3 0 0 95 [(0, .ref 1198), (1, .int l1), (3, .int l3), (4, .long l4)] [.int r6] (n, K, A, Lg, G) P
    refine j_if_eq (tgt := 124) dX10_cut_95 (by decide) (fun c => ?_) (fun c => ?_)
    · rw [if_pos c] at h
      refine j_iload_n 2 rfl dX10_cut_124 ?_
      refine j_bipush (v := 8) dX10_cut_125 (by decide) ?_
      refine j_icmp_le (tgt := 134) dX10_cut_127 (by decide) (fun c => ?_) (fun c => ?_)
      · rw [if_pos c] at h
        refine j_iconst (v := 1) dX10_cut_134 (by decide) ?_
        exact fX10_cut_J135_ok hf Q P hP k7 ok7 l1 l3 l4 1 A Lg h
      · rw [if_neg c] at h
        refine j_iconst (v := 3) dX10_cut_130 (by decide) ?_
        refine j_goto (tgt := 135) dX10_cut_131 (by decide) ?_
        exact fX10_cut_J135_ok hf Q P hP k7 ok7 l1 l3 l4 3 A Lg h
    · rw [if_neg c] at h
      refine j_iload_n 2 rfl dX10_cut_98 ?_
      refine j_bipush (v := 8) dX10_cut_99 (by decide) ?_
      refine j_icmp_ge (tgt := 118) dX10_cut_101 (by decide) (fun c => ?_) (fun c => ?_)
      · rw [if_pos c] at h
        exact fX10_cut_J118_ok hf Q P hP (fun x0 x1 x2 x3 x4 => fX10_cut_L85  k7 Q n9 x0 x1 x2 x3 x4) (fun x0 x1 x2 x3 x4 h9 => ih x0 x1 x2 x3 x4 h9) l1 l3 l4 A Lg h
      · rw [if_neg c] at h
        refine j_lload 3 rfl dX10_cut_104 ?_
        refine j_aload_n 0 rfl dX10_cut_106 ?_
        refine j_iload_n 1 rfl dX10_cut_107 ?_
        refine j_iload_n 2 rfl dX10_cut_108 ?_
        refine j_iadd dX10_cut_109 ?_
        refine j_callV (b := 1198) (As := [.int (l1 + l3)]) (st := [.long l4]) (C := RX10) (kc' := 0) (ks' := 0) (tX10_byteAt hf (l1 + l3) _ h) myX10_byteAt rfl q1770 q1772 qs59 (by decide) (fun s9 H9 hK9 hR9 h69 => jIs_in hK9 hR9 h69 (m_lt hf (by decide)) (fk_1198 hf) rfl) rfl (Nat.le_of_ble_eq_true rfl) rfl (by decide) (Nat.le_refl 0) (Nat.le_refl 0) dX10_cut_110 (fun v9 u9 hq => ?_) (fun k9 u9 hq => by obtain ⟨_, e9, _⟩ := hq; cases e9)
        obtain ⟨r7, e9, rfl, h⟩ := hq
        obtain rfl := Sum.inl.inj e9
        show J Γ RX10 cX10_cut 8 none "cut" [] 3 0 0 113 [(0, .ref 1198), (1, .int l1), (3, .int l3), (4, .long l4)] [.int r7, .long l4] (n, K, A, Lg, G) P
        refine j_callS (As := [.long l4, .int r7]) (st := []) (kc' := 0) (ks' := 0) (tX10_appends hf l4 r7 _ h) myX10_appends q1536 q1537 rfl (Nat.le_of_ble_eq_true rfl) rfl (by decide) (Nat.le_refl 0) (Nat.le_refl 0) dX10_cut_113 (fun v9 u9 hq => ?_) (fun k9 u9 hq => by obtain ⟨_, e9, _⟩ := hq; cases e9)
        obtain ⟨r8, e9, rfl, h⟩ := hq
        obtain rfl := Sum.inl.inj e9
        show J Γ RX10 cX10_cut 8 none "cut" [] 3 0 0 116 [(0, .ref 1198), (1, .int l1), (3, .int l3), (4, .long l4)] [.long r8] (n, K, A, Lg, G) P
        refine j_lstore (by decide) rfl dX10_cut_116 ?_
        refine j_ls [1, 2, 3, 0] rfl ?_
        exact fX10_cut_J118_ok hf Q P hP (fun x0 x1 x2 x3 x4 => fX10_cut_L85  k7 Q n9 x0 x1 x2 x3 x4) (fun x0 x1 x2 x3 x4 h9 => ih x0 x1 x2 x3 x4 h9) l1 l3 r8 A Lg h
def fX10_cut_J244  (k208 : Int32 → Int32 → Int32 → pA → pL → Prop) (Q : pA → pL → Prop) (l1 : Int32) (l3 : Int32) (l4 : Int32) (A : pA) (Lg : pL) : Prop :=
    k208 l1 (l3 + 1) l4 A Lg
theorem fX10_cut_J244_ok {Γ : jG} {n : Nat} {K : Nat → pKd} {G : pG} (hf : mOK n K G) (Q : pA → pL → Prop) (P : jO → pS → Prop) (hP : P = (fun o u => ∃ (A' : pA) (Lg' : pL), o = .inl none ∧ u = (n, K, A', Lg', G) ∧ Q A' Lg')) (k208 : Int32 → Int32 → Int32 → pA → pL → Prop) (ok208 : ∀ (l1 : Int32) (l3 : Int32) (l4 : Int32) (A : pA) (Lg : pL), k208 l1 l3 l4 A Lg → J Γ RX10 cX10_cut 8 none "cut" [] 3 0 0 208 [(0, .ref 1198), (1, .int l1), (3, .int l3), (4, .int l4)] [] (n, K, A, Lg, G) P) (l1 : Int32) (l3 : Int32) (l4 : Int32) (A : pA) (Lg : pL) (h : fX10_cut_J244  k208 Q l1 l3 l4 A Lg) : J Γ RX10 cX10_cut 8 none "cut" [] 3 0 0 244 [(0, .ref 1198), (1, .int l1), (3, .int l3), (4, .int l4)] [] (n, K, A, Lg, G) P := by
  unfold fX10_cut_J244 at h
  refine j_iinc (v := l3 + 1) 2 rfl rfl (by decide) rfl dX10_cut_244 ?_
  refine j_goto (tgt := 208) dX10_cut_247 (by decide) ?_
  refine j_ls [1, 2, 0, 3] rfl ?_
  exact ok208 l1 (l3 + 1) l4 A Lg h
def fX10_cut_J261  (k7 : Int32 → pA → pL → Prop) (Q : pA → pL → Prop) (l1 : Int32) (l3 : Int32) (l4 : Int32) (s0 : Int32) (A : pA) (Lg : pL) : Prop :=
    fX10_token A Lg s0 l1 l4 0 (fun A9 Lg10 => fX10_cut_J291  k7 Q (l1 + l3) A9 Lg10)
theorem fX10_cut_J261_ok {Γ : jG} {n : Nat} {K : Nat → pKd} {G : pG} (hf : mOK n K G) (Q : pA → pL → Prop) (P : jO → pS → Prop) (hP : P = (fun o u => ∃ (A' : pA) (Lg' : pL), o = .inl none ∧ u = (n, K, A', Lg', G) ∧ Q A' Lg')) (k7 : Int32 → pA → pL → Prop) (ok7 : ∀ (l1 : Int32) (A : pA) (Lg : pL), k7 l1 A Lg → J Γ RX10 cX10_cut 8 none "cut" [] 3 0 0 7 [(0, .ref 1198), (1, .int l1)] [] (n, K, A, Lg, G) P) (l1 : Int32) (l3 : Int32) (l4 : Int32) (s0 : Int32) (A : pA) (Lg : pL) (h : fX10_cut_J261  k7 Q l1 l3 l4 s0 A Lg) : J Γ RX10 cX10_cut 8 none "cut" [] 3 0 0 261 [(0, .ref 1198), (1, .int l1), (3, .int l3), (4, .int l4)] [.int s0, .ref 1198] (n, K, A, Lg, G) P := by
  unfold fX10_cut_J261 at h
  refine j_iload_n 1 rfl dX10_cut_261 ?_
  refine j_iload 3 rfl dX10_cut_262 ?_
  refine j_lconst (v := 0) dX10_cut_264 (by decide) ?_
  refine j_callV (b := 1198) (As := [.int s0, .int l1, .int l4, .long 0]) (st := []) (C := RX10) (kc' := 0) (ks' := 0) (tX10_token hf s0 l1 l4 0 _ h) myX10_token rfl q1774 q1776 qs60 (by decide) (fun s9 H9 hK9 hR9 h69 => jIs_in hK9 hR9 h69 (m_lt hf (by decide)) (fk_1198 hf) rfl) rfl (Nat.le_of_ble_eq_true rfl) rfl (by decide) (Nat.le_refl 0) (Nat.le_refl 0) dX10_cut_265 (fun v9 u9 hq => ?_) (fun k9 u9 hq => by obtain ⟨_, _, e9, _⟩ := hq; cases e9)
  obtain ⟨A9, Lg10, e9, rfl, h⟩ := hq
  obtain rfl := Sum.inl.inj e9
  show J Γ RX10 cX10_cut 8 none "cut" [] 3 0 0 268 [(0, .ref 1198), (1, .int l1), (3, .int l3), (4, .int l4)] [] (n, K, A9, Lg10, G) P
  refine j_iload_n 1 rfl dX10_cut_268 ?_
  refine j_iload_n 2 rfl dX10_cut_269 ?_
  refine j_iadd dX10_cut_270 ?_
  refine j_istore_n (by decide) rfl dX10_cut_271 ?_
  refine j_goto (tgt := 291) dX10_cut_272 (by decide) ?_
  refine j_ls [1, 0] rfl ?_
  exact fX10_cut_J291_ok hf Q P hP k7 ok7 (l1 + l3) A9 Lg10 h
def fX10_cut_L208  (k7 : Int32 → pA → pL → Prop) (Q : pA → pL → Prop) : Nat → Int32 → Int32 → Int32 → pA → pL → Prop
  | 0, _, _, _, _, _ => False
  | n9 + 1, l1, l3, l4, A, Lg =>
    fX10_byteAt A (l1 + l3) (fun r11 => fX10_isDigit A r11 (fun r12 => (if r12 = 0 then (if l3 ≤ 4 then fX10_cut_J261  k7 Q l1 l3 l4 2 A Lg else fX10_cut_J261  k7 Q l1 l3 l4 3 A Lg) else (if 4 ≤ l3 then fX10_cut_J244  (fun x0 x1 x2 x3 x4 => fX10_cut_L208  k7 Q n9 x0 x1 x2 x3 x4) Q l1 l3 l4 A Lg else fX10_byteAt A (l1 + l3) (fun r13 => fX10_cut_J244  (fun x0 x1 x2 x3 x4 => fX10_cut_L208  k7 Q n9 x0 x1 x2 x3 x4) Q l1 l3 (((10 * l4) + r13) - 48) A Lg)))))
theorem fX10_cut_L208_ok {Γ : jG} {n : Nat} {K : Nat → pKd} {G : pG} (hf : mOK n K G) (Q : pA → pL → Prop) (P : jO → pS → Prop) (hP : P = (fun o u => ∃ (A' : pA) (Lg' : pL), o = .inl none ∧ u = (n, K, A', Lg', G) ∧ Q A' Lg'))  (k7 : Int32 → pA → pL → Prop) (ok7 : ∀ (l1 : Int32) (A : pA) (Lg : pL), k7 l1 A Lg → J Γ RX10 cX10_cut 8 none "cut" [] 3 0 0 7 [(0, .ref 1198), (1, .int l1)] [] (n, K, A, Lg, G) P) : ∀ (n9 : Nat) (l1 : Int32) (l3 : Int32) (l4 : Int32) (A : pA) (Lg : pL), fX10_cut_L208  k7 Q n9 l1 l3 l4 A Lg → J Γ RX10 cX10_cut 8 none "cut" [] 3 0 0 208 [(0, .ref 1198), (1, .int l1), (3, .int l3), (4, .int l4)] [] (n, K, A, Lg, G) P := by
  intro n9
  induction n9 with
  | zero => intro l1 l3 l4 A Lg h; exact h.elim
  | succ n9 ih =>
    intro l1 l3 l4 A Lg h
    unfold fX10_cut_L208 at h
    refine j_aload_n 0 rfl dX10_cut_208 ?_
    refine j_iload_n 1 rfl dX10_cut_209 ?_
    refine j_iload_n 2 rfl dX10_cut_210 ?_
    refine j_iadd dX10_cut_211 ?_
    refine j_callV (b := 1198) (As := [.int (l1 + l3)]) (st := []) (C := RX10) (kc' := 0) (ks' := 0) (tX10_byteAt hf (l1 + l3) _ h) myX10_byteAt rfl q1770 q1772 qs59 (by decide) (fun s9 H9 hK9 hR9 h69 => jIs_in hK9 hR9 h69 (m_lt hf (by decide)) (fk_1198 hf) rfl) rfl (Nat.le_of_ble_eq_true rfl) rfl (by decide) (Nat.le_refl 0) (Nat.le_refl 0) dX10_cut_212 (fun v9 u9 hq => ?_) (fun k9 u9 hq => by obtain ⟨_, e9, _⟩ := hq; cases e9)
    obtain ⟨r11, e9, rfl, h⟩ := hq
    obtain rfl := Sum.inl.inj e9
    show J Γ RX10 cX10_cut 8 none "cut" [] 3 0 0 215 [(0, .ref 1198), (1, .int l1), (3, .int l3), (4, .int l4)] [.int r11] (n, K, A, Lg, G) P
    refine j_callS (As := [.int r11]) (st := []) (kc' := 0) (ks' := 0) (tX10_isDigit hf r11 _ h) myX10_isDigit q1781 q1782 rfl (Nat.le_of_ble_eq_true rfl) rfl (by decide) (Nat.le_refl 0) (Nat.le_refl 0) dX10_cut_215 (fun v9 u9 hq => ?_) (fun k9 u9 hq => by obtain ⟨_, e9, _⟩ := hq; cases e9)
    obtain ⟨r12, e9, rfl, h⟩ := hq
    obtain rfl := Sum.inl.inj e9
    show J Γ RX10 cX10_cut 8 none "cut" [] 3 0 0 218 [(0, .ref 1198), (1, .int l1), (3, .int l3), (4, .int l4)] [.int r12] (n, K, A, Lg, G) P
    refine j_if_eq (tgt := 250) dX10_cut_218 (by decide) (fun c => ?_) (fun c => ?_)
    · rw [if_pos c] at h
      refine j_aload_n 0 rfl dX10_cut_250 ?_
      refine j_iload_n 2 rfl dX10_cut_251 ?_
      refine j_iconst (v := 4) dX10_cut_252 (by decide) ?_
      refine j_icmp_le (tgt := 260) dX10_cut_253 (by decide) (fun c => ?_) (fun c => ?_)
      · rw [if_pos c] at h
        refine j_iconst (v := 2) dX10_cut_260 (by decide) ?_
        exact fX10_cut_J261_ok hf Q P hP k7 ok7 l1 l3 l4 2 A Lg h
      · rw [if_neg c] at h
        refine j_iconst (v := 3) dX10_cut_256 (by decide) ?_
        refine j_goto (tgt := 261) dX10_cut_257 (by decide) ?_
        exact fX10_cut_J261_ok hf Q P hP k7 ok7 l1 l3 l4 3 A Lg h
    · rw [if_neg c] at h
      refine j_iload_n 2 rfl dX10_cut_221 ?_
      refine j_iconst (v := 4) dX10_cut_222 (by decide) ?_
      refine j_icmp_ge (tgt := 244) dX10_cut_223 (by decide) (fun c => ?_) (fun c => ?_)
      · rw [if_pos c] at h
        exact fX10_cut_J244_ok hf Q P hP (fun x0 x1 x2 x3 x4 => fX10_cut_L208  k7 Q n9 x0 x1 x2 x3 x4) (fun x0 x1 x2 x3 x4 h9 => ih x0 x1 x2 x3 x4 h9) l1 l3 l4 A Lg h
      · rw [if_neg c] at h
        refine j_bipush (v := 10) dX10_cut_226 (by decide) ?_
        refine j_iload 3 rfl dX10_cut_228 ?_
        refine j_imul dX10_cut_230 ?_
        refine j_aload_n 0 rfl dX10_cut_231 ?_
        refine j_iload_n 1 rfl dX10_cut_232 ?_
        refine j_iload_n 2 rfl dX10_cut_233 ?_
        refine j_iadd dX10_cut_234 ?_
        refine j_callV (b := 1198) (As := [.int (l1 + l3)]) (st := [.int (10 * l4)]) (C := RX10) (kc' := 0) (ks' := 0) (tX10_byteAt hf (l1 + l3) _ h) myX10_byteAt rfl q1770 q1772 qs59 (by decide) (fun s9 H9 hK9 hR9 h69 => jIs_in hK9 hR9 h69 (m_lt hf (by decide)) (fk_1198 hf) rfl) rfl (Nat.le_of_ble_eq_true rfl) rfl (by decide) (Nat.le_refl 0) (Nat.le_refl 0) dX10_cut_235 (fun v9 u9 hq => ?_) (fun k9 u9 hq => by obtain ⟨_, e9, _⟩ := hq; cases e9)
        obtain ⟨r13, e9, rfl, h⟩ := hq
        obtain rfl := Sum.inl.inj e9
        show J Γ RX10 cX10_cut 8 none "cut" [] 3 0 0 238 [(0, .ref 1198), (1, .int l1), (3, .int l3), (4, .int l4)] [.int r13, .int (10 * l4)] (n, K, A, Lg, G) P
        refine j_iadd dX10_cut_238 ?_
        refine j_bipush (v := 48) dX10_cut_239 (by decide) ?_
        refine j_isub dX10_cut_241 ?_
        refine j_istore (by decide) rfl dX10_cut_242 ?_
        refine j_ls [1, 2, 3, 0] rfl ?_
        exact fX10_cut_J244_ok hf Q P hP (fun x0 x1 x2 x3 x4 => fX10_cut_L208  k7 Q n9 x0 x1 x2 x3 x4) (fun x0 x1 x2 x3 x4 h9 => ih x0 x1 x2 x3 x4 h9) l1 l3 (((10 * l4) + r13) - 48) A Lg h
def fX10_cut_L7   (Q : pA → pL → Prop) : Nat → Int32 → pA → pL → Prop
  | 0, _, _, _ => False
  | n9 + 1, l1, A, Lg =>
    (if 400 < (A 1198 10) then Q A Lg else fX10_byteAt A l1 (fun r14 => (if l1 < (A 1198 4) then (if r14 = 9 then fX10_cut_J67  (fun x0 x1 x2 => fX10_cut_L7   Q n9 x0 x1 x2) Q l1 A Lg else (if r14 = 10 then fX10_cut_J67  (fun x0 x1 x2 => fX10_cut_L7   Q n9 x0 x1 x2) Q l1 A Lg else (if r14 = 13 then fX10_cut_J67  (fun x0 x1 x2 => fX10_cut_L7   Q n9 x0 x1 x2) Q l1 A Lg else (if r14 = 32 then fX10_cut_J67  (fun x0 x1 x2 => fX10_cut_L7   Q n9 x0 x1 x2) Q l1 A Lg else fX10_isLetter A r14 (fun r15 => (if r15 = 0 then fX10_isDigit A r14 (fun r16 => (if r16 = 0 then fX10_byteAt A (l1 + 1) (fun r17 => fX10_sign A Lg l1 r14 r17 (fun r18 A19 Lg20 => fX10_cut_J291  (fun x0 x1 x2 => fX10_cut_L7   Q n9 x0 x1 x2) Q (l1 + r18) A19 Lg20)) else ∃ m21, fX10_cut_L208  (fun x0 x1 x2 => fX10_cut_L7   Q n9 x0 x1 x2) Q m21 l1 0 0 A Lg)) else ∃ m22, fX10_cut_L85  (fun x0 x1 x2 => fX10_cut_L7   Q n9 x0 x1 x2) Q m22 l1 0 0 A Lg)))))) else fX10_token A Lg 0 (A 1198 4) 0 0 (fun A23 Lg24 => Q A23 Lg24))))
theorem fX10_cut_L7_ok {Γ : jG} {n : Nat} {K : Nat → pKd} {G : pG} (hf : mOK n K G) (Q : pA → pL → Prop) (P : jO → pS → Prop) (hP : P = (fun o u => ∃ (A' : pA) (Lg' : pL), o = .inl none ∧ u = (n, K, A', Lg', G) ∧ Q A' Lg'))    : ∀ (n9 : Nat) (l1 : Int32) (A : pA) (Lg : pL), fX10_cut_L7   Q n9 l1 A Lg → J Γ RX10 cX10_cut 8 none "cut" [] 3 0 0 7 [(0, .ref 1198), (1, .int l1)] [] (n, K, A, Lg, G) P := by
  intro n9
  induction n9 with
  | zero => intro l1 A Lg h; exact h.elim
  | succ n9 ih =>
    intro l1 A Lg h
    unfold fX10_cut_L7 at h
    refine j_aload_n 0 rfl dX10_cut_7 ?_
    refine j_getfi fl_X10_190_9 rfl (m_lt hf (by decide)) (fk_1198 hf) dX10_cut_8 ?_
    refine j_sipush (v := 400) dX10_cut_11 (by decide) ?_
    refine j_icmp_gt (tgt := 294) dX10_cut_14 (by decide) (fun c => ?_) (fun c => ?_)
    · rw [if_pos c] at h
      refine j_vret rfl ?_ dX10_cut_294
      rw [hP]
      exact ⟨A, Lg, rfl, rfl, h⟩
    · rw [if_neg c] at h
      refine j_aload_n 0 rfl dX10_cut_17 ?_
      refine j_iload_n 1 rfl dX10_cut_18 ?_
      refine j_callV (b := 1198) (As := [.int l1]) (st := []) (C := RX10) (kc' := 0) (ks' := 0) (tX10_byteAt hf l1 _ h) myX10_byteAt rfl q1770 q1772 qs59 (by decide) (fun s9 H9 hK9 hR9 h69 => jIs_in hK9 hR9 h69 (m_lt hf (by decide)) (fk_1198 hf) rfl) rfl (Nat.le_of_ble_eq_true rfl) rfl (by decide) (Nat.le_refl 0) (Nat.le_refl 0) dX10_cut_19 (fun v9 u9 hq => ?_) (fun k9 u9 hq => by obtain ⟨_, e9, _⟩ := hq; cases e9)
      obtain ⟨r14, e9, rfl, h⟩ := hq
      obtain rfl := Sum.inl.inj e9
      show J Γ RX10 cX10_cut 8 none "cut" [] 3 0 0 22 [(0, .ref 1198), (1, .int l1)] [.int r14] (n, K, A, Lg, G) P
      refine j_istore_n (by decide) rfl dX10_cut_22 ?_
      refine j_iload_n 2 rfl dX10_cut_23 ?_
      refine j_aload_n 1 rfl dX10_cut_24 ?_
      refine j_getfi fl_X10_181_9 rfl (m_lt hf (by decide)) (fk_1198 hf) dX10_cut_25 ?_
      refine j_icmp_lt (tgt := 43) dX10_cut_28 (by decide) (fun c => ?_) (fun c => ?_)
      · rw [if_pos c] at h
        refine j_iload_n 0 rfl dX10_cut_43 ?_
        refine j_bipush (v := 9) dX10_cut_44 (by decide) ?_
        refine j_icmp_eq (tgt := 67) dX10_cut_46 (by decide) (fun c => ?_) (fun c => ?_)
        · rw [if_pos c] at h
          refine j_ls [1, 2] rfl ?_
          exact fX10_cut_J67_ok hf Q P hP (fun x0 x1 x2 => fX10_cut_L7   Q n9 x0 x1 x2) (fun x0 x1 x2 h9 => ih x0 x1 x2 h9) l1 A Lg h
        · rw [if_neg c] at h
          refine j_iload_n 0 rfl dX10_cut_49 ?_
          refine j_bipush (v := 10) dX10_cut_50 (by decide) ?_
          refine j_icmp_eq (tgt := 67) dX10_cut_52 (by decide) (fun c => ?_) (fun c => ?_)
          · rw [if_pos c] at h
            refine j_ls [1, 2] rfl ?_
            exact fX10_cut_J67_ok hf Q P hP (fun x0 x1 x2 => fX10_cut_L7   Q n9 x0 x1 x2) (fun x0 x1 x2 h9 => ih x0 x1 x2 h9) l1 A Lg h
          · rw [if_neg c] at h
            refine j_iload_n 0 rfl dX10_cut_55 ?_
            refine j_bipush (v := 13) dX10_cut_56 (by decide) ?_
            refine j_icmp_eq (tgt := 67) dX10_cut_58 (by decide) (fun c => ?_) (fun c => ?_)
            · rw [if_pos c] at h
              refine j_ls [1, 2] rfl ?_
              exact fX10_cut_J67_ok hf Q P hP (fun x0 x1 x2 => fX10_cut_L7   Q n9 x0 x1 x2) (fun x0 x1 x2 h9 => ih x0 x1 x2 h9) l1 A Lg h
            · rw [if_neg c] at h
              refine j_iload_n 0 rfl dX10_cut_61 ?_
              refine j_bipush (v := 32) dX10_cut_62 (by decide) ?_
              refine j_icmp_ne (tgt := 73) dX10_cut_64 (by decide) (fun c => ?_) (fun c => ?_)
              · rw [if_neg c] at h
                refine j_iload_n 0 rfl dX10_cut_73 ?_
                refine j_callS (As := [.int r14]) (st := []) (kc' := 0) (ks' := 0) (tX10_isLetter hf r14 _ h) myX10_isLetter q1778 q1779 rfl (Nat.le_of_ble_eq_true rfl) rfl (by decide) (Nat.le_refl 0) (Nat.le_refl 0) dX10_cut_74 (fun v9 u9 hq => ?_) (fun k9 u9 hq => by obtain ⟨_, e9, _⟩ := hq; cases e9)
                obtain ⟨r15, e9, rfl, h⟩ := hq
                obtain rfl := Sum.inl.inj e9
                show J Γ RX10 cX10_cut 8 none "cut" [] 3 0 0 77 [(2, .int r14), (0, .ref 1198), (1, .int l1)] [.int r15] (n, K, A, Lg, G) P
                refine j_if_eq (tgt := 196) dX10_cut_77 (by decide) (fun c => ?_) (fun c => ?_)
                · rw [if_pos c] at h
                  refine j_iload_n 0 rfl dX10_cut_196 ?_
                  refine j_callS (As := [.int r14]) (st := []) (kc' := 0) (ks' := 0) (tX10_isDigit hf r14 _ h) myX10_isDigit q1781 q1782 rfl (Nat.le_of_ble_eq_true rfl) rfl (by decide) (Nat.le_refl 0) (Nat.le_refl 0) dX10_cut_197 (fun v9 u9 hq => ?_) (fun k9 u9 hq => by obtain ⟨_, e9, _⟩ := hq; cases e9)
                  obtain ⟨r16, e9, rfl, h⟩ := hq
                  obtain rfl := Sum.inl.inj e9
                  show J Γ RX10 cX10_cut 8 none "cut" [] 3 0 0 200 [(2, .int r14), (0, .ref 1198), (1, .int l1)] [.int r16] (n, K, A, Lg, G) P
                  refine j_if_eq (tgt := 275) dX10_cut_200 (by decide) (fun c => ?_) (fun c => ?_)
                  · rw [if_pos c] at h
                    refine j_iload_n 2 rfl dX10_cut_275 ?_
                    refine j_aload_n 1 rfl dX10_cut_276 ?_
                    refine j_iload_n 2 rfl dX10_cut_277 ?_
                    refine j_iload_n 0 rfl dX10_cut_278 ?_
                    refine j_aload_n 1 rfl dX10_cut_279 ?_
                    refine j_iload_n 2 rfl dX10_cut_280 ?_
                    refine j_iconst (v := 1) dX10_cut_281 (by decide) ?_
                    refine j_iadd dX10_cut_282 ?_
                    refine j_callV (b := 1198) (As := [.int (l1 + 1)]) (st := [.int r14, .int l1, .ref 1198, .int l1]) (C := RX10) (kc' := 0) (ks' := 0) (tX10_byteAt hf (l1 + 1) _ h) myX10_byteAt rfl q1770 q1772 qs59 (by decide) (fun s9 H9 hK9 hR9 h69 => jIs_in hK9 hR9 h69 (m_lt hf (by decide)) (fk_1198 hf) rfl) rfl (Nat.le_of_ble_eq_true rfl) rfl (by decide) (Nat.le_refl 0) (Nat.le_refl 0) dX10_cut_283 (fun v9 u9 hq => ?_) (fun k9 u9 hq => by obtain ⟨_, e9, _⟩ := hq; cases e9)
                    obtain ⟨r17, e9, rfl, h⟩ := hq
                    obtain rfl := Sum.inl.inj e9
                    show J Γ RX10 cX10_cut 8 none "cut" [] 3 0 0 286 [(2, .int r14), (0, .ref 1198), (1, .int l1)] [.int r17, .int r14, .int l1, .ref 1198, .int l1] (n, K, A, Lg, G) P
                    refine j_callV (b := 1198) (As := [.int l1, .int r14, .int r17]) (st := [.int l1]) (C := RX10) (kc' := 0) (ks' := 0) (tX10_sign hf l1 r14 r17 _ h) myX10_sign rfl q1784 q1786 qs61 (by decide) (fun s9 H9 hK9 hR9 h69 => jIs_in hK9 hR9 h69 (m_lt hf (by decide)) (fk_1198 hf) rfl) rfl (Nat.le_of_ble_eq_true rfl) rfl (by decide) (Nat.le_refl 0) (Nat.le_refl 0) dX10_cut_286 (fun v9 u9 hq => ?_) (fun k9 u9 hq => by obtain ⟨_, _, _, e9, _⟩ := hq; cases e9)
                    obtain ⟨r18, A19, Lg20, e9, rfl, h⟩ := hq
                    obtain rfl := Sum.inl.inj e9
                    show J Γ RX10 cX10_cut 8 none "cut" [] 3 0 0 289 [(2, .int r14), (0, .ref 1198), (1, .int l1)] [.int r18, .int l1] (n, K, A19, Lg20, G) P
                    refine j_iadd dX10_cut_289 ?_
                    refine j_istore_n (by decide) rfl dX10_cut_290 ?_
                    refine j_ls [2, 0] rfl ?_
                    exact fX10_cut_J291_ok hf Q P hP (fun x0 x1 x2 => fX10_cut_L7   Q n9 x0 x1 x2) (fun x0 x1 x2 h9 => ih x0 x1 x2 h9) (l1 + r18) A19 Lg20 h
                  · rw [if_neg c] at h
                    refine j_iconst (v := 0) dX10_cut_203 (by decide) ?_
                    refine j_istore_n (by decide) rfl dX10_cut_204 ?_
                    refine j_iconst (v := 0) dX10_cut_205 (by decide) ?_
                    refine j_istore (by decide) rfl dX10_cut_206 ?_
                    refine j_ls [3, 4, 1, 0] rfl ?_
                    obtain ⟨m21, h⟩ := h
                    exact fX10_cut_L208_ok hf Q P hP (fun x0 x1 x2 => fX10_cut_L7   Q n9 x0 x1 x2) (fun x0 x1 x2 h9 => ih x0 x1 x2 h9) m21 l1 0 0 A Lg h
                · rw [if_neg c] at h
                  refine j_iconst (v := 0) dX10_cut_80 (by decide) ?_
                  refine j_istore_n (by decide) rfl dX10_cut_81 ?_
                  refine j_lconst (v := 0) dX10_cut_82 (by decide) ?_
                  refine j_lstore (by decide) rfl dX10_cut_83 ?_
                  refine j_ls [3, 4, 1, 0] rfl ?_
                  obtain ⟨m22, h⟩ := h
                  exact fX10_cut_L85_ok hf Q P hP (fun x0 x1 x2 => fX10_cut_L7   Q n9 x0 x1 x2) (fun x0 x1 x2 h9 => ih x0 x1 x2 h9) m22 l1 0 0 A Lg h
              · rw [if_pos c] at h
                refine j_ls [1, 2] rfl ?_
                exact fX10_cut_J67_ok hf Q P hP (fun x0 x1 x2 => fX10_cut_L7   Q n9 x0 x1 x2) (fun x0 x1 x2 h9 => ih x0 x1 x2 h9) l1 A Lg h
      · rw [if_neg c] at h
        refine j_aload_n 1 rfl dX10_cut_31 ?_
        refine j_iconst (v := 0) dX10_cut_32 (by decide) ?_
        refine j_aload_n 1 rfl dX10_cut_33 ?_
        refine j_getfi fl_X10_181_9 rfl (m_lt hf (by decide)) (fk_1198 hf) dX10_cut_34 ?_
        refine j_iconst (v := 0) dX10_cut_37 (by decide) ?_
        refine j_lconst (v := 0) dX10_cut_38 (by decide) ?_
        refine j_callV (b := 1198) (As := [.int 0, .int (A 1198 4), .int 0, .long 0]) (st := []) (C := RX10) (kc' := 0) (ks' := 0) (tX10_token hf 0 (A 1198 4) 0 0 _ h) myX10_token rfl q1774 q1776 qs60 (by decide) (fun s9 H9 hK9 hR9 h69 => jIs_in hK9 hR9 h69 (m_lt hf (by decide)) (fk_1198 hf) rfl) rfl (Nat.le_of_ble_eq_true rfl) rfl (by decide) (Nat.le_refl 0) (Nat.le_refl 0) dX10_cut_39 (fun v9 u9 hq => ?_) (fun k9 u9 hq => by obtain ⟨_, _, e9, _⟩ := hq; cases e9)
        obtain ⟨A23, Lg24, e9, rfl, h⟩ := hq
        obtain rfl := Sum.inl.inj e9
        show J Γ RX10 cX10_cut 8 none "cut" [] 3 0 0 42 [(2, .int r14), (0, .ref 1198), (1, .int l1)] [] (n, K, A23, Lg24, G) P
        refine j_vret rfl ?_ dX10_cut_42
        rw [hP]
        exact ⟨A23, Lg24, rfl, rfl, h⟩
def fX10_cut (A : pA) (Lg : pL) (Q : pA → pL → Prop) : Prop :=
    ∀ A25 : pA, A25 = pup A 1198 10 0 → ∃ m26, fX10_cut_L7   Q m26 0 A25 Lg
theorem tX10_cut {Γ : jG} {n : Nat} {K : Nat → pKd} {G : pG} (hf : mOK n K G) {A : pA} {Lg : pL}  (Q : pA → pL → Prop) (h : fX10_cut A Lg Q) : jMet Γ yX10_cut cX10_cut 8 none [] 3 0 0 [.ref 1198] (n, K, A, Lg, G) (fun o u => ∃ (A' : pA) (Lg' : pL), o = .inl none ∧ u = (n, K, A', Lg', G) ∧ Q A' Lg') := by
  unfold fX10_cut at h
  obtain ⟨P, hP⟩ : ∃ P : jO → pS → Prop, P = (fun o u => ∃ (A' : pA) (Lg' : pL), o = .inl none ∧ u = (n, K, A', Lg', G) ∧ Q A' Lg') := ⟨_, rfl⟩
  rw [← hP]
  refine jMet_of rfl rfl rfl (Nat.le_of_ble_eq_true rfl) ?_
  show J Γ RX10 cX10_cut 8 none "cut" [] 3 0 0 0 [(0, .ref 1198)] [] (n, K, A, Lg, G) P
  refine j_aload_n 0 rfl dX10_cut_0 ?_
  refine j_iconst (v := 0) dX10_cut_1 (by decide) ?_
  refine j_putfiE (fp_X10_190_9 _) rfl rfl rfl (m_lt hf (by decide)) (fk_1198 hf) dX10_cut_2 (fun A25 eA25 => ?_)
  replace h := h A25 eA25
  refine j_iconst (v := 0) dX10_cut_5 (by decide) ?_
  refine j_istore_n (by decide) rfl dX10_cut_6 ?_
  refine j_ls [1, 0] rfl ?_
  obtain ⟨m26, h⟩ := h
  exact fX10_cut_L7_ok hf Q P hP   m26 0 A25 Lg h
theorem myX10_fillsSteps : jY yX10_fillsSteps cX10_fillsSteps 3 none 0 := ⟨q1879, q139, by decide +kernel, by decide +kernel, by decide⟩
def fX10_fillsSteps_J62  (k2 : Int32 → pA → Prop) (Q : pA → Prop) (l1 : Int32) (s0 : Int32) (s1 : Int32) (A : pA) : Prop :=
    (vp_in s1 49) ∧ (∀ A2 : pA, A2 = pup A 1236 (s1).toNatClampNeg s0 → k2 (l1 + 1) A2)
theorem fX10_fillsSteps_J62_ok {Γ : jG} {n : Nat} {K : Nat → pKd} {G : pG} {Lg : pL} (hf : mOK n K G) (Q : pA → Prop) (P : jO → pS → Prop) (hP : P = (fun o u => ∃ (A' : pA), o = .inl none ∧ u = (n, K, A', Lg, G) ∧ Q A')) (k2 : Int32 → pA → Prop) (ok2 : ∀ (l1 : Int32) (A : pA), k2 l1 A → J Γ RX10 cX10_fillsSteps 3 none "fillsSteps" [] 1 0 0 2 [(0, .ref 1198), (1, .int l1)] [] (n, K, A, Lg, G) P) (l1 : Int32) (s0 : Int32) (s1 : Int32) (A : pA) (h : fX10_fillsSteps_J62  k2 Q l1 s0 s1 A) : J Γ RX10 cX10_fillsSteps 3 none "fillsSteps" [] 1 0 0 62 [(0, .ref 1198), (1, .int l1)] [.int s0, .int s1, .ref 1236] (n, K, A, Lg, G) P := by
  unfold fX10_fillsSteps_J62 at h
  obtain ⟨b1, h⟩ := h
  refine j_iastJ (j := (s1).toNatClampNeg) (m_lt hf (by decide)) (fk_1236 hf) b1 rfl dX10_fillsSteps_62 (fun A2 eA2 => ?_)
  replace h := h A2 eA2
  refine j_iinc (v := l1 + 1) 1 rfl rfl (by decide) rfl dX10_fillsSteps_63 ?_
  refine j_goto (tgt := 2) dX10_fillsSteps_66 (by decide) ?_
  refine j_ls [1, 0] rfl ?_
  exact ok2 (l1 + 1) A2 h
def fX10_fillsSteps_J158  (k79 : Int32 → Int32 → pA → Prop) (Q : pA → Prop) (l1 : Int32) (l2 : Int32) (A : pA) : Prop :=
    k79 l1 (l2 + 1) A
theorem fX10_fillsSteps_J158_ok {Γ : jG} {n : Nat} {K : Nat → pKd} {G : pG} {Lg : pL} (hf : mOK n K G) (Q : pA → Prop) (P : jO → pS → Prop) (hP : P = (fun o u => ∃ (A' : pA), o = .inl none ∧ u = (n, K, A', Lg, G) ∧ Q A')) (k79 : Int32 → Int32 → pA → Prop) (ok79 : ∀ (l1 : Int32) (l2 : Int32) (A : pA), k79 l1 l2 A → J Γ RX10 cX10_fillsSteps 3 none "fillsSteps" [] 1 0 0 79 [(0, .ref 1198), (1, .int l1), (2, .int l2)] [] (n, K, A, Lg, G) P) (l1 : Int32) (l2 : Int32) (A : pA) (h : fX10_fillsSteps_J158  k79 Q l1 l2 A) : J Γ RX10 cX10_fillsSteps 3 none "fillsSteps" [] 1 0 0 158 [(0, .ref 1198), (1, .int l1), (2, .int l2)] [] (n, K, A, Lg, G) P := by
  unfold fX10_fillsSteps_J158 at h
  refine j_iinc (v := l2 + 1) 2 rfl rfl (by decide) rfl dX10_fillsSteps_158 ?_
  refine j_goto (tgt := 79) dX10_fillsSteps_161 (by decide) ?_
  refine j_ls [1, 2, 0] rfl ?_
  exact ok79 l1 (l2 + 1) A h
def fX10_fillsSteps_L79  (k71 : Int32 → pA → Prop) (Q : pA → Prop) : Nat → Int32 → Int32 → pA → Prop
  | 0, _, _, _ => False
  | n9 + 1, l1, l2, A =>
    (if 49 ≤ l2 then k71 (l1 + 1) A else (vp_in (((l2 / 7) * 7) + l1) 49) ∧ ((vp_in ((7 * l1) + (l2 - l2 / 7 * 7)) 49) ∧ ((vp_in l2 49) ∧ ((if (A 1236 (l2).toNatClampNeg) ≤ ((A 1236 (((l2 / 7) * 7) + l1).toNatClampNeg) + (A 1236 ((7 * l1) + (l2 - l2 / 7 * 7)).toNatClampNeg)) then fX10_fillsSteps_J158  (fun x0 x1 x2 => fX10_fillsSteps_L79  k71 Q n9 x0 x1 x2) Q l1 l2 A else (vp_in (((l2 / 7) * 7) + l1) 49) ∧ ((vp_in ((7 * l1) + (l2 - l2 / 7 * 7)) 49) ∧ ((vp_in l2 49) ∧ (∀ A9 : pA, A9 = pup A 1236 (l2).toNatClampNeg ((A 1236 (((l2 / 7) * 7) + l1).toNatClampNeg) + (A 1236 ((7 * l1) + (l2 - l2 / 7 * 7)).toNatClampNeg)) → fX10_fillsSteps_J158  (fun x0 x1 x2 => fX10_fillsSteps_L79  k71 Q n9 x0 x1 x2) Q l1 l2 A9))))))))
theorem fX10_fillsSteps_L79_ok {Γ : jG} {n : Nat} {K : Nat → pKd} {G : pG} {Lg : pL} (hf : mOK n K G) (Q : pA → Prop) (P : jO → pS → Prop) (hP : P = (fun o u => ∃ (A' : pA), o = .inl none ∧ u = (n, K, A', Lg, G) ∧ Q A'))  (k71 : Int32 → pA → Prop) (ok71 : ∀ (l1 : Int32) (A : pA), k71 l1 A → J Γ RX10 cX10_fillsSteps 3 none "fillsSteps" [] 1 0 0 71 [(0, .ref 1198), (1, .int l1)] [] (n, K, A, Lg, G) P) : ∀ (n9 : Nat) (l1 : Int32) (l2 : Int32) (A : pA), fX10_fillsSteps_L79  k71 Q n9 l1 l2 A → J Γ RX10 cX10_fillsSteps 3 none "fillsSteps" [] 1 0 0 79 [(0, .ref 1198), (1, .int l1), (2, .int l2)] [] (n, K, A, Lg, G) P := by
  intro n9
  induction n9 with
  | zero => intro l1 l2 A h; exact h.elim
  | succ n9 ih =>
    intro l1 l2 A h
    unfold fX10_fillsSteps_L79 at h
    refine j_iload_n 2 rfl dX10_fillsSteps_79 ?_
    refine j_bipush (v := 49) dX10_fillsSteps_80 (by decide) ?_
    refine j_icmp_ge (tgt := 164) dX10_fillsSteps_82 (by decide) (fun c => ?_) (fun c => ?_)
    · rw [if_pos c] at h
      refine j_iinc (v := l1 + 1) 1 rfl rfl (by decide) rfl dX10_fillsSteps_164 ?_
      refine j_goto (tgt := 71) dX10_fillsSteps_167 (by decide) ?_
      refine j_ls [1, 0] rfl ?_
      exact ok71 (l1 + 1) A h
    · rw [if_neg c] at h
      refine j_aload_n 0 rfl dX10_fillsSteps_85 ?_
      refine j_getfr fl_X10_131_9 rfl (m_lt hf (by decide)) (fk_1198 hf) (fg_1198_55 hf) dX10_fillsSteps_86 ?_
      refine j_iload_n 2 rfl dX10_fillsSteps_89 ?_
      refine j_bipush (v := 7) dX10_fillsSteps_90 (by decide) ?_
      refine j_idiv (by decide) dX10_fillsSteps_92 ?_
      refine j_bipush (v := 7) dX10_fillsSteps_93 (by decide) ?_
      refine j_imul dX10_fillsSteps_95 ?_
      refine j_iload_n 1 rfl dX10_fillsSteps_96 ?_
      refine j_iadd dX10_fillsSteps_97 ?_
      obtain ⟨b3, h⟩ := h
      refine j_ialdJ (j := (((l2 / 7) * 7) + l1).toNatClampNeg) (m_lt hf (by decide)) (fk_1236 hf) b3 rfl dX10_fillsSteps_98 ?_
      refine j_aload_n 0 rfl dX10_fillsSteps_99 ?_
      refine j_getfr fl_X10_131_9 rfl (m_lt hf (by decide)) (fk_1198 hf) (fg_1198_55 hf) dX10_fillsSteps_100 ?_
      refine j_bipush (v := 7) dX10_fillsSteps_103 (by decide) ?_
      refine j_iload_n 1 rfl dX10_fillsSteps_105 ?_
      refine j_imul dX10_fillsSteps_106 ?_
      refine j_iload_n 2 rfl dX10_fillsSteps_107 ?_
      refine j_bipush (v := 7) dX10_fillsSteps_108 (by decide) ?_
      refine j_irem (by decide) dX10_fillsSteps_110 ?_
      refine j_iadd dX10_fillsSteps_111 ?_
      obtain ⟨b4, h⟩ := h
      refine j_ialdJ (j := ((7 * l1) + (l2 - l2 / 7 * 7)).toNatClampNeg) (m_lt hf (by decide)) (fk_1236 hf) b4 rfl dX10_fillsSteps_112 ?_
      refine j_iadd dX10_fillsSteps_113 ?_
      refine j_aload_n 0 rfl dX10_fillsSteps_114 ?_
      refine j_getfr fl_X10_131_9 rfl (m_lt hf (by decide)) (fk_1198 hf) (fg_1198_55 hf) dX10_fillsSteps_115 ?_
      refine j_iload_n 2 rfl dX10_fillsSteps_118 ?_
      obtain ⟨b5, h⟩ := h
      refine j_ialdJ (j := (l2).toNatClampNeg) (m_lt hf (by decide)) (fk_1236 hf) b5 rfl dX10_fillsSteps_119 ?_
      refine j_icmp_ge (tgt := 158) dX10_fillsSteps_120 (by decide) (fun c => ?_) (fun c => ?_)
      · rw [if_pos c] at h
        exact fX10_fillsSteps_J158_ok hf Q P hP (fun x0 x1 x2 => fX10_fillsSteps_L79  k71 Q n9 x0 x1 x2) (fun x0 x1 x2 h9 => ih x0 x1 x2 h9) l1 l2 A h
      · rw [if_neg c] at h
        refine j_aload_n 0 rfl dX10_fillsSteps_123 ?_
        refine j_getfr fl_X10_131_9 rfl (m_lt hf (by decide)) (fk_1198 hf) (fg_1198_55 hf) dX10_fillsSteps_124 ?_
        refine j_iload_n 2 rfl dX10_fillsSteps_127 ?_
        refine j_aload_n 0 rfl dX10_fillsSteps_128 ?_
        refine j_getfr fl_X10_131_9 rfl (m_lt hf (by decide)) (fk_1198 hf) (fg_1198_55 hf) dX10_fillsSteps_129 ?_
        refine j_iload_n 2 rfl dX10_fillsSteps_132 ?_
        refine j_bipush (v := 7) dX10_fillsSteps_133 (by decide) ?_
        refine j_idiv (by decide) dX10_fillsSteps_135 ?_
        refine j_bipush (v := 7) dX10_fillsSteps_136 (by decide) ?_
        refine j_imul dX10_fillsSteps_138 ?_
        refine j_iload_n 1 rfl dX10_fillsSteps_139 ?_
        refine j_iadd dX10_fillsSteps_140 ?_
        obtain ⟨b6, h⟩ := h
        refine j_ialdJ (j := (((l2 / 7) * 7) + l1).toNatClampNeg) (m_lt hf (by decide)) (fk_1236 hf) b6 rfl dX10_fillsSteps_141 ?_
        refine j_aload_n 0 rfl dX10_fillsSteps_142 ?_
        refine j_getfr fl_X10_131_9 rfl (m_lt hf (by decide)) (fk_1198 hf) (fg_1198_55 hf) dX10_fillsSteps_143 ?_
        refine j_bipush (v := 7) dX10_fillsSteps_146 (by decide) ?_
        refine j_iload_n 1 rfl dX10_fillsSteps_148 ?_
        refine j_imul dX10_fillsSteps_149 ?_
        refine j_iload_n 2 rfl dX10_fillsSteps_150 ?_
        refine j_bipush (v := 7) dX10_fillsSteps_151 (by decide) ?_
        refine j_irem (by decide) dX10_fillsSteps_153 ?_
        refine j_iadd dX10_fillsSteps_154 ?_
        obtain ⟨b7, h⟩ := h
        refine j_ialdJ (j := ((7 * l1) + (l2 - l2 / 7 * 7)).toNatClampNeg) (m_lt hf (by decide)) (fk_1236 hf) b7 rfl dX10_fillsSteps_155 ?_
        refine j_iadd dX10_fillsSteps_156 ?_
        obtain ⟨b8, h⟩ := h
        refine j_iastJ (j := (l2).toNatClampNeg) (m_lt hf (by decide)) (fk_1236 hf) b8 rfl dX10_fillsSteps_157 (fun A9 eA9 => ?_)
        replace h := h A9 eA9
        exact fX10_fillsSteps_J158_ok hf Q P hP (fun x0 x1 x2 => fX10_fillsSteps_L79  k71 Q n9 x0 x1 x2) (fun x0 x1 x2 h9 => ih x0 x1 x2 h9) l1 l2 A9 h
def fX10_fillsSteps_L71   (Q : pA → Prop) : Nat → Int32 → pA → Prop
  | 0, _, _ => False
  | n9 + 1, l1, A =>
    (if 7 ≤ l1 then Q A else ∃ m10, fX10_fillsSteps_L79  (fun x0 x1 => fX10_fillsSteps_L71   Q n9 x0 x1) Q m10 l1 0 A)
theorem fX10_fillsSteps_L71_ok {Γ : jG} {n : Nat} {K : Nat → pKd} {G : pG} {Lg : pL} (hf : mOK n K G) (Q : pA → Prop) (P : jO → pS → Prop) (hP : P = (fun o u => ∃ (A' : pA), o = .inl none ∧ u = (n, K, A', Lg, G) ∧ Q A'))    : ∀ (n9 : Nat) (l1 : Int32) (A : pA), fX10_fillsSteps_L71   Q n9 l1 A → J Γ RX10 cX10_fillsSteps 3 none "fillsSteps" [] 1 0 0 71 [(0, .ref 1198), (1, .int l1)] [] (n, K, A, Lg, G) P := by
  intro n9
  induction n9 with
  | zero => intro l1 A h; exact h.elim
  | succ n9 ih =>
    intro l1 A h
    unfold fX10_fillsSteps_L71 at h
    refine j_iload_n 1 rfl dX10_fillsSteps_71 ?_
    refine j_bipush (v := 7) dX10_fillsSteps_72 (by decide) ?_
    refine j_icmp_ge (tgt := 170) dX10_fillsSteps_74 (by decide) (fun c => ?_) (fun c => ?_)
    · rw [if_pos c] at h
      refine j_vret rfl ?_ dX10_fillsSteps_170
      rw [hP]
      exact ⟨A, rfl, rfl, h⟩
    · rw [if_neg c] at h
      refine j_iconst (v := 0) dX10_fillsSteps_77 (by decide) ?_
      refine j_istore_n (by decide) rfl dX10_fillsSteps_78 ?_
      refine j_ls [1, 2, 0] rfl ?_
      obtain ⟨m10, h⟩ := h
      exact fX10_fillsSteps_L79_ok hf Q P hP (fun x0 x1 => fX10_fillsSteps_L71   Q n9 x0 x1) (fun x0 x1 h9 => ih x0 x1 h9) m10 l1 0 A h
def fX10_fillsSteps_L2   (Q : pA → Prop) : Nat → Int32 → pA → Prop
  | 0, _, _ => False
  | n9 + 1, l1, A =>
    (if 49 ≤ l1 then ∃ m11, fX10_fillsSteps_L71   Q m11 0 A else (if (l1 / 7) = (l1 - l1 / 7 * 7) then fX10_fillsSteps_J62  (fun x0 x1 => fX10_fillsSteps_L2   Q n9 x0 x1) Q l1 0 l1 A else (vp_in ((7 * (A 1198 18)) + (l1 / 7)) 14) ∧ ((if (((A 1209 ((7 * (A 1198 18)) + (l1 / 7)).toNatClampNeg) >>> ((l1 - l1 / 7 * 7) &&& 31)) &&& 1) = 1 then fX10_fillsSteps_J62  (fun x0 x1 => fX10_fillsSteps_L2   Q n9 x0 x1) Q l1 1 l1 A else fX10_fillsSteps_J62  (fun x0 x1 => fX10_fillsSteps_L2   Q n9 x0 x1) Q l1 99 l1 A))))
theorem fX10_fillsSteps_L2_ok {Γ : jG} {n : Nat} {K : Nat → pKd} {G : pG} {Lg : pL} (hf : mOK n K G) (Q : pA → Prop) (P : jO → pS → Prop) (hP : P = (fun o u => ∃ (A' : pA), o = .inl none ∧ u = (n, K, A', Lg, G) ∧ Q A'))    : ∀ (n9 : Nat) (l1 : Int32) (A : pA), fX10_fillsSteps_L2   Q n9 l1 A → J Γ RX10 cX10_fillsSteps 3 none "fillsSteps" [] 1 0 0 2 [(0, .ref 1198), (1, .int l1)] [] (n, K, A, Lg, G) P := by
  intro n9
  induction n9 with
  | zero => intro l1 A h; exact h.elim
  | succ n9 ih =>
    intro l1 A h
    unfold fX10_fillsSteps_L2 at h
    refine j_iload_n 1 rfl dX10_fillsSteps_2 ?_
    refine j_bipush (v := 49) dX10_fillsSteps_3 (by decide) ?_
    refine j_icmp_ge (tgt := 69) dX10_fillsSteps_5 (by decide) (fun c => ?_) (fun c => ?_)
    · rw [if_pos c] at h
      refine j_iconst (v := 0) dX10_fillsSteps_69 (by decide) ?_
      refine j_istore_n (by decide) rfl dX10_fillsSteps_70 ?_
      refine j_ls [1, 0] rfl ?_
      obtain ⟨m11, h⟩ := h
      exact fX10_fillsSteps_L71_ok hf Q P hP   m11 0 A h
    · rw [if_neg c] at h
      refine j_aload_n 0 rfl dX10_fillsSteps_8 ?_
      refine j_getfr fl_X10_131_9 rfl (m_lt hf (by decide)) (fk_1198 hf) (fg_1198_55 hf) dX10_fillsSteps_9 ?_
      refine j_iload_n 1 rfl dX10_fillsSteps_12 ?_
      refine j_iload_n 1 rfl dX10_fillsSteps_13 ?_
      refine j_bipush (v := 7) dX10_fillsSteps_14 (by decide) ?_
      refine j_idiv (by decide) dX10_fillsSteps_16 ?_
      refine j_iload_n 1 rfl dX10_fillsSteps_17 ?_
      refine j_bipush (v := 7) dX10_fillsSteps_18 (by decide) ?_
      refine j_irem (by decide) dX10_fillsSteps_20 ?_
      refine j_icmp_ne (tgt := 28) dX10_fillsSteps_21 (by decide) (fun c => ?_) (fun c => ?_)
      · rw [if_neg c] at h
        refine j_aload_n 0 rfl dX10_fillsSteps_28 ?_
        refine j_getfr fl_X10_49_9 rfl (m_lt hf (by decide)) (fk_1198 hf) (fg_1198_24 hf) dX10_fillsSteps_29 ?_
        refine j_bipush (v := 7) dX10_fillsSteps_32 (by decide) ?_
        refine j_aload_n 0 rfl dX10_fillsSteps_34 ?_
        refine j_getfi fl_X10_242_9 rfl (m_lt hf (by decide)) (fk_1198 hf) dX10_fillsSteps_35 ?_
        refine j_imul dX10_fillsSteps_38 ?_
        refine j_iload_n 1 rfl dX10_fillsSteps_39 ?_
        refine j_bipush (v := 7) dX10_fillsSteps_40 (by decide) ?_
        refine j_idiv (by decide) dX10_fillsSteps_42 ?_
        refine j_iadd dX10_fillsSteps_43 ?_
        obtain ⟨b12, h⟩ := h
        refine j_ialdJ (j := ((7 * (A 1198 18)) + (l1 / 7)).toNatClampNeg) (m_lt hf (by decide)) (fk_1209 hf) b12 rfl dX10_fillsSteps_44 ?_
        refine j_iload_n 1 rfl dX10_fillsSteps_45 ?_
        refine j_bipush (v := 7) dX10_fillsSteps_46 (by decide) ?_
        refine j_irem (by decide) dX10_fillsSteps_48 ?_
        refine j_ishr dX10_fillsSteps_49 ?_
        refine j_iconst (v := 1) dX10_fillsSteps_50 (by decide) ?_
        refine j_iand dX10_fillsSteps_51 ?_
        refine j_iconst (v := 1) dX10_fillsSteps_52 (by decide) ?_
        refine j_icmp_ne (tgt := 60) dX10_fillsSteps_53 (by decide) (fun c => ?_) (fun c => ?_)
        · rw [if_neg c] at h
          refine j_bipush (v := 99) dX10_fillsSteps_60 (by decide) ?_
          exact fX10_fillsSteps_J62_ok hf Q P hP (fun x0 x1 => fX10_fillsSteps_L2   Q n9 x0 x1) (fun x0 x1 h9 => ih x0 x1 h9) l1 99 l1 A h
        · rw [if_pos c] at h
          refine j_iconst (v := 1) dX10_fillsSteps_56 (by decide) ?_
          refine j_goto (tgt := 62) dX10_fillsSteps_57 (by decide) ?_
          exact fX10_fillsSteps_J62_ok hf Q P hP (fun x0 x1 => fX10_fillsSteps_L2   Q n9 x0 x1) (fun x0 x1 h9 => ih x0 x1 h9) l1 1 l1 A h
      · rw [if_pos c] at h
        refine j_iconst (v := 0) dX10_fillsSteps_24 (by decide) ?_
        refine j_goto (tgt := 62) dX10_fillsSteps_25 (by decide) ?_
        exact fX10_fillsSteps_J62_ok hf Q P hP (fun x0 x1 => fX10_fillsSteps_L2   Q n9 x0 x1) (fun x0 x1 h9 => ih x0 x1 h9) l1 0 l1 A h
def fX10_fillsSteps (A : pA) (Q : pA → Prop) : Prop :=
    ∃ m13, fX10_fillsSteps_L2   Q m13 0 A
theorem tX10_fillsSteps {Γ : jG} {n : Nat} {K : Nat → pKd} {G : pG} {Lg : pL} (hf : mOK n K G) {A : pA}  (Q : pA → Prop) (h : fX10_fillsSteps A Q) : jMet Γ yX10_fillsSteps cX10_fillsSteps 3 none [] 1 0 0 [.ref 1198] (n, K, A, Lg, G) (fun o u => ∃ (A' : pA), o = .inl none ∧ u = (n, K, A', Lg, G) ∧ Q A') := by
  unfold fX10_fillsSteps at h
  obtain ⟨P, hP⟩ : ∃ P : jO → pS → Prop, P = (fun o u => ∃ (A' : pA), o = .inl none ∧ u = (n, K, A', Lg, G) ∧ Q A') := ⟨_, rfl⟩
  rw [← hP]
  refine jMet_of rfl rfl rfl (Nat.le_of_ble_eq_true rfl) ?_
  show J Γ RX10 cX10_fillsSteps 3 none "fillsSteps" [] 1 0 0 0 [(0, .ref 1198)] [] (n, K, A, Lg, G) P
  refine j_iconst (v := 0) dX10_fillsSteps_0 (by decide) ?_
  refine j_istore_n (by decide) rfl dX10_fillsSteps_1 ?_
  refine j_ls [1, 0] rfl ?_
  obtain ⟨m13, h⟩ := h
  exact fX10_fillsSteps_L2_ok hf Q P hP   m13 0 A h
theorem myX10_is : jY yX10_is cX10_is 2 (some .boolean) 1 := ⟨q1791, q139, by decide +kernel, by decide +kernel, by decide⟩
def fX10_is (A : pA) (p1 : Int32) (Q : Int32 → Prop) : Prop :=
    (if (A 1198 13) = 0 then (vp_in (A 1198 11) 403) ∧ ((if (A 1201 (A 1198 11).toNatClampNeg) = p1 then Q 1 else Q 0)) else Q 0)
theorem tX10_is {Γ : jG} {n : Nat} {K : Nat → pKd} {G : pG} {Lg : pL} (hf : mOK n K G) {A : pA} (p1 : Int32) (Q : Int32 → Prop) (h : fX10_is A p1 Q) : jMet Γ yX10_is cX10_is 2 (some .boolean) [] 1 0 0 [.ref 1198, .int p1] (n, K, A, Lg, G) (fun o u => ∃ (r : Int32), o = .inl (some (.int r)) ∧ u = (n, K, A, Lg, G) ∧ Q r) := by
  unfold fX10_is at h
  obtain ⟨P, hP⟩ : ∃ P : jO → pS → Prop, P = (fun o u => ∃ (r : Int32), o = .inl (some (.int r)) ∧ u = (n, K, A, Lg, G) ∧ Q r) := ⟨_, rfl⟩
  rw [← hP]
  refine jMet_of rfl rfl rfl (Nat.le_of_ble_eq_true rfl) ?_
  show J Γ RX10 cX10_is 2 (some .boolean) "is" [] 1 0 0 0 [(0, .ref 1198), (1, .int p1)] [] (n, K, A, Lg, G) P
  refine j_aload_n 0 rfl dX10_is_0 ?_
  refine j_getfi fl_X10_212_9 rfl (m_lt hf (by decide)) (fk_1198 hf) dX10_is_1 ?_
  refine j_if_ne (tgt := 24) dX10_is_4 (by decide) (fun c => ?_) (fun c => ?_)
  · rw [if_neg c] at h
    refine j_iconst (v := 0) dX10_is_24 (by decide) ?_
    refine j_zret rfl (by decide) ?_ dX10_is_25
    rw [hP]
    exact ⟨0, rfl, rfl, h⟩
  · rw [if_pos c] at h
    refine j_aload_n 0 rfl dX10_is_7 ?_
    refine j_getfr fl_X10_20_9 rfl (m_lt hf (by decide)) (fk_1198 hf) (fg_1198_5 hf) dX10_is_8 ?_
    refine j_aload_n 0 rfl dX10_is_11 ?_
    refine j_getfi fl_X10_215_9 rfl (m_lt hf (by decide)) (fk_1198 hf) dX10_is_12 ?_
    obtain ⟨b1, h⟩ := h
    refine j_ialdJ (j := (A 1198 11).toNatClampNeg) (m_lt hf (by decide)) (fk_1201 hf) b1 rfl dX10_is_15 ?_
    refine j_iload_n 1 rfl dX10_is_16 ?_
    refine j_icmp_ne (tgt := 24) dX10_is_17 (by decide) (fun c => ?_) (fun c => ?_)
    · rw [if_neg c] at h
      refine j_iconst (v := 0) dX10_is_24 (by decide) ?_
      refine j_zret rfl (by decide) ?_ dX10_is_25
      rw [hP]
      exact ⟨0, rfl, rfl, h⟩
    · rw [if_pos c] at h
      refine j_iconst (v := 1) dX10_is_20 (by decide) ?_
      refine j_goto (tgt := 25) dX10_is_21 (by decide) ?_
      refine j_zret rfl (by decide) ?_ dX10_is_25
      rw [hP]
      exact ⟨1, rfl, rfl, h⟩
theorem myX10_fail : jY yX10_fail cX10_fail 2 none 1 := ⟨q1803, q139, by decide +kernel, by decide +kernel, by decide⟩
def fX10_fail (A : pA) (p1 : Int32) (Q : pA → Prop) : Prop :=
    (if (A 1198 13) ≤ 0 then ∀ A1 : pA, A1 = pup A 1198 13 p1 → (vp_in (A1 1198 11) 403) ∧ (∀ A3 : pA, A3 = pup A1 1198 14 (A1 1202 (A1 1198 11).toNatClampNeg) → Q A3) else Q A)
theorem tX10_fail {Γ : jG} {n : Nat} {K : Nat → pKd} {G : pG} {Lg : pL} (hf : mOK n K G) {A : pA} (p1 : Int32) (Q : pA → Prop) (h : fX10_fail A p1 Q) : jMet Γ yX10_fail cX10_fail 2 none [] 1 0 0 [.ref 1198, .int p1] (n, K, A, Lg, G) (fun o u => ∃ (A' : pA), o = .inl none ∧ u = (n, K, A', Lg, G) ∧ Q A') := by
  unfold fX10_fail at h
  obtain ⟨P, hP⟩ : ∃ P : jO → pS → Prop, P = (fun o u => ∃ (A' : pA), o = .inl none ∧ u = (n, K, A', Lg, G) ∧ Q A') := ⟨_, rfl⟩
  rw [← hP]
  refine jMet_of rfl rfl rfl (Nat.le_of_ble_eq_true rfl) ?_
  show J Γ RX10 cX10_fail 2 none "fail" [] 1 0 0 0 [(0, .ref 1198), (1, .int p1)] [] (n, K, A, Lg, G) P
  refine j_aload_n 0 rfl dX10_fail_0 ?_
  refine j_getfi fl_X10_212_9 rfl (m_lt hf (by decide)) (fk_1198 hf) dX10_fail_1 ?_
  refine j_if_le (tgt := 8) dX10_fail_4 (by decide) (fun c => ?_) (fun c => ?_)
  · rw [if_pos c] at h
    refine j_aload_n 0 rfl dX10_fail_8 ?_
    refine j_iload_n 1 rfl dX10_fail_9 ?_
    refine j_putfiE (fp_X10_212_9 _) rfl rfl rfl (m_lt hf (by decide)) (fk_1198 hf) dX10_fail_10 (fun A1 eA1 => ?_)
    replace h := h A1 eA1
    refine j_aload_n 0 rfl dX10_fail_13 ?_
    refine j_aload_n 0 rfl dX10_fail_14 ?_
    refine j_getfr fl_X10_24_9 rfl (m_lt hf (by decide)) (fk_1198 hf) (fg_1198_6 hf) dX10_fail_15 ?_
    refine j_aload_n 0 rfl dX10_fail_18 ?_
    refine j_getfi fl_X10_215_9 rfl (m_lt hf (by decide)) (fk_1198 hf) dX10_fail_19 ?_
    obtain ⟨b2, h⟩ := h
    refine j_ialdJ (j := (A1 1198 11).toNatClampNeg) (m_lt hf (by decide)) (fk_1202 hf) b2 rfl dX10_fail_22 ?_
    refine j_putfiE (fp_X10_218_9 _) rfl rfl rfl (m_lt hf (by decide)) (fk_1198 hf) dX10_fail_23 (fun A3 eA3 => ?_)
    replace h := h A3 eA3
    refine j_vret rfl ?_ dX10_fail_26
    rw [hP]
    exact ⟨A3, rfl, rfl, h⟩
  · rw [if_neg c] at h
    refine j_vret rfl ?_ dX10_fail_7
    rw [hP]
    exact ⟨A, rfl, rfl, h⟩
theorem myX10_goesOn : jY yX10_goesOn cX10_goesOn 1 none 0 := ⟨q1807, q139, by decide +kernel, by decide +kernel, by decide⟩
def fX10_goesOn (A : pA) (Q : pA → Prop) : Prop :=
    (if (A 1198 11) = 400 then fX10_fail A 2 (fun A2 => Q A2) else ∀ A1 : pA, A1 = pup A 1198 11 ((A 1198 11) + 1) → Q A1)
theorem tX10_goesOn {Γ : jG} {n : Nat} {K : Nat → pKd} {G : pG} {Lg : pL} (hf : mOK n K G) {A : pA}  (Q : pA → Prop) (h : fX10_goesOn A Q) : jMet Γ yX10_goesOn cX10_goesOn 1 none [] 2 0 0 [.ref 1198] (n, K, A, Lg, G) (fun o u => ∃ (A' : pA), o = .inl none ∧ u = (n, K, A', Lg, G) ∧ Q A') := by
  unfold fX10_goesOn at h
  obtain ⟨P, hP⟩ : ∃ P : jO → pS → Prop, P = (fun o u => ∃ (A' : pA), o = .inl none ∧ u = (n, K, A', Lg, G) ∧ Q A') := ⟨_, rfl⟩
  rw [← hP]
  refine jMet_of rfl rfl rfl (Nat.le_of_ble_eq_true rfl) ?_
  show J Γ RX10 cX10_goesOn 1 none "goesOn" [] 2 0 0 0 [(0, .ref 1198)] [] (n, K, A, Lg, G) P
  refine j_aload_n 0 rfl dX10_goesOn_0 ?_
  refine j_getfi fl_X10_215_9 rfl (m_lt hf (by decide)) (fk_1198 hf) dX10_goesOn_1 ?_
  refine j_sipush (v := 400) dX10_goesOn_4 (by decide) ?_
  refine j_icmp_ne (tgt := 18) dX10_goesOn_7 (by decide) (fun c => ?_) (fun c => ?_)
  · rw [if_neg c] at h
    refine j_aload_n 0 rfl dX10_goesOn_18 ?_
    refine j_dup rfl dX10_goesOn_19 ?_
    refine j_getfi fl_X10_215_9 rfl (m_lt hf (by decide)) (fk_1198 hf) dX10_goesOn_20 ?_
    refine j_iconst (v := 1) dX10_goesOn_23 (by decide) ?_
    refine j_iadd dX10_goesOn_24 ?_
    refine j_putfiE (fp_X10_215_9 _) rfl rfl rfl (m_lt hf (by decide)) (fk_1198 hf) dX10_goesOn_25 (fun A1 eA1 => ?_)
    replace h := h A1 eA1
    refine j_vret rfl ?_ dX10_goesOn_28
    rw [hP]
    exact ⟨A1, rfl, rfl, h⟩
  · rw [if_pos c] at h
    refine j_aload_n 0 rfl dX10_goesOn_10 ?_
    refine j_iconst (v := 2) dX10_goesOn_11 (by decide) ?_
    refine j_callV (b := 1198) (As := [.int 2]) (st := []) (C := RX10) (kc' := 0) (ks' := 0) (tX10_fail hf 2 _ h) myX10_fail rfl q1800 q1802 qs65 (by decide) (fun s9 H9 hK9 hR9 h69 => jIs_in hK9 hR9 h69 (m_lt hf (by decide)) (fk_1198 hf) rfl) rfl (Nat.le_of_ble_eq_true rfl) rfl (by decide) (Nat.le_refl 0) (Nat.le_refl 0) dX10_goesOn_12 (fun v9 u9 hq => ?_) (fun k9 u9 hq => by obtain ⟨_, e9, _⟩ := hq; cases e9)
    obtain ⟨A2, e9, rfl, h⟩ := hq
    obtain rfl := Sum.inl.inj e9
    show J Γ RX10 cX10_goesOn 1 none "goesOn" [] 2 0 0 15 [(0, .ref 1198)] [] (n, K, A2, Lg, G) P
    refine j_goto (tgt := 28) dX10_goesOn_15 (by decide) ?_
    refine j_vret rfl ?_ dX10_goesOn_28
    rw [hP]
    exact ⟨A2, rfl, rfl, h⟩
theorem myX10_wrong : jY yX10_wrong cX10_wrong 4 none 2 := ⟨q1819, q139, by decide +kernel, by decide +kernel, by decide⟩
def fX10_wrong_J46   (Q : pA → Prop) (l1 : Int32) (l3 : Int32) (A : pA) : Prop :=
    ∀ A1 : pA, A1 = pup A 1198 15 l1 → ∀ A2 : pA, A2 = pup A1 1198 16 l3 → Q A2
theorem fX10_wrong_J46_ok {Γ : jG} {n : Nat} {K : Nat → pKd} {G : pG} {Lg : pL} (hf : mOK n K G) (Q : pA → Prop) (P : jO → pS → Prop) (hP : P = (fun o u => ∃ (A' : pA), o = .inl none ∧ u = (n, K, A', Lg, G) ∧ Q A'))   (l1 : Int32) (l3 : Int32) (A : pA) (h : fX10_wrong_J46   Q l1 l3 A) : J Γ RX10 cX10_wrong 4 none "wrong" [] 1 0 0 46 [(0, .ref 1198), (1, .int l1), (3, .int l3)] [] (n, K, A, Lg, G) P := by
  unfold fX10_wrong_J46 at h
  refine j_aload_n 0 rfl dX10_wrong_46 ?_
  refine j_iload_n 1 rfl dX10_wrong_47 ?_
  refine j_putfiE (fp_X10_221_9 _) rfl rfl rfl (m_lt hf (by decide)) (fk_1198 hf) dX10_wrong_48 (fun A1 eA1 => ?_)
  replace h := h A1 eA1
  refine j_aload_n 0 rfl dX10_wrong_51 ?_
  refine j_iload_n 2 rfl dX10_wrong_52 ?_
  refine j_putfiE (fp_X10_224_9 _) rfl rfl rfl (m_lt hf (by decide)) (fk_1198 hf) dX10_wrong_53 (fun A2 eA2 => ?_)
  replace h := h A2 eA2
  refine j_vret rfl ?_ dX10_wrong_56
  rw [hP]
  exact ⟨A2, rfl, rfl, h⟩
def fX10_wrong (A : pA) (p1 : Int32) (p2 : Int32) (Q : pA → Prop) : Prop :=
    (vp_in p2 403) ∧ ((if 0 < (A 1198 13) then Q A else (if (A 1198 15) = 0 then fX10_wrong_J46   Q p1 (A 1202 (p2).toNatClampNeg) A else (if (A 1198 16) < (A 1202 (p2).toNatClampNeg) then Q A else (if (A 1202 (p2).toNatClampNeg) = (A 1198 16) then (if p1 < (A 1198 15) then fX10_wrong_J46   Q p1 (A 1202 (p2).toNatClampNeg) A else Q A) else fX10_wrong_J46   Q p1 (A 1202 (p2).toNatClampNeg) A)))))
theorem tX10_wrong {Γ : jG} {n : Nat} {K : Nat → pKd} {G : pG} {Lg : pL} (hf : mOK n K G) {A : pA} (p1 : Int32) (p2 : Int32) (Q : pA → Prop) (h : fX10_wrong A p1 p2 Q) : jMet Γ yX10_wrong cX10_wrong 4 none [] 1 0 0 [.ref 1198, .int p1, .int p2] (n, K, A, Lg, G) (fun o u => ∃ (A' : pA), o = .inl none ∧ u = (n, K, A', Lg, G) ∧ Q A') := by
  unfold fX10_wrong at h
  obtain ⟨P, hP⟩ : ∃ P : jO → pS → Prop, P = (fun o u => ∃ (A' : pA), o = .inl none ∧ u = (n, K, A', Lg, G) ∧ Q A') := ⟨_, rfl⟩
  rw [← hP]
  refine jMet_of rfl rfl rfl (Nat.le_of_ble_eq_true rfl) ?_
  show J Γ RX10 cX10_wrong 4 none "wrong" [] 1 0 0 0 [(0, .ref 1198), (1, .int p1), (2, .int p2)] [] (n, K, A, Lg, G) P
  refine j_aload_n 0 rfl dX10_wrong_0 ?_
  refine j_getfr fl_X10_24_9 rfl (m_lt hf (by decide)) (fk_1198 hf) (fg_1198_6 hf) dX10_wrong_1 ?_
  refine j_iload_n 2 rfl dX10_wrong_4 ?_
  obtain ⟨b3, h⟩ := h
  refine j_ialdJ (j := (p2).toNatClampNeg) (m_lt hf (by decide)) (fk_1202 hf) b3 rfl dX10_wrong_5 ?_
  refine j_istore_n (by decide) rfl dX10_wrong_6 ?_
  refine j_aload_n 1 rfl dX10_wrong_7 ?_
  refine j_getfi fl_X10_212_9 rfl (m_lt hf (by decide)) (fk_1198 hf) dX10_wrong_8 ?_
  refine j_if_gt (tgt := 45) dX10_wrong_11 (by decide) (fun c => ?_) (fun c => ?_)
  · rw [if_pos c] at h
    refine j_vret rfl ?_ dX10_wrong_45
    rw [hP]
    exact ⟨A, rfl, rfl, h⟩
  · rw [if_neg c] at h
    refine j_aload_n 1 rfl dX10_wrong_14 ?_
    refine j_getfi fl_X10_221_9 rfl (m_lt hf (by decide)) (fk_1198 hf) dX10_wrong_15 ?_
    refine j_if_eq (tgt := 46) dX10_wrong_18 (by decide) (fun c => ?_) (fun c => ?_)
    · rw [if_pos c] at h
      refine j_ls [1, 2, 0] rfl ?_
      exact fX10_wrong_J46_ok hf Q P hP   p1 (A 1202 (p2).toNatClampNeg) A h
    · rw [if_neg c] at h
      refine j_iload_n 0 rfl dX10_wrong_21 ?_
      refine j_aload_n 1 rfl dX10_wrong_22 ?_
      refine j_getfi fl_X10_224_9 rfl (m_lt hf (by decide)) (fk_1198 hf) dX10_wrong_23 ?_
      refine j_icmp_gt (tgt := 45) dX10_wrong_26 (by decide) (fun c => ?_) (fun c => ?_)
      · rw [if_pos c] at h
        refine j_vret rfl ?_ dX10_wrong_45
        rw [hP]
        exact ⟨A, rfl, rfl, h⟩
      · rw [if_neg c] at h
        refine j_iload_n 0 rfl dX10_wrong_29 ?_
        refine j_aload_n 1 rfl dX10_wrong_30 ?_
        refine j_getfi fl_X10_224_9 rfl (m_lt hf (by decide)) (fk_1198 hf) dX10_wrong_31 ?_
        refine j_icmp_ne (tgt := 46) dX10_wrong_34 (by decide) (fun c => ?_) (fun c => ?_)
        · rw [if_neg c] at h
          refine j_ls [1, 2, 0] rfl ?_
          exact fX10_wrong_J46_ok hf Q P hP   p1 (A 1202 (p2).toNatClampNeg) A h
        · rw [if_pos c] at h
          refine j_iload_n 2 rfl dX10_wrong_37 ?_
          refine j_aload_n 1 rfl dX10_wrong_38 ?_
          refine j_getfi fl_X10_221_9 rfl (m_lt hf (by decide)) (fk_1198 hf) dX10_wrong_39 ?_
          refine j_icmp_lt (tgt := 46) dX10_wrong_42 (by decide) (fun c => ?_) (fun c => ?_)
          · rw [if_pos c] at h
            refine j_ls [1, 2, 0] rfl ?_
            exact fX10_wrong_J46_ok hf Q P hP   p1 (A 1202 (p2).toNatClampNeg) A h
          · rw [if_neg c] at h
            refine j_vret rfl ?_ dX10_wrong_45
            rw [hP]
            exact ⟨A, rfl, rfl, h⟩
theorem myX10_bounded : jY yX10_bounded cX10_bounded 4 (some .int) 2 := ⟨q1843, q139, by decide +kernel, by decide +kernel, by decide⟩
def fX10_bounded_J15   (Q : Int32 → pA → Prop) (l1 : Int32) (A : pA) : Prop :=
    fX10_fail A 1 (fun A1 => Q l1 A1)
theorem fX10_bounded_J15_ok {Γ : jG} {n : Nat} {K : Nat → pKd} {G : pG} {Lg : pL} (hf : mOK n K G) (Q : Int32 → pA → Prop) (P : jO → pS → Prop) (hP : P = (fun o u => ∃ (r : Int32) (A' : pA), o = .inl (some (.int r)) ∧ u = (n, K, A', Lg, G) ∧ Q r A'))   (l1 : Int32) (A : pA) (h : fX10_bounded_J15   Q l1 A) : J Γ RX10 cX10_bounded 4 (some .int) "bounded" [] 3 0 0 15 [(0, .ref 1198), (1, .int l1)] [] (n, K, A, Lg, G) P := by
  unfold fX10_bounded_J15 at h
  refine j_aload_n 0 rfl dX10_bounded_15 ?_
  refine j_iconst (v := 1) dX10_bounded_16 (by decide) ?_
  refine j_callV (b := 1198) (As := [.int 1]) (st := []) (C := RX10) (kc' := 0) (ks' := 0) (tX10_fail hf 1 _ h) myX10_fail rfl q1800 q1802 qs65 (by decide) (fun s9 H9 hK9 hR9 h69 => jIs_in hK9 hR9 h69 (m_lt hf (by decide)) (fk_1198 hf) rfl) rfl (Nat.le_of_ble_eq_true rfl) rfl (by decide) (Nat.le_refl 0) (Nat.le_refl 0) dX10_bounded_17 (fun v9 u9 hq => ?_) (fun k9 u9 hq => by obtain ⟨_, e9, _⟩ := hq; cases e9)
  obtain ⟨A1, e9, rfl, h⟩ := hq
  obtain rfl := Sum.inl.inj e9
  show J Γ RX10 cX10_bounded 4 (some .int) "bounded" [] 3 0 0 20 [(0, .ref 1198), (1, .int l1)] [] (n, K, A1, Lg, G) P
  refine j_iload_n 1 rfl dX10_bounded_20 ?_
  refine j_iret rfl ?_ dX10_bounded_21
  rw [hP]
  exact ⟨l1, A1, rfl, rfl, h⟩
def fX10_bounded_J51   (Q : Int32 → pA → Prop) (l3 : Int32) (A : pA) : Prop :=
    fX10_goesOn A (fun A2 => Q l3 A2)
theorem fX10_bounded_J51_ok {Γ : jG} {n : Nat} {K : Nat → pKd} {G : pG} {Lg : pL} (hf : mOK n K G) (Q : Int32 → pA → Prop) (P : jO → pS → Prop) (hP : P = (fun o u => ∃ (r : Int32) (A' : pA), o = .inl (some (.int r)) ∧ u = (n, K, A', Lg, G) ∧ Q r A'))   (l3 : Int32) (A : pA) (h : fX10_bounded_J51   Q l3 A) : J Γ RX10 cX10_bounded 4 (some .int) "bounded" [] 3 0 0 51 [(0, .ref 1198), (3, .int l3)] [] (n, K, A, Lg, G) P := by
  unfold fX10_bounded_J51 at h
  refine j_aload_n 0 rfl dX10_bounded_51 ?_
  refine j_callV (b := 1198) (As := []) (st := []) (C := RX10) (kc' := 0) (ks' := 0) (tX10_goesOn hf  _ h) myX10_goesOn rfl q1804 q1806 qs66 (by decide) (fun s9 H9 hK9 hR9 h69 => jIs_in hK9 hR9 h69 (m_lt hf (by decide)) (fk_1198 hf) rfl) rfl (Nat.le_of_ble_eq_true rfl) rfl (by decide) (Nat.le_refl 0) (Nat.le_refl 0) dX10_bounded_52 (fun v9 u9 hq => ?_) (fun k9 u9 hq => by obtain ⟨_, e9, _⟩ := hq; cases e9)
  obtain ⟨A2, e9, rfl, h⟩ := hq
  obtain rfl := Sum.inl.inj e9
  show J Γ RX10 cX10_bounded 4 (some .int) "bounded" [] 3 0 0 55 [(0, .ref 1198), (3, .int l3)] [] (n, K, A2, Lg, G) P
  refine j_iload_n 1 rfl dX10_bounded_55 ?_
  refine j_iret rfl ?_ dX10_bounded_56
  rw [hP]
  exact ⟨l3, A2, rfl, rfl, h⟩
def fX10_bounded_J42   (Q : Int32 → pA → Prop) (l3 : Int32) (A : pA) : Prop :=
    fX10_wrong A 5 (A 1198 11) (fun A3 => fX10_bounded_J51   Q l3 A3)
theorem fX10_bounded_J42_ok {Γ : jG} {n : Nat} {K : Nat → pKd} {G : pG} {Lg : pL} (hf : mOK n K G) (Q : Int32 → pA → Prop) (P : jO → pS → Prop) (hP : P = (fun o u => ∃ (r : Int32) (A' : pA), o = .inl (some (.int r)) ∧ u = (n, K, A', Lg, G) ∧ Q r A'))   (l3 : Int32) (A : pA) (h : fX10_bounded_J42   Q l3 A) : J Γ RX10 cX10_bounded 4 (some .int) "bounded" [] 3 0 0 42 [(0, .ref 1198), (3, .int l3)] [] (n, K, A, Lg, G) P := by
  unfold fX10_bounded_J42 at h
  refine j_aload_n 0 rfl dX10_bounded_42 ?_
  refine j_iconst (v := 5) dX10_bounded_43 (by decide) ?_
  refine j_aload_n 0 rfl dX10_bounded_44 ?_
  refine j_getfi fl_X10_215_9 rfl (m_lt hf (by decide)) (fk_1198 hf) dX10_bounded_45 ?_
  refine j_callV (b := 1198) (As := [.int 5, .int (A 1198 11)]) (st := []) (C := RX10) (kc' := 0) (ks' := 0) (tX10_wrong hf 5 (A 1198 11) _ h) myX10_wrong rfl q1816 q1818 qs69 (by decide) (fun s9 H9 hK9 hR9 h69 => jIs_in hK9 hR9 h69 (m_lt hf (by decide)) (fk_1198 hf) rfl) rfl (Nat.le_of_ble_eq_true rfl) rfl (by decide) (Nat.le_refl 0) (Nat.le_refl 0) dX10_bounded_48 (fun v9 u9 hq => ?_) (fun k9 u9 hq => by obtain ⟨_, e9, _⟩ := hq; cases e9)
  obtain ⟨A3, e9, rfl, h⟩ := hq
  obtain rfl := Sum.inl.inj e9
  show J Γ RX10 cX10_bounded 4 (some .int) "bounded" [] 3 0 0 51 [(0, .ref 1198), (3, .int l3)] [] (n, K, A3, Lg, G) P
  exact fX10_bounded_J51_ok hf Q P hP   l3 A3 h
def fX10_bounded (A : pA) (p1 : Int32) (p2 : Int32) (Q : Int32 → pA → Prop) : Prop :=
    (if 0 < (A 1198 13) then fX10_bounded_J15   Q p1 A else fX10_is A 2 (fun r4 => (if r4 = 0 then fX10_bounded_J15   Q p1 A else (vp_in (A 1198 11) 403) ∧ ((if (A 1203 (A 1198 11).toNatClampNeg) < p1 then fX10_bounded_J42   Q (A 1203 (A 1198 11).toNatClampNeg) A else (if (A 1203 (A 1198 11).toNatClampNeg) ≤ p2 then fX10_bounded_J51   Q (A 1203 (A 1198 11).toNatClampNeg) A else fX10_bounded_J42   Q (A 1203 (A 1198 11).toNatClampNeg) A))))))
theorem tX10_bounded {Γ : jG} {n : Nat} {K : Nat → pKd} {G : pG} {Lg : pL} (hf : mOK n K G) {A : pA} (p1 : Int32) (p2 : Int32) (Q : Int32 → pA → Prop) (h : fX10_bounded A p1 p2 Q) : jMet Γ yX10_bounded cX10_bounded 4 (some .int) [] 3 0 0 [.ref 1198, .int p1, .int p2] (n, K, A, Lg, G) (fun o u => ∃ (r : Int32) (A' : pA), o = .inl (some (.int r)) ∧ u = (n, K, A', Lg, G) ∧ Q r A') := by
  unfold fX10_bounded at h
  obtain ⟨P, hP⟩ : ∃ P : jO → pS → Prop, P = (fun o u => ∃ (r : Int32) (A' : pA), o = .inl (some (.int r)) ∧ u = (n, K, A', Lg, G) ∧ Q r A') := ⟨_, rfl⟩
  rw [← hP]
  refine jMet_of rfl rfl rfl (Nat.le_of_ble_eq_true rfl) ?_
  show J Γ RX10 cX10_bounded 4 (some .int) "bounded" [] 3 0 0 0 [(0, .ref 1198), (1, .int p1), (2, .int p2)] [] (n, K, A, Lg, G) P
  refine j_aload_n 0 rfl dX10_bounded_0 ?_
  refine j_getfi fl_X10_212_9 rfl (m_lt hf (by decide)) (fk_1198 hf) dX10_bounded_1 ?_
  refine j_if_gt (tgt := 15) dX10_bounded_4 (by decide) (fun c => ?_) (fun c => ?_)
  · rw [if_pos c] at h
    refine j_ls [0, 1] rfl ?_
    exact fX10_bounded_J15_ok hf Q P hP   p1 A h
  · rw [if_neg c] at h
    refine j_aload_n 0 rfl dX10_bounded_7 ?_
    refine j_iconst (v := 2) dX10_bounded_8 (by decide) ?_
    refine j_callV (b := 1198) (As := [.int 2]) (st := []) (C := RX10) (kc' := 0) (ks' := 0) (tX10_is hf 2 _ h) myX10_is rfl q1788 q1790 qs62 (by decide) (fun s9 H9 hK9 hR9 h69 => jIs_in hK9 hR9 h69 (m_lt hf (by decide)) (fk_1198 hf) rfl) rfl (Nat.le_of_ble_eq_true rfl) rfl (by decide) (Nat.le_refl 0) (Nat.le_refl 0) dX10_bounded_9 (fun v9 u9 hq => ?_) (fun k9 u9 hq => by obtain ⟨_, e9, _⟩ := hq; cases e9)
    obtain ⟨r4, e9, rfl, h⟩ := hq
    obtain rfl := Sum.inl.inj e9
    show J Γ RX10 cX10_bounded 4 (some .int) "bounded" [] 3 0 0 12 [(0, .ref 1198), (1, .int p1), (2, .int p2)] [.int r4] (n, K, A, Lg, G) P
    refine j_if_ne (tgt := 22) dX10_bounded_12 (by decide) (fun c => ?_) (fun c => ?_)
    · rw [if_neg c] at h
      refine j_aload_n 0 rfl dX10_bounded_22 ?_
      refine j_getfr fl_X10_27_9 rfl (m_lt hf (by decide)) (fk_1198 hf) (fg_1198_7 hf) dX10_bounded_23 ?_
      refine j_aload_n 0 rfl dX10_bounded_26 ?_
      refine j_getfi fl_X10_215_9 rfl (m_lt hf (by decide)) (fk_1198 hf) dX10_bounded_27 ?_
      obtain ⟨b5, h⟩ := h
      refine j_ialdJ (j := (A 1198 11).toNatClampNeg) (m_lt hf (by decide)) (fk_1203 hf) b5 rfl dX10_bounded_30 ?_
      refine j_istore_n (by decide) rfl dX10_bounded_31 ?_
      refine j_iload_n 0 rfl dX10_bounded_32 ?_
      refine j_iload_n 2 rfl dX10_bounded_33 ?_
      refine j_icmp_lt (tgt := 42) dX10_bounded_34 (by decide) (fun c => ?_) (fun c => ?_)
      · rw [if_pos c] at h
        refine j_ls [1, 0] rfl ?_
        exact fX10_bounded_J42_ok hf Q P hP   (A 1203 (A 1198 11).toNatClampNeg) A h
      · rw [if_neg c] at h
        refine j_iload_n 0 rfl dX10_bounded_37 ?_
        refine j_iload_n 3 rfl dX10_bounded_38 ?_
        refine j_icmp_le (tgt := 51) dX10_bounded_39 (by decide) (fun c => ?_) (fun c => ?_)
        · rw [if_pos c] at h
          refine j_ls [1, 0] rfl ?_
          exact fX10_bounded_J51_ok hf Q P hP   (A 1203 (A 1198 11).toNatClampNeg) A h
        · rw [if_neg c] at h
          refine j_ls [1, 0] rfl ?_
          exact fX10_bounded_J42_ok hf Q P hP   (A 1203 (A 1198 11).toNatClampNeg) A h
    · rw [if_pos c] at h
      refine j_ls [0, 1] rfl ?_
      exact fX10_bounded_J15_ok hf Q P hP   p1 A h
theorem myX10_must : jY yX10_must cX10_must 2 none 1 := ⟨q1815, q139, by decide +kernel, by decide +kernel, by decide⟩
def fX10_must (A : pA) (p1 : Int32) (Q : pA → Prop) : Prop :=
    fX10_is A p1 (fun r1 => (if r1 = 0 then fX10_fail A 1 (fun A2 => Q A2) else fX10_goesOn A (fun A3 => Q A3)))
theorem tX10_must {Γ : jG} {n : Nat} {K : Nat → pKd} {G : pG} {Lg : pL} (hf : mOK n K G) {A : pA} (p1 : Int32) (Q : pA → Prop) (h : fX10_must A p1 Q) : jMet Γ yX10_must cX10_must 2 none [] 3 0 0 [.ref 1198, .int p1] (n, K, A, Lg, G) (fun o u => ∃ (A' : pA), o = .inl none ∧ u = (n, K, A', Lg, G) ∧ Q A') := by
  unfold fX10_must at h
  obtain ⟨P, hP⟩ : ∃ P : jO → pS → Prop, P = (fun o u => ∃ (A' : pA), o = .inl none ∧ u = (n, K, A', Lg, G) ∧ Q A') := ⟨_, rfl⟩
  rw [← hP]
  refine jMet_of rfl rfl rfl (Nat.le_of_ble_eq_true rfl) ?_
  show J Γ RX10 cX10_must 2 none "must" [] 3 0 0 0 [(0, .ref 1198), (1, .int p1)] [] (n, K, A, Lg, G) P
  refine j_aload_n 0 rfl dX10_must_0 ?_
  refine j_iload_n 1 rfl dX10_must_1 ?_
  refine j_callV (b := 1198) (As := [.int p1]) (st := []) (C := RX10) (kc' := 0) (ks' := 0) (tX10_is hf p1 _ h) myX10_is rfl q1788 q1790 qs62 (by decide) (fun s9 H9 hK9 hR9 h69 => jIs_in hK9 hR9 h69 (m_lt hf (by decide)) (fk_1198 hf) rfl) rfl (Nat.le_of_ble_eq_true rfl) rfl (by decide) (Nat.le_refl 0) (Nat.le_refl 0) dX10_must_2 (fun v9 u9 hq => ?_) (fun k9 u9 hq => by obtain ⟨_, e9, _⟩ := hq; cases e9)
  obtain ⟨r1, e9, rfl, h⟩ := hq
  obtain rfl := Sum.inl.inj e9
  show J Γ RX10 cX10_must 2 none "must" [] 3 0 0 5 [(0, .ref 1198), (1, .int p1)] [.int r1] (n, K, A, Lg, G) P
  refine j_if_eq (tgt := 15) dX10_must_5 (by decide) (fun c => ?_) (fun c => ?_)
  · rw [if_pos c] at h
    refine j_aload_n 0 rfl dX10_must_15 ?_
    refine j_iconst (v := 1) dX10_must_16 (by decide) ?_
    refine j_callV (b := 1198) (As := [.int 1]) (st := []) (C := RX10) (kc' := 0) (ks' := 0) (tX10_fail hf 1 _ h) myX10_fail rfl q1800 q1802 qs65 (by decide) (fun s9 H9 hK9 hR9 h69 => jIs_in hK9 hR9 h69 (m_lt hf (by decide)) (fk_1198 hf) rfl) rfl (Nat.le_of_ble_eq_true rfl) rfl (by decide) (Nat.le_refl 0) (Nat.le_refl 0) dX10_must_17 (fun v9 u9 hq => ?_) (fun k9 u9 hq => by obtain ⟨_, e9, _⟩ := hq; cases e9)
    obtain ⟨A2, e9, rfl, h⟩ := hq
    obtain rfl := Sum.inl.inj e9
    show J Γ RX10 cX10_must 2 none "must" [] 3 0 0 20 [(0, .ref 1198), (1, .int p1)] [] (n, K, A2, Lg, G) P
    refine j_vret rfl ?_ dX10_must_20
    rw [hP]
    exact ⟨A2, rfl, rfl, h⟩
  · rw [if_neg c] at h
    refine j_aload_n 0 rfl dX10_must_8 ?_
    refine j_callV (b := 1198) (As := []) (st := []) (C := RX10) (kc' := 0) (ks' := 0) (tX10_goesOn hf  _ h) myX10_goesOn rfl q1804 q1806 qs66 (by decide) (fun s9 H9 hK9 hR9 h69 => jIs_in hK9 hR9 h69 (m_lt hf (by decide)) (fk_1198 hf) rfl) rfl (Nat.le_of_ble_eq_true rfl) rfl (by decide) (Nat.le_refl 0) (Nat.le_refl 0) dX10_must_9 (fun v9 u9 hq => ?_) (fun k9 u9 hq => by obtain ⟨_, e9, _⟩ := hq; cases e9)
    obtain ⟨A3, e9, rfl, h⟩ := hq
    obtain rfl := Sum.inl.inj e9
    show J Γ RX10 cX10_must 2 none "must" [] 3 0 0 12 [(0, .ref 1198), (1, .int p1)] [] (n, K, A3, Lg, G) P
    refine j_goto (tgt := 20) dX10_must_12 (by decide) ?_
    refine j_vret rfl ?_ dX10_must_20
    rw [hP]
    exact ⟨A3, rfl, rfl, h⟩
theorem myX10_ends : jY yX10_ends cX10_ends 3 none 2 := ⟨q1823, q139, by decide +kernel, by decide +kernel, by decide⟩
def fX10_ends (A : pA) (Lg : pL) (p1 : Int32) (p2 : Int32) (Q : pA → pL → Prop) : Prop :=
    fX10_must A 4 (fun A1 => (if (A1 1198 13) ≤ 0 then (vp_in p1 403) ∧ ((vp_in (A1 1198 20) 16) ∧ (∀ L4 : pL, L4 = pup Lg 1206 (A1 1198 20).toNatClampNeg (Lg 1204 (p1).toNatClampNeg) → (vp_in (A1 1198 20) 16) ∧ (∀ A6 : pA, A6 = pup A1 1207 (A1 1198 20).toNatClampNeg p2 → ∀ A7 : pA, A7 = pup A6 1198 20 ((A6 1198 20) + 1) → Q A7 L4))) else Q A1 Lg))
theorem tX10_ends {Γ : jG} {n : Nat} {K : Nat → pKd} {G : pG} (hf : mOK n K G) {A : pA} {Lg : pL} (p1 : Int32) (p2 : Int32) (Q : pA → pL → Prop) (h : fX10_ends A Lg p1 p2 Q) : jMet Γ yX10_ends cX10_ends 3 none [] 4 0 0 [.ref 1198, .int p1, .int p2] (n, K, A, Lg, G) (fun o u => ∃ (A' : pA) (Lg' : pL), o = .inl none ∧ u = (n, K, A', Lg', G) ∧ Q A' Lg') := by
  unfold fX10_ends at h
  obtain ⟨P, hP⟩ : ∃ P : jO → pS → Prop, P = (fun o u => ∃ (A' : pA) (Lg' : pL), o = .inl none ∧ u = (n, K, A', Lg', G) ∧ Q A' Lg') := ⟨_, rfl⟩
  rw [← hP]
  refine jMet_of rfl rfl rfl (Nat.le_of_ble_eq_true rfl) ?_
  show J Γ RX10 cX10_ends 3 none "ends" [] 4 0 0 0 [(0, .ref 1198), (1, .int p1), (2, .int p2)] [] (n, K, A, Lg, G) P
  refine j_aload_n 0 rfl dX10_ends_0 ?_
  refine j_iconst (v := 4) dX10_ends_1 (by decide) ?_
  refine j_callV (b := 1198) (As := [.int 4]) (st := []) (C := RX10) (kc' := 0) (ks' := 0) (tX10_must hf 4 _ h) myX10_must rfl q1812 q1814 qs68 (by decide) (fun s9 H9 hK9 hR9 h69 => jIs_in hK9 hR9 h69 (m_lt hf (by decide)) (fk_1198 hf) rfl) rfl (Nat.le_of_ble_eq_true rfl) rfl (by decide) (Nat.le_refl 0) (Nat.le_refl 0) dX10_ends_2 (fun v9 u9 hq => ?_) (fun k9 u9 hq => by obtain ⟨_, e9, _⟩ := hq; cases e9)
  obtain ⟨A1, e9, rfl, h⟩ := hq
  obtain rfl := Sum.inl.inj e9
  show J Γ RX10 cX10_ends 3 none "ends" [] 4 0 0 5 [(0, .ref 1198), (1, .int p1), (2, .int p2)] [] (n, K, A1, Lg, G) P
  refine j_aload_n 0 rfl dX10_ends_5 ?_
  refine j_getfi fl_X10_212_9 rfl (m_lt hf (by decide)) (fk_1198 hf) dX10_ends_6 ?_
  refine j_if_le (tgt := 13) dX10_ends_9 (by decide) (fun c => ?_) (fun c => ?_)
  · rw [if_pos c] at h
    refine j_aload_n 0 rfl dX10_ends_13 ?_
    refine j_getfr fl_X10_40_9 rfl (m_lt hf (by decide)) (fk_1198 hf) (fg_1198_21 hf) dX10_ends_14 ?_
    refine j_aload_n 0 rfl dX10_ends_17 ?_
    refine j_getfi fl_X10_248_9 rfl (m_lt hf (by decide)) (fk_1198 hf) dX10_ends_18 ?_
    refine j_aload_n 0 rfl dX10_ends_21 ?_
    refine j_getfr fl_X10_30_9 rfl (m_lt hf (by decide)) (fk_1198 hf) (fg_1198_8 hf) dX10_ends_22 ?_
    refine j_iload_n 1 rfl dX10_ends_25 ?_
    obtain ⟨b2, h⟩ := h
    refine j_laldJ (j := (p1).toNatClampNeg) (m_lt hf (by decide)) (fk_1204 hf) b2 rfl dX10_ends_26 ?_
    obtain ⟨b3, h⟩ := h
    refine j_lastJ (j := (A1 1198 20).toNatClampNeg) (m_lt hf (by decide)) (fk_1206 hf) b3 rfl dX10_ends_27 (fun L4 eL4 => ?_)
    replace h := h L4 eL4
    refine j_aload_n 0 rfl dX10_ends_28 ?_
    refine j_getfr fl_X10_43_9 rfl (m_lt hf (by decide)) (fk_1198 hf) (fg_1198_22 hf) dX10_ends_29 ?_
    refine j_aload_n 0 rfl dX10_ends_32 ?_
    refine j_getfi fl_X10_248_9 rfl (m_lt hf (by decide)) (fk_1198 hf) dX10_ends_33 ?_
    refine j_iload_n 2 rfl dX10_ends_36 ?_
    obtain ⟨b5, h⟩ := h
    refine j_iastJ (j := (A1 1198 20).toNatClampNeg) (m_lt hf (by decide)) (fk_1207 hf) b5 rfl dX10_ends_37 (fun A6 eA6 => ?_)
    replace h := h A6 eA6
    refine j_aload_n 0 rfl dX10_ends_38 ?_
    refine j_dup rfl dX10_ends_39 ?_
    refine j_getfi fl_X10_248_9 rfl (m_lt hf (by decide)) (fk_1198 hf) dX10_ends_40 ?_
    refine j_iconst (v := 1) dX10_ends_43 (by decide) ?_
    refine j_iadd dX10_ends_44 ?_
    refine j_putfiE (fp_X10_248_9 _) rfl rfl rfl (m_lt hf (by decide)) (fk_1198 hf) dX10_ends_45 (fun A7 eA7 => ?_)
    replace h := h A7 eA7
    refine j_vret rfl ?_ dX10_ends_48
    rw [hP]
    exact ⟨A7, L4, rfl, rfl, h⟩
  · rw [if_neg c] at h
    refine j_vret rfl ?_ dX10_ends_12
    rw [hP]
    exact ⟨A1, Lg, rfl, rfl, h⟩
theorem myX10_named : jY yX10_named cX10_named 3 (some .int) 0 := ⟨q1811, q139, by decide +kernel, by decide +kernel, by decide⟩
def fX10_named_J49 (Lg : pL) (k12 : Int32 → Int32 → pA → Prop) (Q : Int32 → pA → Prop) (l1 : Int32) (l2 : Int32) (A : pA) : Prop :=
    k12 l1 (l2 + 1) A
theorem fX10_named_J49_ok {Γ : jG} {n : Nat} {K : Nat → pKd} {G : pG} {Lg : pL} (hf : mOK n K G) (Q : Int32 → pA → Prop) (P : jO → pS → Prop) (hP : P = (fun o u => ∃ (r : Int32) (A' : pA), o = .inl (some (.int r)) ∧ u = (n, K, A', Lg, G) ∧ Q r A')) (k12 : Int32 → Int32 → pA → Prop) (ok12 : ∀ (l1 : Int32) (l2 : Int32) (A : pA), k12 l1 l2 A → J Γ RX10 cX10_named 3 (some .int) "named" [] 4 0 0 12 [(0, .ref 1198), (1, .int l1), (2, .int l2)] [] (n, K, A, Lg, G) P) (l1 : Int32) (l2 : Int32) (A : pA) (h : fX10_named_J49 Lg k12 Q l1 l2 A) : J Γ RX10 cX10_named 3 (some .int) "named" [] 4 0 0 49 [(0, .ref 1198), (1, .int l1), (2, .int l2)] [] (n, K, A, Lg, G) P := by
  unfold fX10_named_J49 at h
  refine j_iinc (v := l2 + 1) 2 rfl rfl (by decide) rfl dX10_named_49 ?_
  refine j_goto (tgt := 12) dX10_named_52 (by decide) ?_
  refine j_ls [1, 2, 0] rfl ?_
  exact ok12 l1 (l2 + 1) A h
def fX10_named_L12 (Lg : pL)  (Q : Int32 → pA → Prop) : Nat → Int32 → Int32 → pA → Prop
  | 0, _, _, _ => False
  | n9 + 1, l1, l2, A =>
    (if (A 1198 20) ≤ l2 then Q l1 A else (if (A 1198 13) = 0 then (vp_in l2 16) ∧ ((vp_in l1 403) ∧ ((if (lg_cmp (Lg 1206 (l2).toNatClampNeg) (Lg 1204 (l1).toNatClampNeg)) = 0 then fX10_wrong A 3 l1 (fun A3 => fX10_named_J49 Lg (fun x0 x1 x2 => fX10_named_L12 Lg  Q n9 x0 x1 x2) Q l1 l2 A3) else fX10_named_J49 Lg (fun x0 x1 x2 => fX10_named_L12 Lg  Q n9 x0 x1 x2) Q l1 l2 A))) else Q l1 A))
theorem fX10_named_L12_ok {Γ : jG} {n : Nat} {K : Nat → pKd} {G : pG} {Lg : pL} (hf : mOK n K G) (Q : Int32 → pA → Prop) (P : jO → pS → Prop) (hP : P = (fun o u => ∃ (r : Int32) (A' : pA), o = .inl (some (.int r)) ∧ u = (n, K, A', Lg, G) ∧ Q r A'))    : ∀ (n9 : Nat) (l1 : Int32) (l2 : Int32) (A : pA), fX10_named_L12 Lg  Q n9 l1 l2 A → J Γ RX10 cX10_named 3 (some .int) "named" [] 4 0 0 12 [(0, .ref 1198), (1, .int l1), (2, .int l2)] [] (n, K, A, Lg, G) P := by
  intro n9
  induction n9 with
  | zero => intro l1 l2 A h; exact h.elim
  | succ n9 ih =>
    intro l1 l2 A h
    unfold fX10_named_L12 at h
    refine j_iload_n 2 rfl dX10_named_12 ?_
    refine j_aload_n 0 rfl dX10_named_13 ?_
    refine j_getfi fl_X10_248_9 rfl (m_lt hf (by decide)) (fk_1198 hf) dX10_named_14 ?_
    refine j_icmp_ge (tgt := 55) dX10_named_17 (by decide) (fun c => ?_) (fun c => ?_)
    · rw [if_pos c] at h
      refine j_iload_n 1 rfl dX10_named_55 ?_
      refine j_iret rfl ?_ dX10_named_56
      rw [hP]
      exact ⟨l1, A, rfl, rfl, h⟩
    · rw [if_neg c] at h
      refine j_aload_n 0 rfl dX10_named_20 ?_
      refine j_getfi fl_X10_212_9 rfl (m_lt hf (by decide)) (fk_1198 hf) dX10_named_21 ?_
      refine j_if_ne (tgt := 55) dX10_named_24 (by decide) (fun c => ?_) (fun c => ?_)
      · rw [if_neg c] at h
        refine j_iload_n 1 rfl dX10_named_55 ?_
        refine j_iret rfl ?_ dX10_named_56
        rw [hP]
        exact ⟨l1, A, rfl, rfl, h⟩
      · rw [if_pos c] at h
        refine j_aload_n 0 rfl dX10_named_27 ?_
        refine j_getfr fl_X10_40_9 rfl (m_lt hf (by decide)) (fk_1198 hf) (fg_1198_21 hf) dX10_named_28 ?_
        refine j_iload_n 2 rfl dX10_named_31 ?_
        obtain ⟨b1, h⟩ := h
        refine j_laldJ (j := (l2).toNatClampNeg) (m_lt hf (by decide)) (fk_1206 hf) b1 rfl dX10_named_32 ?_
        refine j_aload_n 0 rfl dX10_named_33 ?_
        refine j_getfr fl_X10_30_9 rfl (m_lt hf (by decide)) (fk_1198 hf) (fg_1198_8 hf) dX10_named_34 ?_
        refine j_iload_n 1 rfl dX10_named_37 ?_
        obtain ⟨b2, h⟩ := h
        refine j_laldJ (j := (l1).toNatClampNeg) (m_lt hf (by decide)) (fk_1204 hf) b2 rfl dX10_named_38 ?_
        refine j_lcmp dX10_named_39 ?_
        refine j_if_ne (tgt := 49) dX10_named_40 (by decide) (fun c => ?_) (fun c => ?_)
        · rw [if_neg c] at h
          exact fX10_named_J49_ok hf Q P hP (fun x0 x1 x2 => fX10_named_L12 Lg  Q n9 x0 x1 x2) (fun x0 x1 x2 h9 => ih x0 x1 x2 h9) l1 l2 A h
        · rw [if_pos c] at h
          refine j_aload_n 0 rfl dX10_named_43 ?_
          refine j_iconst (v := 3) dX10_named_44 (by decide) ?_
          refine j_iload_n 1 rfl dX10_named_45 ?_
          refine j_callV (b := 1198) (As := [.int 3, .int l1]) (st := []) (C := RX10) (kc' := 0) (ks' := 0) (tX10_wrong hf 3 l1 _ h) myX10_wrong rfl q1816 q1818 qs69 (by decide) (fun s9 H9 hK9 hR9 h69 => jIs_in hK9 hR9 h69 (m_lt hf (by decide)) (fk_1198 hf) rfl) rfl (Nat.le_of_ble_eq_true rfl) rfl (by decide) (Nat.le_refl 0) (Nat.le_refl 0) dX10_named_46 (fun v9 u9 hq => ?_) (fun k9 u9 hq => by obtain ⟨_, e9, _⟩ := hq; cases e9)
          obtain ⟨A3, e9, rfl, h⟩ := hq
          obtain rfl := Sum.inl.inj e9
          show J Γ RX10 cX10_named 3 (some .int) "named" [] 4 0 0 49 [(0, .ref 1198), (1, .int l1), (2, .int l2)] [] (n, K, A3, Lg, G) P
          exact fX10_named_J49_ok hf Q P hP (fun x0 x1 x2 => fX10_named_L12 Lg  Q n9 x0 x1 x2) (fun x0 x1 x2 h9 => ih x0 x1 x2 h9) l1 l2 A3 h
def fX10_named (A : pA) (Lg : pL) (Q : Int32 → pA → Prop) : Prop :=
    fX10_must A 1 (fun A4 => ∃ m5, fX10_named_L12 Lg  Q m5 (A 1198 11) 0 A4)
theorem tX10_named {Γ : jG} {n : Nat} {K : Nat → pKd} {G : pG} (hf : mOK n K G) {A : pA} {Lg : pL}  (Q : Int32 → pA → Prop) (h : fX10_named A Lg Q) : jMet Γ yX10_named cX10_named 3 (some .int) [] 4 0 0 [.ref 1198] (n, K, A, Lg, G) (fun o u => ∃ (r : Int32) (A' : pA), o = .inl (some (.int r)) ∧ u = (n, K, A', Lg, G) ∧ Q r A') := by
  unfold fX10_named at h
  obtain ⟨P, hP⟩ : ∃ P : jO → pS → Prop, P = (fun o u => ∃ (r : Int32) (A' : pA), o = .inl (some (.int r)) ∧ u = (n, K, A', Lg, G) ∧ Q r A') := ⟨_, rfl⟩
  rw [← hP]
  refine jMet_of rfl rfl rfl (Nat.le_of_ble_eq_true rfl) ?_
  show J Γ RX10 cX10_named 3 (some .int) "named" [] 4 0 0 0 [(0, .ref 1198)] [] (n, K, A, Lg, G) P
  refine j_aload_n 0 rfl dX10_named_0 ?_
  refine j_getfi fl_X10_215_9 rfl (m_lt hf (by decide)) (fk_1198 hf) dX10_named_1 ?_
  refine j_istore_n (by decide) rfl dX10_named_4 ?_
  refine j_aload_n 1 rfl dX10_named_5 ?_
  refine j_iconst (v := 1) dX10_named_6 (by decide) ?_
  refine j_callV (b := 1198) (As := [.int 1]) (st := []) (C := RX10) (kc' := 0) (ks' := 0) (tX10_must hf 1 _ h) myX10_must rfl q1812 q1814 qs68 (by decide) (fun s9 H9 hK9 hR9 h69 => jIs_in hK9 hR9 h69 (m_lt hf (by decide)) (fk_1198 hf) rfl) rfl (Nat.le_of_ble_eq_true rfl) rfl (by decide) (Nat.le_refl 0) (Nat.le_refl 0) dX10_named_7 (fun v9 u9 hq => ?_) (fun k9 u9 hq => by obtain ⟨_, e9, _⟩ := hq; cases e9)
  obtain ⟨A4, e9, rfl, h⟩ := hq
  obtain rfl := Sum.inl.inj e9
  show J Γ RX10 cX10_named 3 (some .int) "named" [] 4 0 0 10 [(1, .int (A 1198 11)), (0, .ref 1198)] [] (n, K, A4, Lg, G) P
  refine j_iconst (v := 0) dX10_named_10 (by decide) ?_
  refine j_istore_n (by decide) rfl dX10_named_11 ?_
  refine j_ls [2, 1, 0] rfl ?_
  obtain ⟨m5, h⟩ := h
  exact fX10_named_L12_ok hf Q P hP   m5 (A 1198 11) 0 A4 h
theorem myX10_roomFor : jY yX10_roomFor cX10_roomFor 3 none 2 := ⟨q1799, q139, by decide +kernel, by decide +kernel, by decide⟩
def fX10_roomFor_J10   (Q : pA → Prop) (A : pA) : Prop :=
    (if (A 1198 13) = 0 then fX10_goesOn A (fun A1 => Q A1) else Q A)
theorem fX10_roomFor_J10_ok {Γ : jG} {n : Nat} {K : Nat → pKd} {G : pG} {Lg : pL} (hf : mOK n K G) (Q : pA → Prop) (P : jO → pS → Prop) (hP : P = (fun o u => ∃ (A' : pA), o = .inl none ∧ u = (n, K, A', Lg, G) ∧ Q A'))   (A : pA) (h : fX10_roomFor_J10   Q A) : J Γ RX10 cX10_roomFor 3 none "roomFor" [] 3 0 0 10 [(0, .ref 1198)] [] (n, K, A, Lg, G) P := by
  unfold fX10_roomFor_J10 at h
  refine j_aload_n 0 rfl dX10_roomFor_10 ?_
  refine j_getfi fl_X10_212_9 rfl (m_lt hf (by decide)) (fk_1198 hf) dX10_roomFor_11 ?_
  refine j_if_ne (tgt := 21) dX10_roomFor_14 (by decide) (fun c => ?_) (fun c => ?_)
  · rw [if_neg c] at h
    refine j_vret rfl ?_ dX10_roomFor_21
    rw [hP]
    exact ⟨A, rfl, rfl, h⟩
  · rw [if_pos c] at h
    refine j_aload_n 0 rfl dX10_roomFor_17 ?_
    refine j_callV (b := 1198) (As := []) (st := []) (C := RX10) (kc' := 0) (ks' := 0) (tX10_goesOn hf  _ h) myX10_goesOn rfl q1804 q1806 qs66 (by decide) (fun s9 H9 hK9 hR9 h69 => jIs_in hK9 hR9 h69 (m_lt hf (by decide)) (fk_1198 hf) rfl) rfl (Nat.le_of_ble_eq_true rfl) rfl (by decide) (Nat.le_refl 0) (Nat.le_refl 0) dX10_roomFor_18 (fun v9 u9 hq => ?_) (fun k9 u9 hq => by obtain ⟨_, e9, _⟩ := hq; cases e9)
    obtain ⟨A1, e9, rfl, h⟩ := hq
    obtain rfl := Sum.inl.inj e9
    show J Γ RX10 cX10_roomFor 3 none "roomFor" [] 3 0 0 21 [(0, .ref 1198)] [] (n, K, A1, Lg, G) P
    refine j_vret rfl ?_ dX10_roomFor_21
    rw [hP]
    exact ⟨A1, rfl, rfl, h⟩
def fX10_roomFor (A : pA) (p1 : Int32) (p2 : Int32) (Q : pA → Prop) : Prop :=
    (if p1 = p2 then fX10_fail A 2 (fun A2 => fX10_roomFor_J10   Q A2) else fX10_roomFor_J10   Q A)
theorem tX10_roomFor {Γ : jG} {n : Nat} {K : Nat → pKd} {G : pG} {Lg : pL} (hf : mOK n K G) {A : pA} (p1 : Int32) (p2 : Int32) (Q : pA → Prop) (h : fX10_roomFor A p1 p2 Q) : jMet Γ yX10_roomFor cX10_roomFor 3 none [] 3 0 0 [.ref 1198, .int p1, .int p2] (n, K, A, Lg, G) (fun o u => ∃ (A' : pA), o = .inl none ∧ u = (n, K, A', Lg, G) ∧ Q A') := by
  unfold fX10_roomFor at h
  obtain ⟨P, hP⟩ : ∃ P : jO → pS → Prop, P = (fun o u => ∃ (A' : pA), o = .inl none ∧ u = (n, K, A', Lg, G) ∧ Q A') := ⟨_, rfl⟩
  rw [← hP]
  refine jMet_of rfl rfl rfl (Nat.le_of_ble_eq_true rfl) ?_
  show J Γ RX10 cX10_roomFor 3 none "roomFor" [] 3 0 0 0 [(0, .ref 1198), (1, .int p1), (2, .int p2)] [] (n, K, A, Lg, G) P
  refine j_iload_n 1 rfl dX10_roomFor_0 ?_
  refine j_iload_n 2 rfl dX10_roomFor_1 ?_
  refine j_icmp_ne (tgt := 10) dX10_roomFor_2 (by decide) (fun c => ?_) (fun c => ?_)
  · rw [if_neg c] at h
    refine j_ls [0] rfl ?_
    exact fX10_roomFor_J10_ok hf Q P hP   A h
  · rw [if_pos c] at h
    refine j_aload_n 0 rfl dX10_roomFor_5 ?_
    refine j_iconst (v := 2) dX10_roomFor_6 (by decide) ?_
    refine j_callV (b := 1198) (As := [.int 2]) (st := []) (C := RX10) (kc' := 0) (ks' := 0) (tX10_fail hf 2 _ h) myX10_fail rfl q1800 q1802 qs65 (by decide) (fun s9 H9 hK9 hR9 h69 => jIs_in hK9 hR9 h69 (m_lt hf (by decide)) (fk_1198 hf) rfl) rfl (Nat.le_of_ble_eq_true rfl) rfl (by decide) (Nat.le_refl 0) (Nat.le_refl 0) dX10_roomFor_7 (fun v9 u9 hq => ?_) (fun k9 u9 hq => by obtain ⟨_, e9, _⟩ := hq; cases e9)
    obtain ⟨A2, e9, rfl, h⟩ := hq
    obtain rfl := Sum.inl.inj e9
    show J Γ RX10 cX10_roomFor 3 none "roomFor" [] 3 0 0 10 [(0, .ref 1198), (1, .int p1), (2, .int p2)] [] (n, K, A2, Lg, G) P
    refine j_ls [0] rfl ?_
    exact fX10_roomFor_J10_ok hf Q P hP   A2 h
theorem myX10_known : jY yX10_known cX10_known 5 (some .int) 2 := ⟨q1835, q139, by decide +kernel, by decide +kernel, by decide⟩
def fX10_known_J80 (Lg : pL) (k22 : Int32 → Int32 → Int32 → Int32 → pA → Prop) (Q : Int32 → pA → Prop) (l1 : Int32) (l2 : Int32) (l3 : Int32) (l4 : Int32) (A : pA) : Prop :=
    k22 l1 l2 l3 (l4 + 1) A
theorem fX10_known_J80_ok {Γ : jG} {n : Nat} {K : Nat → pKd} {G : pG} {Lg : pL} (hf : mOK n K G) (Q : Int32 → pA → Prop) (P : jO → pS → Prop) (hP : P = (fun o u => ∃ (r : Int32) (A' : pA), o = .inl (some (.int r)) ∧ u = (n, K, A', Lg, G) ∧ Q r A')) (k22 : Int32 → Int32 → Int32 → Int32 → pA → Prop) (ok22 : ∀ (l1 : Int32) (l2 : Int32) (l3 : Int32) (l4 : Int32) (A : pA), k22 l1 l2 l3 l4 A → J Γ RX10 cX10_known 5 (some .int) "known" [] 4 0 0 22 [(0, .ref 1198), (1, .int l1), (2, .int l2), (3, .int l3), (4, .int l4)] [] (n, K, A, Lg, G) P) (l1 : Int32) (l2 : Int32) (l3 : Int32) (l4 : Int32) (A : pA) (h : fX10_known_J80 Lg k22 Q l1 l2 l3 l4 A) : J Γ RX10 cX10_known 5 (some .int) "known" [] 4 0 0 80 [(0, .ref 1198), (1, .int l1), (2, .int l2), (3, .int l3), (4, .int l4)] [] (n, K, A, Lg, G) P := by
  unfold fX10_known_J80 at h
  refine j_iinc (v := l4 + 1) 4 rfl rfl (by decide) rfl dX10_known_80 ?_
  refine j_goto (tgt := 22) dX10_known_83 (by decide) ?_
  refine j_ls [1, 2, 3, 4, 0] rfl ?_
  exact ok22 l1 l2 l3 (l4 + 1) A h
def fX10_known_L22 (Lg : pL)  (Q : Int32 → pA → Prop) : Nat → Int32 → Int32 → Int32 → Int32 → pA → Prop
  | 0, _, _, _, _, _ => False
  | n9 + 1, l1, l2, l3, l4, A =>
    (if (A 1198 20) ≤ l4 then fX10_wrong A 4 l3 (fun A1 => Q (-1) A1) else (vp_in l4 16) ∧ ((vp_in l3 403) ∧ ((if (lg_cmp (Lg 1206 (l4).toNatClampNeg) (Lg 1204 (l3).toNatClampNeg)) = 0 then (vp_in l4 16) ∧ ((if (A 1207 (l4).toNatClampNeg) < l1 then fX10_known_J80 Lg (fun x0 x1 x2 x3 x4 => fX10_known_L22 Lg  Q n9 x0 x1 x2 x3 x4) Q l1 l2 l3 l4 A else (vp_in l4 16) ∧ ((if l2 < (A 1207 (l4).toNatClampNeg) then fX10_known_J80 Lg (fun x0 x1 x2 x3 x4 => fX10_known_L22 Lg  Q n9 x0 x1 x2 x3 x4) Q l1 l2 l3 l4 A else (vp_in l4 16) ∧ (Q ((A 1207 (l4).toNatClampNeg) - l1) A))))) else fX10_known_J80 Lg (fun x0 x1 x2 x3 x4 => fX10_known_L22 Lg  Q n9 x0 x1 x2 x3 x4) Q l1 l2 l3 l4 A))))
theorem fX10_known_L22_ok {Γ : jG} {n : Nat} {K : Nat → pKd} {G : pG} {Lg : pL} (hf : mOK n K G) (Q : Int32 → pA → Prop) (P : jO → pS → Prop) (hP : P = (fun o u => ∃ (r : Int32) (A' : pA), o = .inl (some (.int r)) ∧ u = (n, K, A', Lg, G) ∧ Q r A'))    : ∀ (n9 : Nat) (l1 : Int32) (l2 : Int32) (l3 : Int32) (l4 : Int32) (A : pA), fX10_known_L22 Lg  Q n9 l1 l2 l3 l4 A → J Γ RX10 cX10_known 5 (some .int) "known" [] 4 0 0 22 [(0, .ref 1198), (1, .int l1), (2, .int l2), (3, .int l3), (4, .int l4)] [] (n, K, A, Lg, G) P := by
  intro n9
  induction n9 with
  | zero => intro l1 l2 l3 l4 A h; exact h.elim
  | succ n9 ih =>
    intro l1 l2 l3 l4 A h
    unfold fX10_known_L22 at h
    refine j_iload 4 rfl dX10_known_22 ?_
    refine j_aload_n 0 rfl dX10_known_24 ?_
    refine j_getfi fl_X10_248_9 rfl (m_lt hf (by decide)) (fk_1198 hf) dX10_known_25 ?_
    refine j_icmp_ge (tgt := 86) dX10_known_28 (by decide) (fun c => ?_) (fun c => ?_)
    · rw [if_pos c] at h
      refine j_aload_n 0 rfl dX10_known_86 ?_
      refine j_iconst (v := 4) dX10_known_87 (by decide) ?_
      refine j_iload_n 3 rfl dX10_known_88 ?_
      refine j_callV (b := 1198) (As := [.int 4, .int l3]) (st := []) (C := RX10) (kc' := 0) (ks' := 0) (tX10_wrong hf 4 l3 _ h) myX10_wrong rfl q1816 q1818 qs69 (by decide) (fun s9 H9 hK9 hR9 h69 => jIs_in hK9 hR9 h69 (m_lt hf (by decide)) (fk_1198 hf) rfl) rfl (Nat.le_of_ble_eq_true rfl) rfl (by decide) (Nat.le_refl 0) (Nat.le_refl 0) dX10_known_89 (fun v9 u9 hq => ?_) (fun k9 u9 hq => by obtain ⟨_, e9, _⟩ := hq; cases e9)
      obtain ⟨A1, e9, rfl, h⟩ := hq
      obtain rfl := Sum.inl.inj e9
      show J Γ RX10 cX10_known 5 (some .int) "known" [] 4 0 0 92 [(0, .ref 1198), (1, .int l1), (2, .int l2), (3, .int l3), (4, .int l4)] [] (n, K, A1, Lg, G) P
      refine j_iconst (v := (-1)) dX10_known_92 (by decide) ?_
      refine j_iret rfl ?_ dX10_known_93
      rw [hP]
      exact ⟨(-1), A1, rfl, rfl, h⟩
    · rw [if_neg c] at h
      refine j_aload_n 0 rfl dX10_known_31 ?_
      refine j_getfr fl_X10_40_9 rfl (m_lt hf (by decide)) (fk_1198 hf) (fg_1198_21 hf) dX10_known_32 ?_
      refine j_iload 4 rfl dX10_known_35 ?_
      obtain ⟨b2, h⟩ := h
      refine j_laldJ (j := (l4).toNatClampNeg) (m_lt hf (by decide)) (fk_1206 hf) b2 rfl dX10_known_37 ?_
      refine j_aload_n 0 rfl dX10_known_38 ?_
      refine j_getfr fl_X10_30_9 rfl (m_lt hf (by decide)) (fk_1198 hf) (fg_1198_8 hf) dX10_known_39 ?_
      refine j_iload_n 3 rfl dX10_known_42 ?_
      obtain ⟨b3, h⟩ := h
      refine j_laldJ (j := (l3).toNatClampNeg) (m_lt hf (by decide)) (fk_1204 hf) b3 rfl dX10_known_43 ?_
      refine j_lcmp dX10_known_44 ?_
      refine j_if_ne (tgt := 80) dX10_known_45 (by decide) (fun c => ?_) (fun c => ?_)
      · rw [if_neg c] at h
        exact fX10_known_J80_ok hf Q P hP (fun x0 x1 x2 x3 x4 => fX10_known_L22 Lg  Q n9 x0 x1 x2 x3 x4) (fun x0 x1 x2 x3 x4 h9 => ih x0 x1 x2 x3 x4 h9) l1 l2 l3 l4 A h
      · rw [if_pos c] at h
        refine j_aload_n 0 rfl dX10_known_48 ?_
        refine j_getfr fl_X10_43_9 rfl (m_lt hf (by decide)) (fk_1198 hf) (fg_1198_22 hf) dX10_known_49 ?_
        refine j_iload 4 rfl dX10_known_52 ?_
        obtain ⟨b4, h⟩ := h
        refine j_ialdJ (j := (l4).toNatClampNeg) (m_lt hf (by decide)) (fk_1207 hf) b4 rfl dX10_known_54 ?_
        refine j_iload_n 1 rfl dX10_known_55 ?_
        refine j_icmp_lt (tgt := 80) dX10_known_56 (by decide) (fun c => ?_) (fun c => ?_)
        · rw [if_pos c] at h
          exact fX10_known_J80_ok hf Q P hP (fun x0 x1 x2 x3 x4 => fX10_known_L22 Lg  Q n9 x0 x1 x2 x3 x4) (fun x0 x1 x2 x3 x4 h9 => ih x0 x1 x2 x3 x4 h9) l1 l2 l3 l4 A h
        · rw [if_neg c] at h
          refine j_aload_n 0 rfl dX10_known_59 ?_
          refine j_getfr fl_X10_43_9 rfl (m_lt hf (by decide)) (fk_1198 hf) (fg_1198_22 hf) dX10_known_60 ?_
          refine j_iload 4 rfl dX10_known_63 ?_
          obtain ⟨b5, h⟩ := h
          refine j_ialdJ (j := (l4).toNatClampNeg) (m_lt hf (by decide)) (fk_1207 hf) b5 rfl dX10_known_65 ?_
          refine j_iload_n 2 rfl dX10_known_66 ?_
          refine j_icmp_gt (tgt := 80) dX10_known_67 (by decide) (fun c => ?_) (fun c => ?_)
          · rw [if_pos c] at h
            exact fX10_known_J80_ok hf Q P hP (fun x0 x1 x2 x3 x4 => fX10_known_L22 Lg  Q n9 x0 x1 x2 x3 x4) (fun x0 x1 x2 x3 x4 h9 => ih x0 x1 x2 x3 x4 h9) l1 l2 l3 l4 A h
          · rw [if_neg c] at h
            refine j_aload_n 0 rfl dX10_known_70 ?_
            refine j_getfr fl_X10_43_9 rfl (m_lt hf (by decide)) (fk_1198 hf) (fg_1198_22 hf) dX10_known_71 ?_
            refine j_iload 4 rfl dX10_known_74 ?_
            obtain ⟨b6, h⟩ := h
            refine j_ialdJ (j := (l4).toNatClampNeg) (m_lt hf (by decide)) (fk_1207 hf) b6 rfl dX10_known_76 ?_
            refine j_iload_n 1 rfl dX10_known_77 ?_
            refine j_isub dX10_known_78 ?_
            refine j_iret rfl ?_ dX10_known_79
            rw [hP]
            exact ⟨(A 1207 (l4).toNatClampNeg) - l1, A, rfl, rfl, h⟩
def fX10_known (A : pA) (Lg : pL) (p1 : Int32) (p2 : Int32) (Q : Int32 → pA → Prop) : Prop :=
    fX10_must A 1 (fun A7 => (if (A7 1198 13) ≤ 0 then ∃ m8, fX10_known_L22 Lg  Q m8 p1 p2 (A 1198 11) 0 A7 else Q (-1) A7))
theorem tX10_known {Γ : jG} {n : Nat} {K : Nat → pKd} {G : pG} (hf : mOK n K G) {A : pA} {Lg : pL} (p1 : Int32) (p2 : Int32) (Q : Int32 → pA → Prop) (h : fX10_known A Lg p1 p2 Q) : jMet Γ yX10_known cX10_known 5 (some .int) [] 4 0 0 [.ref 1198, .int p1, .int p2] (n, K, A, Lg, G) (fun o u => ∃ (r : Int32) (A' : pA), o = .inl (some (.int r)) ∧ u = (n, K, A', Lg, G) ∧ Q r A') := by
  unfold fX10_known at h
  obtain ⟨P, hP⟩ : ∃ P : jO → pS → Prop, P = (fun o u => ∃ (r : Int32) (A' : pA), o = .inl (some (.int r)) ∧ u = (n, K, A', Lg, G) ∧ Q r A') := ⟨_, rfl⟩
  rw [← hP]
  refine jMet_of rfl rfl rfl (Nat.le_of_ble_eq_true rfl) ?_
  show J Γ RX10 cX10_known 5 (some .int) "known" [] 4 0 0 0 [(0, .ref 1198), (1, .int p1), (2, .int p2)] [] (n, K, A, Lg, G) P
  refine j_aload_n 0 rfl dX10_known_0 ?_
  refine j_getfi fl_X10_215_9 rfl (m_lt hf (by decide)) (fk_1198 hf) dX10_known_1 ?_
  refine j_istore_n (by decide) rfl dX10_known_4 ?_
  refine j_aload_n 1 rfl dX10_known_5 ?_
  refine j_iconst (v := 1) dX10_known_6 (by decide) ?_
  refine j_callV (b := 1198) (As := [.int 1]) (st := []) (C := RX10) (kc' := 0) (ks' := 0) (tX10_must hf 1 _ h) myX10_must rfl q1812 q1814 qs68 (by decide) (fun s9 H9 hK9 hR9 h69 => jIs_in hK9 hR9 h69 (m_lt hf (by decide)) (fk_1198 hf) rfl) rfl (Nat.le_of_ble_eq_true rfl) rfl (by decide) (Nat.le_refl 0) (Nat.le_refl 0) dX10_known_7 (fun v9 u9 hq => ?_) (fun k9 u9 hq => by obtain ⟨_, e9, _⟩ := hq; cases e9)
  obtain ⟨A7, e9, rfl, h⟩ := hq
  obtain rfl := Sum.inl.inj e9
  show J Γ RX10 cX10_known 5 (some .int) "known" [] 4 0 0 10 [(3, .int (A 1198 11)), (0, .ref 1198), (1, .int p1), (2, .int p2)] [] (n, K, A7, Lg, G) P
  refine j_aload_n 1 rfl dX10_known_10 ?_
  refine j_getfi fl_X10_212_9 rfl (m_lt hf (by decide)) (fk_1198 hf) dX10_known_11 ?_
  refine j_if_le (tgt := 19) dX10_known_14 (by decide) (fun c => ?_) (fun c => ?_)
  · rw [if_pos c] at h
    refine j_iconst (v := 0) dX10_known_19 (by decide) ?_
    refine j_istore (by decide) rfl dX10_known_20 ?_
    refine j_ls [2, 3, 4, 1, 0] rfl ?_
    obtain ⟨m8, h⟩ := h
    exact fX10_known_L22_ok hf Q P hP   m8 p1 p2 (A 1198 11) 0 A7 h
  · rw [if_neg c] at h
    refine j_iconst (v := (-1)) dX10_known_17 (by decide) ?_
    refine j_iret rfl ?_ dX10_known_18
    rw [hP]
    exact ⟨(-1), A7, rfl, rfl, h⟩
theorem myX10_knownPlace : jY yX10_knownPlace cX10_knownPlace 1 (some .int) 0 := ⟨q1831, q139, by decide +kernel, by decide +kernel, by decide⟩
def fX10_knownPlace (A : pA) (Lg : pL) (Q : Int32 → pA → Prop) : Prop :=
    fX10_known A Lg 0 9 (fun r1 A2 => Q r1 A2)
theorem tX10_knownPlace {Γ : jG} {n : Nat} {K : Nat → pKd} {G : pG} (hf : mOK n K G) {A : pA} {Lg : pL}  (Q : Int32 → pA → Prop) (h : fX10_knownPlace A Lg Q) : jMet Γ yX10_knownPlace cX10_knownPlace 1 (some .int) [] 5 0 0 [.ref 1198] (n, K, A, Lg, G) (fun o u => ∃ (r : Int32) (A' : pA), o = .inl (some (.int r)) ∧ u = (n, K, A', Lg, G) ∧ Q r A') := by
  unfold fX10_knownPlace at h
  obtain ⟨P, hP⟩ : ∃ P : jO → pS → Prop, P = (fun o u => ∃ (r : Int32) (A' : pA), o = .inl (some (.int r)) ∧ u = (n, K, A', Lg, G) ∧ Q r A') := ⟨_, rfl⟩
  rw [← hP]
  refine jMet_of rfl rfl rfl (Nat.le_of_ble_eq_true rfl) ?_
  show J Γ RX10 cX10_knownPlace 1 (some .int) "knownPlace" [] 5 0 0 0 [(0, .ref 1198)] [] (n, K, A, Lg, G) P
  refine j_aload_n 0 rfl dX10_knownPlace_0 ?_
  refine j_iconst (v := 0) dX10_knownPlace_1 (by decide) ?_
  refine j_bipush (v := 9) dX10_knownPlace_2 (by decide) ?_
  refine j_callV (b := 1198) (As := [.int 0, .int 9]) (st := []) (C := RX10) (kc' := 0) (ks' := 0) (tX10_known hf 0 9 _ h) myX10_known rfl q1832 q1834 qs73 (by decide) (fun s9 H9 hK9 hR9 h69 => jIs_in hK9 hR9 h69 (m_lt hf (by decide)) (fk_1198 hf) rfl) rfl (Nat.le_of_ble_eq_true rfl) rfl (by decide) (Nat.le_refl 0) (Nat.le_refl 0) dX10_knownPlace_4 (fun v9 u9 hq => ?_) (fun k9 u9 hq => by obtain ⟨_, _, e9, _⟩ := hq; cases e9)
  obtain ⟨r1, A2, e9, rfl, h⟩ := hq
  obtain rfl := Sum.inl.inj e9
  show J Γ RX10 cX10_knownPlace 1 (some .int) "knownPlace" [] 5 0 0 7 [(0, .ref 1198)] [.int r1] (n, K, A2, Lg, G) P
  refine j_iret rfl ?_ dX10_knownPlace_7
  rw [hP]
  exact ⟨r1, A2, rfl, rfl, h⟩
theorem myX10_tellDog : jY yX10_tellDog cX10_tellDog 3 none 0 := ⟨q1839, q139, by decide +kernel, by decide +kernel, by decide⟩
def fX10_tellDog (A : pA) (Lg : pL) (Q : pA → pL → Prop) : Prop :=
    (vp_in (A 1198 19) 2) ∧ (fX10_named A Lg (fun r2 A3 => fX10_knownPlace A3 Lg (fun r4 A5 => (vp_in ((5 * (A 1198 19)) + (A 1211 (A 1198 19).toNatClampNeg)) 10) ∧ (∀ A7 : pA, A7 = pup A5 1212 ((5 * (A 1198 19)) + (A 1211 (A 1198 19).toNatClampNeg)).toNatClampNeg r4 → fX10_bounded A7 0 9 (fun r8 A9 => (vp_in ((5 * (A 1198 19)) + (A 1211 (A 1198 19).toNatClampNeg)) 10) ∧ (∀ A11 : pA, A11 = pup A9 1213 ((5 * (A 1198 19)) + (A 1211 (A 1198 19).toNatClampNeg)).toNatClampNeg r8 → fX10_bounded A11 0 9 (fun r12 A13 => (vp_in ((5 * (A 1198 19)) + (A 1211 (A 1198 19).toNatClampNeg)) 10) ∧ (∀ A15 : pA, A15 = pup A13 1214 ((5 * (A 1198 19)) + (A 1211 (A 1198 19).toNatClampNeg)).toNatClampNeg r12 → fX10_ends A15 Lg r2 (-1) (fun A16 Lg17 => (if (A16 1198 13) = 0 then (vp_in (A16 1198 19) 2) ∧ ((vp_in (A16 1198 19) 2) ∧ (∀ A20 : pA, A20 = pup A16 1211 (A16 1198 19).toNatClampNeg ((A16 1211 (A16 1198 19).toNatClampNeg) + 1) → Q A20 Lg17)) else Q A16 Lg17))))))))))
theorem tX10_tellDog {Γ : jG} {n : Nat} {K : Nat → pKd} {G : pG} (hf : mOK n K G) {A : pA} {Lg : pL}  (Q : pA → pL → Prop) (h : fX10_tellDog A Lg Q) : jMet Γ yX10_tellDog cX10_tellDog 3 none [] 6 0 0 [.ref 1198] (n, K, A, Lg, G) (fun o u => ∃ (A' : pA) (Lg' : pL), o = .inl none ∧ u = (n, K, A', Lg', G) ∧ Q A' Lg') := by
  unfold fX10_tellDog at h
  obtain ⟨P, hP⟩ : ∃ P : jO → pS → Prop, P = (fun o u => ∃ (A' : pA) (Lg' : pL), o = .inl none ∧ u = (n, K, A', Lg', G) ∧ Q A' Lg') := ⟨_, rfl⟩
  rw [← hP]
  refine jMet_of rfl rfl rfl (Nat.le_of_ble_eq_true rfl) ?_
  show J Γ RX10 cX10_tellDog 3 none "tellDog" [] 6 0 0 0 [(0, .ref 1198)] [] (n, K, A, Lg, G) P
  refine j_iconst (v := 5) dX10_tellDog_0 (by decide) ?_
  refine j_aload_n 0 rfl dX10_tellDog_1 ?_
  refine j_getfi fl_X10_245_9 rfl (m_lt hf (by decide)) (fk_1198 hf) dX10_tellDog_2 ?_
  refine j_imul dX10_tellDog_5 ?_
  refine j_aload_n 0 rfl dX10_tellDog_6 ?_
  refine j_getfr fl_X10_55_9 rfl (m_lt hf (by decide)) (fk_1198 hf) (fg_1198_26 hf) dX10_tellDog_7 ?_
  refine j_aload_n 0 rfl dX10_tellDog_10 ?_
  refine j_getfi fl_X10_245_9 rfl (m_lt hf (by decide)) (fk_1198 hf) dX10_tellDog_11 ?_
  obtain ⟨b1, h⟩ := h
  refine j_ialdJ (j := (A 1198 19).toNatClampNeg) (m_lt hf (by decide)) (fk_1211 hf) b1 rfl dX10_tellDog_14 ?_
  refine j_iadd dX10_tellDog_15 ?_
  refine j_istore_n (by decide) rfl dX10_tellDog_16 ?_
  refine j_aload_n 1 rfl dX10_tellDog_17 ?_
  refine j_callV (b := 1198) (As := []) (st := []) (C := RX10) (kc' := 0) (ks' := 0) (tX10_named hf  _ h) myX10_named rfl q1808 q1810 qs67 (by decide) (fun s9 H9 hK9 hR9 h69 => jIs_in hK9 hR9 h69 (m_lt hf (by decide)) (fk_1198 hf) rfl) rfl (Nat.le_of_ble_eq_true rfl) rfl (by decide) (Nat.le_refl 0) (Nat.le_refl 0) dX10_tellDog_18 (fun v9 u9 hq => ?_) (fun k9 u9 hq => by obtain ⟨_, _, e9, _⟩ := hq; cases e9)
  obtain ⟨r2, A3, e9, rfl, h⟩ := hq
  obtain rfl := Sum.inl.inj e9
  show J Γ RX10 cX10_tellDog 3 none "tellDog" [] 6 0 0 21 [(1, .int ((5 * (A 1198 19)) + (A 1211 (A 1198 19).toNatClampNeg))), (0, .ref 1198)] [.int r2] (n, K, A3, Lg, G) P
  refine j_istore_n (by decide) rfl dX10_tellDog_21 ?_
  refine j_aload_n 2 rfl dX10_tellDog_22 ?_
  refine j_getfr fl_X10_58_9 rfl (m_lt hf (by decide)) (fk_1198 hf) (fg_1198_27 hf) dX10_tellDog_23 ?_
  refine j_iload_n 1 rfl dX10_tellDog_26 ?_
  refine j_aload_n 2 rfl dX10_tellDog_27 ?_
  refine j_callV (b := 1198) (As := []) (st := [.int ((5 * (A 1198 19)) + (A 1211 (A 1198 19).toNatClampNeg)), .ref 1212]) (C := RX10) (kc' := 0) (ks' := 0) (tX10_knownPlace hf  _ h) myX10_knownPlace rfl q1828 q1830 qs72 (by decide) (fun s9 H9 hK9 hR9 h69 => jIs_in hK9 hR9 h69 (m_lt hf (by decide)) (fk_1198 hf) rfl) rfl (Nat.le_of_ble_eq_true rfl) rfl (by decide) (Nat.le_refl 0) (Nat.le_refl 0) dX10_tellDog_28 (fun v9 u9 hq => ?_) (fun k9 u9 hq => by obtain ⟨_, _, e9, _⟩ := hq; cases e9)
  obtain ⟨r4, A5, e9, rfl, h⟩ := hq
  obtain rfl := Sum.inl.inj e9
  show J Γ RX10 cX10_tellDog 3 none "tellDog" [] 6 0 0 31 [(2, .int r2), (1, .int ((5 * (A 1198 19)) + (A 1211 (A 1198 19).toNatClampNeg))), (0, .ref 1198)] [.int r4, .int ((5 * (A 1198 19)) + (A 1211 (A 1198 19).toNatClampNeg)), .ref 1212] (n, K, A5, Lg, G) P
  obtain ⟨b6, h⟩ := h
  refine j_iastJ (j := ((5 * (A 1198 19)) + (A 1211 (A 1198 19).toNatClampNeg)).toNatClampNeg) (m_lt hf (by decide)) (fk_1212 hf) b6 rfl dX10_tellDog_31 (fun A7 eA7 => ?_)
  replace h := h A7 eA7
  refine j_aload_n 2 rfl dX10_tellDog_32 ?_
  refine j_getfr fl_X10_61_9 rfl (m_lt hf (by decide)) (fk_1198 hf) (fg_1198_28 hf) dX10_tellDog_33 ?_
  refine j_iload_n 1 rfl dX10_tellDog_36 ?_
  refine j_aload_n 2 rfl dX10_tellDog_37 ?_
  refine j_iconst (v := 0) dX10_tellDog_38 (by decide) ?_
  refine j_bipush (v := 9) dX10_tellDog_39 (by decide) ?_
  refine j_callV (b := 1198) (As := [.int 0, .int 9]) (st := [.int ((5 * (A 1198 19)) + (A 1211 (A 1198 19).toNatClampNeg)), .ref 1213]) (C := RX10) (kc' := 0) (ks' := 0) (tX10_bounded hf 0 9 _ h) myX10_bounded rfl q1840 q1842 qs75 (by decide) (fun s9 H9 hK9 hR9 h69 => jIs_in hK9 hR9 h69 (m_lt hf (by decide)) (fk_1198 hf) rfl) rfl (Nat.le_of_ble_eq_true rfl) rfl (by decide) (Nat.le_refl 0) (Nat.le_refl 0) dX10_tellDog_41 (fun v9 u9 hq => ?_) (fun k9 u9 hq => by obtain ⟨_, _, e9, _⟩ := hq; cases e9)
  obtain ⟨r8, A9, e9, rfl, h⟩ := hq
  obtain rfl := Sum.inl.inj e9
  show J Γ RX10 cX10_tellDog 3 none "tellDog" [] 6 0 0 44 [(2, .int r2), (1, .int ((5 * (A 1198 19)) + (A 1211 (A 1198 19).toNatClampNeg))), (0, .ref 1198)] [.int r8, .int ((5 * (A 1198 19)) + (A 1211 (A 1198 19).toNatClampNeg)), .ref 1213] (n, K, A9, Lg, G) P
  obtain ⟨b10, h⟩ := h
  refine j_iastJ (j := ((5 * (A 1198 19)) + (A 1211 (A 1198 19).toNatClampNeg)).toNatClampNeg) (m_lt hf (by decide)) (fk_1213 hf) b10 rfl dX10_tellDog_44 (fun A11 eA11 => ?_)
  replace h := h A11 eA11
  refine j_aload_n 2 rfl dX10_tellDog_45 ?_
  refine j_getfr fl_X10_64_9 rfl (m_lt hf (by decide)) (fk_1198 hf) (fg_1198_29 hf) dX10_tellDog_46 ?_
  refine j_iload_n 1 rfl dX10_tellDog_49 ?_
  refine j_aload_n 2 rfl dX10_tellDog_50 ?_
  refine j_iconst (v := 0) dX10_tellDog_51 (by decide) ?_
  refine j_bipush (v := 9) dX10_tellDog_52 (by decide) ?_
  refine j_callV (b := 1198) (As := [.int 0, .int 9]) (st := [.int ((5 * (A 1198 19)) + (A 1211 (A 1198 19).toNatClampNeg)), .ref 1214]) (C := RX10) (kc' := 0) (ks' := 0) (tX10_bounded hf 0 9 _ h) myX10_bounded rfl q1840 q1842 qs75 (by decide) (fun s9 H9 hK9 hR9 h69 => jIs_in hK9 hR9 h69 (m_lt hf (by decide)) (fk_1198 hf) rfl) rfl (Nat.le_of_ble_eq_true rfl) rfl (by decide) (Nat.le_refl 0) (Nat.le_refl 0) dX10_tellDog_54 (fun v9 u9 hq => ?_) (fun k9 u9 hq => by obtain ⟨_, _, e9, _⟩ := hq; cases e9)
  obtain ⟨r12, A13, e9, rfl, h⟩ := hq
  obtain rfl := Sum.inl.inj e9
  show J Γ RX10 cX10_tellDog 3 none "tellDog" [] 6 0 0 57 [(2, .int r2), (1, .int ((5 * (A 1198 19)) + (A 1211 (A 1198 19).toNatClampNeg))), (0, .ref 1198)] [.int r12, .int ((5 * (A 1198 19)) + (A 1211 (A 1198 19).toNatClampNeg)), .ref 1214] (n, K, A13, Lg, G) P
  obtain ⟨b14, h⟩ := h
  refine j_iastJ (j := ((5 * (A 1198 19)) + (A 1211 (A 1198 19).toNatClampNeg)).toNatClampNeg) (m_lt hf (by decide)) (fk_1214 hf) b14 rfl dX10_tellDog_57 (fun A15 eA15 => ?_)
  replace h := h A15 eA15
  refine j_aload_n 2 rfl dX10_tellDog_58 ?_
  refine j_iload_n 0 rfl dX10_tellDog_59 ?_
  refine j_iconst (v := (-1)) dX10_tellDog_60 (by decide) ?_
  refine j_callV (b := 1198) (As := [.int r2, .int (-1)]) (st := []) (C := RX10) (kc' := 0) (ks' := 0) (tX10_ends hf r2 (-1) _ h) myX10_ends rfl q1820 q1822 qs70 (by decide) (fun s9 H9 hK9 hR9 h69 => jIs_in hK9 hR9 h69 (m_lt hf (by decide)) (fk_1198 hf) rfl) rfl (Nat.le_of_ble_eq_true rfl) rfl (by decide) (Nat.le_refl 0) (Nat.le_refl 0) dX10_tellDog_61 (fun v9 u9 hq => ?_) (fun k9 u9 hq => by obtain ⟨_, _, e9, _⟩ := hq; cases e9)
  obtain ⟨A16, Lg17, e9, rfl, h⟩ := hq
  obtain rfl := Sum.inl.inj e9
  show J Γ RX10 cX10_tellDog 3 none "tellDog" [] 6 0 0 64 [(2, .int r2), (1, .int ((5 * (A 1198 19)) + (A 1211 (A 1198 19).toNatClampNeg))), (0, .ref 1198)] [] (n, K, A16, Lg17, G) P
  refine j_aload_n 2 rfl dX10_tellDog_64 ?_
  refine j_getfi fl_X10_212_9 rfl (m_lt hf (by decide)) (fk_1198 hf) dX10_tellDog_65 ?_
  refine j_if_ne (tgt := 84) dX10_tellDog_68 (by decide) (fun c => ?_) (fun c => ?_)
  · rw [if_neg c] at h
    refine j_vret rfl ?_ dX10_tellDog_84
    rw [hP]
    exact ⟨A16, Lg17, rfl, rfl, h⟩
  · rw [if_pos c] at h
    refine j_aload_n 2 rfl dX10_tellDog_71 ?_
    refine j_getfr fl_X10_55_9 rfl (m_lt hf (by decide)) (fk_1198 hf) (fg_1198_26 hf) dX10_tellDog_72 ?_
    refine j_aload_n 2 rfl dX10_tellDog_75 ?_
    refine j_getfi fl_X10_245_9 rfl (m_lt hf (by decide)) (fk_1198 hf) dX10_tellDog_76 ?_
    refine j_dup2 rfl rfl dX10_tellDog_79 ?_
    obtain ⟨b18, h⟩ := h
    refine j_ialdJ (j := (A16 1198 19).toNatClampNeg) (m_lt hf (by decide)) (fk_1211 hf) b18 rfl dX10_tellDog_80 ?_
    refine j_iconst (v := 1) dX10_tellDog_81 (by decide) ?_
    refine j_iadd dX10_tellDog_82 ?_
    obtain ⟨b19, h⟩ := h
    refine j_iastJ (j := (A16 1198 19).toNatClampNeg) (m_lt hf (by decide)) (fk_1211 hf) b19 rfl dX10_tellDog_83 (fun A20 eA20 => ?_)
    replace h := h A20 eA20
    refine j_vret rfl ?_ dX10_tellDog_84
    rw [hP]
    exact ⟨A20, Lg17, rfl, rfl, h⟩
theorem myX10_tellErrand : jY yX10_tellErrand cX10_tellErrand 6 none 0 := ⟨q1851, q139, by decide +kernel, by decide +kernel, by decide⟩
def fX10_tellErrand_J104 (Lg : pL)  (Q : pA → Prop) (l1 : Int32) (l2 : Int32) (l4 : Int32) (A : pA) : Prop :=
    fX10_must A 4 (fun A1 => (vp_in l1 16) ∧ (∀ A3 : pA, A3 = pup A1 1219 (l1).toNatClampNeg l2 → (vp_in l1 16) ∧ (∀ A5 : pA, A5 = pup A3 1220 (l1).toNatClampNeg l4 → (if (A5 1198 13) = 0 then (vp_in (A5 1198 19) 2) ∧ ((vp_in (A5 1198 19) 2) ∧ (∀ A8 : pA, A8 = pup A5 1218 (A5 1198 19).toNatClampNeg ((A5 1218 (A5 1198 19).toNatClampNeg) + 1) → Q A8)) else Q A5))))
theorem fX10_tellErrand_J104_ok {Γ : jG} {n : Nat} {K : Nat → pKd} {G : pG} {Lg : pL} (hf : mOK n K G) (Q : pA → Prop) (P : jO → pS → Prop) (hP : P = (fun o u => ∃ (A' : pA), o = .inl none ∧ u = (n, K, A', Lg, G) ∧ Q A'))   (l1 : Int32) (l2 : Int32) (l4 : Int32) (A : pA) (h : fX10_tellErrand_J104 Lg  Q l1 l2 l4 A) : J Γ RX10 cX10_tellErrand 6 none "tellErrand" [] 6 0 0 104 [(0, .ref 1198), (1, .int l1), (2, .int l2), (4, .int l4)] [] (n, K, A, Lg, G) P := by
  unfold fX10_tellErrand_J104 at h
  refine j_aload_n 0 rfl dX10_tellErrand_104 ?_
  refine j_iconst (v := 4) dX10_tellErrand_105 (by decide) ?_
  refine j_callV (b := 1198) (As := [.int 4]) (st := []) (C := RX10) (kc' := 0) (ks' := 0) (tX10_must hf 4 _ h) myX10_must rfl q1812 q1814 qs68 (by decide) (fun s9 H9 hK9 hR9 h69 => jIs_in hK9 hR9 h69 (m_lt hf (by decide)) (fk_1198 hf) rfl) rfl (Nat.le_of_ble_eq_true rfl) rfl (by decide) (Nat.le_refl 0) (Nat.le_refl 0) dX10_tellErrand_106 (fun v9 u9 hq => ?_) (fun k9 u9 hq => by obtain ⟨_, e9, _⟩ := hq; cases e9)
  obtain ⟨A1, e9, rfl, h⟩ := hq
  obtain rfl := Sum.inl.inj e9
  show J Γ RX10 cX10_tellErrand 6 none "tellErrand" [] 6 0 0 109 [(0, .ref 1198), (1, .int l1), (2, .int l2), (4, .int l4)] [] (n, K, A1, Lg, G) P
  refine j_aload_n 0 rfl dX10_tellErrand_109 ?_
  refine j_getfr fl_X10_79_9 rfl (m_lt hf (by decide)) (fk_1198 hf) (fg_1198_34 hf) dX10_tellErrand_110 ?_
  refine j_iload_n 1 rfl dX10_tellErrand_113 ?_
  refine j_iload_n 2 rfl dX10_tellErrand_114 ?_
  obtain ⟨b2, h⟩ := h
  refine j_iastJ (j := (l1).toNatClampNeg) (m_lt hf (by decide)) (fk_1219 hf) b2 rfl dX10_tellErrand_115 (fun A3 eA3 => ?_)
  replace h := h A3 eA3
  refine j_aload_n 0 rfl dX10_tellErrand_116 ?_
  refine j_getfr fl_X10_82_9 rfl (m_lt hf (by decide)) (fk_1198 hf) (fg_1198_35 hf) dX10_tellErrand_117 ?_
  refine j_iload_n 1 rfl dX10_tellErrand_120 ?_
  refine j_iload 3 rfl dX10_tellErrand_121 ?_
  obtain ⟨b4, h⟩ := h
  refine j_iastJ (j := (l1).toNatClampNeg) (m_lt hf (by decide)) (fk_1220 hf) b4 rfl dX10_tellErrand_123 (fun A5 eA5 => ?_)
  replace h := h A5 eA5
  refine j_aload_n 0 rfl dX10_tellErrand_124 ?_
  refine j_getfi fl_X10_212_9 rfl (m_lt hf (by decide)) (fk_1198 hf) dX10_tellErrand_125 ?_
  refine j_if_ne (tgt := 144) dX10_tellErrand_128 (by decide) (fun c => ?_) (fun c => ?_)
  · rw [if_neg c] at h
    refine j_vret rfl ?_ dX10_tellErrand_144
    rw [hP]
    exact ⟨A5, rfl, rfl, h⟩
  · rw [if_pos c] at h
    refine j_aload_n 0 rfl dX10_tellErrand_131 ?_
    refine j_getfr fl_X10_76_9 rfl (m_lt hf (by decide)) (fk_1198 hf) (fg_1198_33 hf) dX10_tellErrand_132 ?_
    refine j_aload_n 0 rfl dX10_tellErrand_135 ?_
    refine j_getfi fl_X10_245_9 rfl (m_lt hf (by decide)) (fk_1198 hf) dX10_tellErrand_136 ?_
    refine j_dup2 rfl rfl dX10_tellErrand_139 ?_
    obtain ⟨b6, h⟩ := h
    refine j_ialdJ (j := (A5 1198 19).toNatClampNeg) (m_lt hf (by decide)) (fk_1218 hf) b6 rfl dX10_tellErrand_140 ?_
    refine j_iconst (v := 1) dX10_tellErrand_141 (by decide) ?_
    refine j_iadd dX10_tellErrand_142 ?_
    obtain ⟨b7, h⟩ := h
    refine j_iastJ (j := (A5 1198 19).toNatClampNeg) (m_lt hf (by decide)) (fk_1218 hf) b7 rfl dX10_tellErrand_143 (fun A8 eA8 => ?_)
    replace h := h A8 eA8
    refine j_vret rfl ?_ dX10_tellErrand_144
    rw [hP]
    exact ⟨A8, rfl, rfl, h⟩
def fX10_tellErrand_J98 (Lg : pL) (k47 : Int32 → Int32 → Int32 → Int32 → Int32 → pA → Prop) (Q : pA → Prop) (l1 : Int32) (l2 : Int32) (l3 : Int32) (l4 : Int32) (l5 : Int32) (A : pA) : Prop :=
    k47 l1 l2 l3 l4 (l5 + 1) A
theorem fX10_tellErrand_J98_ok {Γ : jG} {n : Nat} {K : Nat → pKd} {G : pG} {Lg : pL} (hf : mOK n K G) (Q : pA → Prop) (P : jO → pS → Prop) (hP : P = (fun o u => ∃ (A' : pA), o = .inl none ∧ u = (n, K, A', Lg, G) ∧ Q A')) (k47 : Int32 → Int32 → Int32 → Int32 → Int32 → pA → Prop) (ok47 : ∀ (l1 : Int32) (l2 : Int32) (l3 : Int32) (l4 : Int32) (l5 : Int32) (A : pA), k47 l1 l2 l3 l4 l5 A → J Γ RX10 cX10_tellErrand 6 none "tellErrand" [] 6 0 0 47 [(0, .ref 1198), (1, .int l1), (2, .int l2), (3, .int l3), (4, .int l4), (5, .int l5)] [] (n, K, A, Lg, G) P) (l1 : Int32) (l2 : Int32) (l3 : Int32) (l4 : Int32) (l5 : Int32) (A : pA) (h : fX10_tellErrand_J98 Lg k47 Q l1 l2 l3 l4 l5 A) : J Γ RX10 cX10_tellErrand 6 none "tellErrand" [] 6 0 0 98 [(0, .ref 1198), (1, .int l1), (2, .int l2), (3, .int l3), (4, .int l4), (5, .int l5)] [] (n, K, A, Lg, G) P := by
  unfold fX10_tellErrand_J98 at h
  refine j_iinc (v := l5 + 1) 5 rfl rfl (by decide) rfl dX10_tellErrand_98 ?_
  refine j_goto (tgt := 47) dX10_tellErrand_101 (by decide) ?_
  refine j_ls [1, 2, 3, 4, 5, 0] rfl ?_
  exact ok47 l1 l2 l3 l4 (l5 + 1) A h
def fX10_tellErrand_L47 (Lg : pL)  (Q : pA → Prop) : Nat → Int32 → Int32 → Int32 → Int32 → Int32 → pA → Prop
  | 0, _, _, _, _, _, _ => False
  | n9 + 1, l1, l2, l3, l4, l5, A =>
    (if l1 ≤ l5 then fX10_tellErrand_J104 Lg  Q l1 l2 l4 A else (if (A 1198 13) = 0 then (if l2 < 0 then fX10_tellErrand_J98 Lg (fun x0 x1 x2 x3 x4 x5 => fX10_tellErrand_L47 Lg  Q n9 x0 x1 x2 x3 x4 x5) Q l1 l2 l3 l4 l5 A else (if l4 < 0 then fX10_tellErrand_J98 Lg (fun x0 x1 x2 x3 x4 x5 => fX10_tellErrand_L47 Lg  Q n9 x0 x1 x2 x3 x4 x5) Q l1 l2 l3 l4 l5 A else (vp_in l5 16) ∧ ((if (A 1219 (l5).toNatClampNeg) = l2 then (vp_in l5 16) ∧ ((if (A 1220 (l5).toNatClampNeg) = l4 then fX10_wrong A 3 l3 (fun A11 => fX10_tellErrand_J98 Lg (fun x0 x1 x2 x3 x4 x5 => fX10_tellErrand_L47 Lg  Q n9 x0 x1 x2 x3 x4 x5) Q l1 l2 l3 l4 l5 A11) else fX10_tellErrand_J98 Lg (fun x0 x1 x2 x3 x4 x5 => fX10_tellErrand_L47 Lg  Q n9 x0 x1 x2 x3 x4 x5) Q l1 l2 l3 l4 l5 A)) else fX10_tellErrand_J98 Lg (fun x0 x1 x2 x3 x4 x5 => fX10_tellErrand_L47 Lg  Q n9 x0 x1 x2 x3 x4 x5) Q l1 l2 l3 l4 l5 A)))) else fX10_tellErrand_J104 Lg  Q l1 l2 l4 A))
theorem fX10_tellErrand_L47_ok {Γ : jG} {n : Nat} {K : Nat → pKd} {G : pG} {Lg : pL} (hf : mOK n K G) (Q : pA → Prop) (P : jO → pS → Prop) (hP : P = (fun o u => ∃ (A' : pA), o = .inl none ∧ u = (n, K, A', Lg, G) ∧ Q A'))    : ∀ (n9 : Nat) (l1 : Int32) (l2 : Int32) (l3 : Int32) (l4 : Int32) (l5 : Int32) (A : pA), fX10_tellErrand_L47 Lg  Q n9 l1 l2 l3 l4 l5 A → J Γ RX10 cX10_tellErrand 6 none "tellErrand" [] 6 0 0 47 [(0, .ref 1198), (1, .int l1), (2, .int l2), (3, .int l3), (4, .int l4), (5, .int l5)] [] (n, K, A, Lg, G) P := by
  intro n9
  induction n9 with
  | zero => intro l1 l2 l3 l4 l5 A h; exact h.elim
  | succ n9 ih =>
    intro l1 l2 l3 l4 l5 A h
    unfold fX10_tellErrand_L47 at h
    refine j_iload 5 rfl dX10_tellErrand_47 ?_
    refine j_iload_n 1 rfl dX10_tellErrand_49 ?_
    refine j_icmp_ge (tgt := 104) dX10_tellErrand_50 (by decide) (fun c => ?_) (fun c => ?_)
    · rw [if_pos c] at h
      refine j_ls [0, 1, 2, 4] rfl ?_
      exact fX10_tellErrand_J104_ok hf Q P hP   l1 l2 l4 A h
    · rw [if_neg c] at h
      refine j_aload_n 0 rfl dX10_tellErrand_53 ?_
      refine j_getfi fl_X10_212_9 rfl (m_lt hf (by decide)) (fk_1198 hf) dX10_tellErrand_54 ?_
      refine j_if_ne (tgt := 104) dX10_tellErrand_57 (by decide) (fun c => ?_) (fun c => ?_)
      · rw [if_neg c] at h
        refine j_ls [0, 1, 2, 4] rfl ?_
        exact fX10_tellErrand_J104_ok hf Q P hP   l1 l2 l4 A h
      · rw [if_pos c] at h
        refine j_iload_n 2 rfl dX10_tellErrand_60 ?_
        refine j_if_lt (tgt := 98) dX10_tellErrand_61 (by decide) (fun c => ?_) (fun c => ?_)
        · rw [if_pos c] at h
          exact fX10_tellErrand_J98_ok hf Q P hP (fun x0 x1 x2 x3 x4 x5 => fX10_tellErrand_L47 Lg  Q n9 x0 x1 x2 x3 x4 x5) (fun x0 x1 x2 x3 x4 x5 h9 => ih x0 x1 x2 x3 x4 x5 h9) l1 l2 l3 l4 l5 A h
        · rw [if_neg c] at h
          refine j_iload 4 rfl dX10_tellErrand_64 ?_
          refine j_if_lt (tgt := 98) dX10_tellErrand_66 (by decide) (fun c => ?_) (fun c => ?_)
          · rw [if_pos c] at h
            exact fX10_tellErrand_J98_ok hf Q P hP (fun x0 x1 x2 x3 x4 x5 => fX10_tellErrand_L47 Lg  Q n9 x0 x1 x2 x3 x4 x5) (fun x0 x1 x2 x3 x4 x5 h9 => ih x0 x1 x2 x3 x4 x5 h9) l1 l2 l3 l4 l5 A h
          · rw [if_neg c] at h
            refine j_aload_n 0 rfl dX10_tellErrand_69 ?_
            refine j_getfr fl_X10_79_9 rfl (m_lt hf (by decide)) (fk_1198 hf) (fg_1198_34 hf) dX10_tellErrand_70 ?_
            refine j_iload 5 rfl dX10_tellErrand_73 ?_
            obtain ⟨b9, h⟩ := h
            refine j_ialdJ (j := (l5).toNatClampNeg) (m_lt hf (by decide)) (fk_1219 hf) b9 rfl dX10_tellErrand_75 ?_
            refine j_iload_n 2 rfl dX10_tellErrand_76 ?_
            refine j_icmp_ne (tgt := 98) dX10_tellErrand_77 (by decide) (fun c => ?_) (fun c => ?_)
            · rw [if_neg c] at h
              exact fX10_tellErrand_J98_ok hf Q P hP (fun x0 x1 x2 x3 x4 x5 => fX10_tellErrand_L47 Lg  Q n9 x0 x1 x2 x3 x4 x5) (fun x0 x1 x2 x3 x4 x5 h9 => ih x0 x1 x2 x3 x4 x5 h9) l1 l2 l3 l4 l5 A h
            · rw [if_pos c] at h
              refine j_aload_n 0 rfl dX10_tellErrand_80 ?_
              refine j_getfr fl_X10_82_9 rfl (m_lt hf (by decide)) (fk_1198 hf) (fg_1198_35 hf) dX10_tellErrand_81 ?_
              refine j_iload 5 rfl dX10_tellErrand_84 ?_
              obtain ⟨b10, h⟩ := h
              refine j_ialdJ (j := (l5).toNatClampNeg) (m_lt hf (by decide)) (fk_1220 hf) b10 rfl dX10_tellErrand_86 ?_
              refine j_iload 4 rfl dX10_tellErrand_87 ?_
              refine j_icmp_ne (tgt := 98) dX10_tellErrand_89 (by decide) (fun c => ?_) (fun c => ?_)
              · rw [if_neg c] at h
                exact fX10_tellErrand_J98_ok hf Q P hP (fun x0 x1 x2 x3 x4 x5 => fX10_tellErrand_L47 Lg  Q n9 x0 x1 x2 x3 x4 x5) (fun x0 x1 x2 x3 x4 x5 h9 => ih x0 x1 x2 x3 x4 x5 h9) l1 l2 l3 l4 l5 A h
              · rw [if_pos c] at h
                refine j_aload_n 0 rfl dX10_tellErrand_92 ?_
                refine j_iconst (v := 3) dX10_tellErrand_93 (by decide) ?_
                refine j_iload_n 3 rfl dX10_tellErrand_94 ?_
                refine j_callV (b := 1198) (As := [.int 3, .int l3]) (st := []) (C := RX10) (kc' := 0) (ks' := 0) (tX10_wrong hf 3 l3 _ h) myX10_wrong rfl q1816 q1818 qs69 (by decide) (fun s9 H9 hK9 hR9 h69 => jIs_in hK9 hR9 h69 (m_lt hf (by decide)) (fk_1198 hf) rfl) rfl (Nat.le_of_ble_eq_true rfl) rfl (by decide) (Nat.le_refl 0) (Nat.le_refl 0) dX10_tellErrand_95 (fun v9 u9 hq => ?_) (fun k9 u9 hq => by obtain ⟨_, e9, _⟩ := hq; cases e9)
                obtain ⟨A11, e9, rfl, h⟩ := hq
                obtain rfl := Sum.inl.inj e9
                show J Γ RX10 cX10_tellErrand 6 none "tellErrand" [] 6 0 0 98 [(0, .ref 1198), (1, .int l1), (2, .int l2), (3, .int l3), (4, .int l4), (5, .int l5)] [] (n, K, A11, Lg, G) P
                exact fX10_tellErrand_J98_ok hf Q P hP (fun x0 x1 x2 x3 x4 x5 => fX10_tellErrand_L47 Lg  Q n9 x0 x1 x2 x3 x4 x5) (fun x0 x1 x2 x3 x4 x5 h9 => ih x0 x1 x2 x3 x4 x5 h9) l1 l2 l3 l4 l5 A11 h
def fX10_tellErrand (A : pA) (Lg : pL) (Q : pA → Prop) : Prop :=
    (vp_in (A 1198 19) 2) ∧ (fX10_known A Lg 10 19 (fun r13 A14 => fX10_knownPlace A14 Lg (fun r15 A16 => ∃ m17, fX10_tellErrand_L47 Lg  Q m17 ((8 * (A 1198 19)) + (A 1218 (A 1198 19).toNatClampNeg)) r13 (A14 1198 11) r15 (8 * (A16 1198 19)) A16)))
theorem tX10_tellErrand {Γ : jG} {n : Nat} {K : Nat → pKd} {G : pG} (hf : mOK n K G) {A : pA} {Lg : pL}  (Q : pA → Prop) (h : fX10_tellErrand A Lg Q) : jMet Γ yX10_tellErrand cX10_tellErrand 6 none [] 6 0 0 [.ref 1198] (n, K, A, Lg, G) (fun o u => ∃ (A' : pA), o = .inl none ∧ u = (n, K, A', Lg, G) ∧ Q A') := by
  unfold fX10_tellErrand at h
  obtain ⟨P, hP⟩ : ∃ P : jO → pS → Prop, P = (fun o u => ∃ (A' : pA), o = .inl none ∧ u = (n, K, A', Lg, G) ∧ Q A') := ⟨_, rfl⟩
  rw [← hP]
  refine jMet_of rfl rfl rfl (Nat.le_of_ble_eq_true rfl) ?_
  show J Γ RX10 cX10_tellErrand 6 none "tellErrand" [] 6 0 0 0 [(0, .ref 1198)] [] (n, K, A, Lg, G) P
  refine j_bipush (v := 8) dX10_tellErrand_0 (by decide) ?_
  refine j_aload_n 0 rfl dX10_tellErrand_2 ?_
  refine j_getfi fl_X10_245_9 rfl (m_lt hf (by decide)) (fk_1198 hf) dX10_tellErrand_3 ?_
  refine j_imul dX10_tellErrand_6 ?_
  refine j_aload_n 0 rfl dX10_tellErrand_7 ?_
  refine j_getfr fl_X10_76_9 rfl (m_lt hf (by decide)) (fk_1198 hf) (fg_1198_33 hf) dX10_tellErrand_8 ?_
  refine j_aload_n 0 rfl dX10_tellErrand_11 ?_
  refine j_getfi fl_X10_245_9 rfl (m_lt hf (by decide)) (fk_1198 hf) dX10_tellErrand_12 ?_
  obtain ⟨b12, h⟩ := h
  refine j_ialdJ (j := (A 1198 19).toNatClampNeg) (m_lt hf (by decide)) (fk_1218 hf) b12 rfl dX10_tellErrand_15 ?_
  refine j_iadd dX10_tellErrand_16 ?_
  refine j_istore_n (by decide) rfl dX10_tellErrand_17 ?_
  refine j_aload_n 1 rfl dX10_tellErrand_18 ?_
  refine j_bipush (v := 10) dX10_tellErrand_19 (by decide) ?_
  refine j_bipush (v := 19) dX10_tellErrand_21 (by decide) ?_
  refine j_callV (b := 1198) (As := [.int 10, .int 19]) (st := []) (C := RX10) (kc' := 0) (ks' := 0) (tX10_known hf 10 19 _ h) myX10_known rfl q1832 q1834 qs73 (by decide) (fun s9 H9 hK9 hR9 h69 => jIs_in hK9 hR9 h69 (m_lt hf (by decide)) (fk_1198 hf) rfl) rfl (Nat.le_of_ble_eq_true rfl) rfl (by decide) (Nat.le_refl 0) (Nat.le_refl 0) dX10_tellErrand_23 (fun v9 u9 hq => ?_) (fun k9 u9 hq => by obtain ⟨_, _, e9, _⟩ := hq; cases e9)
  obtain ⟨r13, A14, e9, rfl, h⟩ := hq
  obtain rfl := Sum.inl.inj e9
  show J Γ RX10 cX10_tellErrand 6 none "tellErrand" [] 6 0 0 26 [(1, .int ((8 * (A 1198 19)) + (A 1218 (A 1198 19).toNatClampNeg))), (0, .ref 1198)] [.int r13] (n, K, A14, Lg, G) P
  refine j_istore_n (by decide) rfl dX10_tellErrand_26 ?_
  refine j_aload_n 2 rfl dX10_tellErrand_27 ?_
  refine j_getfi fl_X10_215_9 rfl (m_lt hf (by decide)) (fk_1198 hf) dX10_tellErrand_28 ?_
  refine j_istore_n (by decide) rfl dX10_tellErrand_31 ?_
  refine j_aload_n 3 rfl dX10_tellErrand_32 ?_
  refine j_callV (b := 1198) (As := []) (st := []) (C := RX10) (kc' := 0) (ks' := 0) (tX10_knownPlace hf  _ h) myX10_knownPlace rfl q1828 q1830 qs72 (by decide) (fun s9 H9 hK9 hR9 h69 => jIs_in hK9 hR9 h69 (m_lt hf (by decide)) (fk_1198 hf) rfl) rfl (Nat.le_of_ble_eq_true rfl) rfl (by decide) (Nat.le_refl 0) (Nat.le_refl 0) dX10_tellErrand_33 (fun v9 u9 hq => ?_) (fun k9 u9 hq => by obtain ⟨_, _, e9, _⟩ := hq; cases e9)
  obtain ⟨r15, A16, e9, rfl, h⟩ := hq
  obtain rfl := Sum.inl.inj e9
  show J Γ RX10 cX10_tellErrand 6 none "tellErrand" [] 6 0 0 36 [(3, .int (A14 1198 11)), (2, .int r13), (1, .int ((8 * (A 1198 19)) + (A 1218 (A 1198 19).toNatClampNeg))), (0, .ref 1198)] [.int r15] (n, K, A16, Lg, G) P
  refine j_istore (by decide) rfl dX10_tellErrand_36 ?_
  refine j_bipush (v := 8) dX10_tellErrand_38 (by decide) ?_
  refine j_aload_n 4 rfl dX10_tellErrand_40 ?_
  refine j_getfi fl_X10_245_9 rfl (m_lt hf (by decide)) (fk_1198 hf) dX10_tellErrand_41 ?_
  refine j_imul dX10_tellErrand_44 ?_
  refine j_istore (by decide) rfl dX10_tellErrand_45 ?_
  refine j_ls [5, 4, 3, 2, 1, 0] rfl ?_
  obtain ⟨m17, h⟩ := h
  exact fX10_tellErrand_L47_ok hf Q P hP   m17 ((8 * (A 1198 19)) + (A 1218 (A 1198 19).toNatClampNeg)) r13 (A14 1198 11) r15 (8 * (A16 1198 19)) A16 h
theorem myX10_emit : jY yX10_emit cX10_emit 3 none 2 := ⟨q1867, q139, by decide +kernel, by decide +kernel, by decide⟩
def fX10_emit (A : pA) (p1 : Int32) (p2 : Int32) (Q : pA → Prop) : Prop :=
    (vp_in (A 1198 47) 840) ∧ (∀ A2 : pA, A2 = pup A 1231 (A 1198 47).toNatClampNeg p1 → (vp_in (A2 1198 47) 840) ∧ (∀ A4 : pA, A4 = pup A2 1232 (A2 1198 47).toNatClampNeg p2 → ∀ A5 : pA, A5 = pup A4 1198 47 ((A4 1198 47) + 1) → Q A5))
theorem tX10_emit {Γ : jG} {n : Nat} {K : Nat → pKd} {G : pG} {Lg : pL} (hf : mOK n K G) {A : pA} (p1 : Int32) (p2 : Int32) (Q : pA → Prop) (h : fX10_emit A p1 p2 Q) : jMet Γ yX10_emit cX10_emit 3 none [] 1 0 0 [.ref 1198, .int p1, .int p2] (n, K, A, Lg, G) (fun o u => ∃ (A' : pA), o = .inl none ∧ u = (n, K, A', Lg, G) ∧ Q A') := by
  unfold fX10_emit at h
  obtain ⟨P, hP⟩ : ∃ P : jO → pS → Prop, P = (fun o u => ∃ (A' : pA), o = .inl none ∧ u = (n, K, A', Lg, G) ∧ Q A') := ⟨_, rfl⟩
  rw [← hP]
  refine jMet_of rfl rfl rfl (Nat.le_of_ble_eq_true rfl) ?_
  show J Γ RX10 cX10_emit 3 none "emit" [] 1 0 0 0 [(0, .ref 1198), (1, .int p1), (2, .int p2)] [] (n, K, A, Lg, G) P
  refine j_aload_n 0 rfl dX10_emit_0 ?_
  refine j_getfr fl_X10_116_9 rfl (m_lt hf (by decide)) (fk_1198 hf) (fg_1198_48 hf) dX10_emit_1 ?_
  refine j_aload_n 0 rfl dX10_emit_4 ?_
  refine j_getfi fl_X10_254_9 rfl (m_lt hf (by decide)) (fk_1198 hf) dX10_emit_5 ?_
  refine j_iload_n 1 rfl dX10_emit_8 ?_
  obtain ⟨b1, h⟩ := h
  refine j_iastJ (j := (A 1198 47).toNatClampNeg) (m_lt hf (by decide)) (fk_1231 hf) b1 rfl dX10_emit_9 (fun A2 eA2 => ?_)
  replace h := h A2 eA2
  refine j_aload_n 0 rfl dX10_emit_10 ?_
  refine j_getfr fl_X10_119_9 rfl (m_lt hf (by decide)) (fk_1198 hf) (fg_1198_49 hf) dX10_emit_11 ?_
  refine j_aload_n 0 rfl dX10_emit_14 ?_
  refine j_getfi fl_X10_254_9 rfl (m_lt hf (by decide)) (fk_1198 hf) dX10_emit_15 ?_
  refine j_iload_n 2 rfl dX10_emit_18 ?_
  obtain ⟨b3, h⟩ := h
  refine j_iastJ (j := (A2 1198 47).toNatClampNeg) (m_lt hf (by decide)) (fk_1232 hf) b3 rfl dX10_emit_19 (fun A4 eA4 => ?_)
  replace h := h A4 eA4
  refine j_aload_n 0 rfl dX10_emit_20 ?_
  refine j_dup rfl dX10_emit_21 ?_
  refine j_getfi fl_X10_254_9 rfl (m_lt hf (by decide)) (fk_1198 hf) dX10_emit_22 ?_
  refine j_iconst (v := 1) dX10_emit_25 (by decide) ?_
  refine j_iadd dX10_emit_26 ?_
  refine j_putfiE (fp_X10_254_9 _) rfl rfl rfl (m_lt hf (by decide)) (fk_1198 hf) dX10_emit_27 (fun A5 eA5 => ?_)
  replace h := h A5 eA5
  refine j_vret rfl ?_ dX10_emit_30
  rw [hP]
  exact ⟨A5, rfl, rfl, h⟩
theorem myX10_comesOut : jY yX10_comesOut cX10_comesOut 3 none 1 := ⟨q1871, q139, by decide +kernel, by decide +kernel, by decide⟩
def fX10_comesOut_J84  (k0 : Int32 → pA → Prop) (Q : pA → Prop) (l1 : Int32) (s0 : Int32) (A : pA) : Prop :=
    fX10_emit A s0 0 (fun A1 => k0 l1 A1)
theorem fX10_comesOut_J84_ok {Γ : jG} {n : Nat} {K : Nat → pKd} {G : pG} {Lg : pL} (hf : mOK n K G) (Q : pA → Prop) (P : jO → pS → Prop) (hP : P = (fun o u => ∃ (A' : pA), o = .inl none ∧ u = (n, K, A', Lg, G) ∧ Q A')) (k0 : Int32 → pA → Prop) (ok0 : ∀ (l1 : Int32) (A : pA), k0 l1 A → J Γ RX10 cX10_comesOut 3 none "comesOut" [] 2 0 0 0 [(0, .ref 1198), (1, .int l1)] [] (n, K, A, Lg, G) P) (l1 : Int32) (s0 : Int32) (A : pA) (h : fX10_comesOut_J84  k0 Q l1 s0 A) : J Γ RX10 cX10_comesOut 3 none "comesOut" [] 2 0 0 84 [(0, .ref 1198), (1, .int l1)] [.int s0, .ref 1198] (n, K, A, Lg, G) P := by
  unfold fX10_comesOut_J84 at h
  refine j_iconst (v := 0) dX10_comesOut_84 (by decide) ?_
  refine j_callV (b := 1198) (As := [.int s0, .int 0]) (st := []) (C := RX10) (kc' := 0) (ks' := 0) (tX10_emit hf s0 0 _ h) myX10_emit rfl q1864 q1866 qs81 (by decide) (fun s9 H9 hK9 hR9 h69 => jIs_in hK9 hR9 h69 (m_lt hf (by decide)) (fk_1198 hf) rfl) rfl (Nat.le_of_ble_eq_true rfl) rfl (by decide) (Nat.le_refl 0) (Nat.le_refl 0) dX10_comesOut_85 (fun v9 u9 hq => ?_) (fun k9 u9 hq => by obtain ⟨_, e9, _⟩ := hq; cases e9)
  obtain ⟨A1, e9, rfl, h⟩ := hq
  obtain rfl := Sum.inl.inj e9
  show J Γ RX10 cX10_comesOut 3 none "comesOut" [] 2 0 0 88 [(0, .ref 1198), (1, .int l1)] [] (n, K, A1, Lg, G) P
  refine j_goto (tgt := 0) dX10_comesOut_88 (by decide) ?_
  exact ok0 l1 A1 h
def fX10_comesOut_J42  (k0 : Int32 → pA → Prop) (Q : pA → Prop) (l1 : Int32) (l2 : Int32) (A : pA) : Prop :=
    ∀ A2 : pA, A2 = pup A 1198 51 ((A 1198 51) - 1) → (if l2 = 8 then fX10_comesOut_J84  k0 Q l1 2 A2 else (if l2 = 9 then fX10_comesOut_J84  k0 Q l1 3 A2 else (if l2 = 10 then fX10_comesOut_J84  k0 Q l1 4 A2 else fX10_comesOut_J84  k0 Q l1 5 A2)))
theorem fX10_comesOut_J42_ok {Γ : jG} {n : Nat} {K : Nat → pKd} {G : pG} {Lg : pL} (hf : mOK n K G) (Q : pA → Prop) (P : jO → pS → Prop) (hP : P = (fun o u => ∃ (A' : pA), o = .inl none ∧ u = (n, K, A', Lg, G) ∧ Q A')) (k0 : Int32 → pA → Prop) (ok0 : ∀ (l1 : Int32) (A : pA), k0 l1 A → J Γ RX10 cX10_comesOut 3 none "comesOut" [] 2 0 0 0 [(0, .ref 1198), (1, .int l1)] [] (n, K, A, Lg, G) P) (l1 : Int32) (l2 : Int32) (A : pA) (h : fX10_comesOut_J42  k0 Q l1 l2 A) : J Γ RX10 cX10_comesOut 3 none "comesOut" [] 2 0 0 42 [(0, .ref 1198), (1, .int l1), (2, .int l2)] [] (n, K, A, Lg, G) P := by
  unfold fX10_comesOut_J42 at h
  refine j_aload_n 0 rfl dX10_comesOut_42 ?_
  refine j_dup rfl dX10_comesOut_43 ?_
  refine j_getfi fl_X10_317_9 rfl (m_lt hf (by decide)) (fk_1198 hf) dX10_comesOut_44 ?_
  refine j_iconst (v := 1) dX10_comesOut_47 (by decide) ?_
  refine j_isub dX10_comesOut_48 ?_
  refine j_putfiE (fp_X10_317_9 _) rfl rfl rfl (m_lt hf (by decide)) (fk_1198 hf) dX10_comesOut_49 (fun A2 eA2 => ?_)
  replace h := h A2 eA2
  refine j_aload_n 0 rfl dX10_comesOut_52 ?_
  refine j_iload_n 2 rfl dX10_comesOut_53 ?_
  refine j_bipush (v := 8) dX10_comesOut_54 (by decide) ?_
  refine j_icmp_ne (tgt := 63) dX10_comesOut_56 (by decide) (fun c => ?_) (fun c => ?_)
  · rw [if_neg c] at h
    refine j_iload_n 2 rfl dX10_comesOut_63 ?_
    refine j_bipush (v := 9) dX10_comesOut_64 (by decide) ?_
    refine j_icmp_ne (tgt := 73) dX10_comesOut_66 (by decide) (fun c => ?_) (fun c => ?_)
    · rw [if_neg c] at h
      refine j_iload_n 2 rfl dX10_comesOut_73 ?_
      refine j_bipush (v := 10) dX10_comesOut_74 (by decide) ?_
      refine j_icmp_ne (tgt := 83) dX10_comesOut_76 (by decide) (fun c => ?_) (fun c => ?_)
      · rw [if_neg c] at h
        refine j_iconst (v := 5) dX10_comesOut_83 (by decide) ?_
        refine j_ls [0, 1] rfl ?_
        exact fX10_comesOut_J84_ok hf Q P hP k0 ok0 l1 5 A2 h
      · rw [if_pos c] at h
        refine j_iconst (v := 4) dX10_comesOut_79 (by decide) ?_
        refine j_goto (tgt := 84) dX10_comesOut_80 (by decide) ?_
        refine j_ls [0, 1] rfl ?_
        exact fX10_comesOut_J84_ok hf Q P hP k0 ok0 l1 4 A2 h
    · rw [if_pos c] at h
      refine j_iconst (v := 3) dX10_comesOut_69 (by decide) ?_
      refine j_goto (tgt := 84) dX10_comesOut_70 (by decide) ?_
      refine j_ls [0, 1] rfl ?_
      exact fX10_comesOut_J84_ok hf Q P hP k0 ok0 l1 3 A2 h
  · rw [if_pos c] at h
    refine j_iconst (v := 2) dX10_comesOut_59 (by decide) ?_
    refine j_goto (tgt := 84) dX10_comesOut_60 (by decide) ?_
    refine j_ls [0, 1] rfl ?_
    exact fX10_comesOut_J84_ok hf Q P hP k0 ok0 l1 2 A2 h
def fX10_comesOut_L0   (Q : pA → Prop) : Nat → Int32 → pA → Prop
  | 0, _, _ => False
  | n9 + 1, l1, A =>
    (if (A 1198 51) ≤ 0 then Q A else (vp_in ((A 1198 51) - 1) 64) ∧ ((if (A 1233 ((A 1198 51) - 1).toNatClampNeg) = 6 then Q A else (if l1 = 0 then fX10_comesOut_J42  (fun x0 x1 => fX10_comesOut_L0   Q n9 x0 x1) Q l1 (A 1233 ((A 1198 51) - 1).toNatClampNeg) A else (if (A 1233 ((A 1198 51) - 1).toNatClampNeg) = 8 then Q A else (if (A 1233 ((A 1198 51) - 1).toNatClampNeg) = 9 then Q A else fX10_comesOut_J42  (fun x0 x1 => fX10_comesOut_L0   Q n9 x0 x1) Q l1 (A 1233 ((A 1198 51) - 1).toNatClampNeg) A))))))
theorem fX10_comesOut_L0_ok {Γ : jG} {n : Nat} {K : Nat → pKd} {G : pG} {Lg : pL} (hf : mOK n K G) (Q : pA → Prop) (P : jO → pS → Prop) (hP : P = (fun o u => ∃ (A' : pA), o = .inl none ∧ u = (n, K, A', Lg, G) ∧ Q A'))    : ∀ (n9 : Nat) (l1 : Int32) (A : pA), fX10_comesOut_L0   Q n9 l1 A → J Γ RX10 cX10_comesOut 3 none "comesOut" [] 2 0 0 0 [(0, .ref 1198), (1, .int l1)] [] (n, K, A, Lg, G) P := by
  intro n9
  induction n9 with
  | zero => intro l1 A h; exact h.elim
  | succ n9 ih =>
    intro l1 A h
    unfold fX10_comesOut_L0 at h
    refine j_aload_n 0 rfl dX10_comesOut_0 ?_
    refine j_getfi fl_X10_317_9 rfl (m_lt hf (by decide)) (fk_1198 hf) dX10_comesOut_1 ?_
    refine j_if_le (tgt := 91) dX10_comesOut_4 (by decide) (fun c => ?_) (fun c => ?_)
    · rw [if_pos c] at h
      refine j_vret rfl ?_ dX10_comesOut_91
      rw [hP]
      exact ⟨A, rfl, rfl, h⟩
    · rw [if_neg c] at h
      refine j_aload_n 0 rfl dX10_comesOut_7 ?_
      refine j_getfr fl_X10_122_9 rfl (m_lt hf (by decide)) (fk_1198 hf) (fg_1198_50 hf) dX10_comesOut_8 ?_
      refine j_aload_n 0 rfl dX10_comesOut_11 ?_
      refine j_getfi fl_X10_317_9 rfl (m_lt hf (by decide)) (fk_1198 hf) dX10_comesOut_12 ?_
      refine j_iconst (v := 1) dX10_comesOut_15 (by decide) ?_
      refine j_isub dX10_comesOut_16 ?_
      obtain ⟨b3, h⟩ := h
      refine j_ialdJ (j := ((A 1198 51) - 1).toNatClampNeg) (m_lt hf (by decide)) (fk_1233 hf) b3 rfl dX10_comesOut_17 ?_
      refine j_istore_n (by decide) rfl dX10_comesOut_18 ?_
      refine j_iload_n 0 rfl dX10_comesOut_19 ?_
      refine j_bipush (v := 6) dX10_comesOut_20 (by decide) ?_
      refine j_icmp_eq (tgt := 41) dX10_comesOut_22 (by decide) (fun c => ?_) (fun c => ?_)
      · rw [if_pos c] at h
        refine j_vret rfl ?_ dX10_comesOut_41
        rw [hP]
        exact ⟨A, rfl, rfl, h⟩
      · rw [if_neg c] at h
        refine j_iload_n 2 rfl dX10_comesOut_25 ?_
        refine j_if_eq (tgt := 42) dX10_comesOut_26 (by decide) (fun c => ?_) (fun c => ?_)
        · rw [if_pos c] at h
          refine j_ls [1, 2, 0] rfl ?_
          exact fX10_comesOut_J42_ok hf Q P hP (fun x0 x1 => fX10_comesOut_L0   Q n9 x0 x1) (fun x0 x1 h9 => ih x0 x1 h9) l1 (A 1233 ((A 1198 51) - 1).toNatClampNeg) A h
        · rw [if_neg c] at h
          refine j_iload_n 0 rfl dX10_comesOut_29 ?_
          refine j_bipush (v := 8) dX10_comesOut_30 (by decide) ?_
          refine j_icmp_eq (tgt := 41) dX10_comesOut_32 (by decide) (fun c => ?_) (fun c => ?_)
          · rw [if_pos c] at h
            refine j_vret rfl ?_ dX10_comesOut_41
            rw [hP]
            exact ⟨A, rfl, rfl, h⟩
          · rw [if_neg c] at h
            refine j_iload_n 0 rfl dX10_comesOut_35 ?_
            refine j_bipush (v := 9) dX10_comesOut_36 (by decide) ?_
            refine j_icmp_ne (tgt := 42) dX10_comesOut_38 (by decide) (fun c => ?_) (fun c => ?_)
            · rw [if_neg c] at h
              refine j_ls [1, 2, 0] rfl ?_
              exact fX10_comesOut_J42_ok hf Q P hP (fun x0 x1 => fX10_comesOut_L0   Q n9 x0 x1) (fun x0 x1 h9 => ih x0 x1 h9) l1 (A 1233 ((A 1198 51) - 1).toNatClampNeg) A h
            · rw [if_pos c] at h
              refine j_vret rfl ?_ dX10_comesOut_41
              rw [hP]
              exact ⟨A, rfl, rfl, h⟩
def fX10_comesOut (A : pA) (p1 : Int32) (Q : pA → Prop) : Prop :=
    ∃ m4, fX10_comesOut_L0   Q m4 p1 A
theorem tX10_comesOut {Γ : jG} {n : Nat} {K : Nat → pKd} {G : pG} {Lg : pL} (hf : mOK n K G) {A : pA} (p1 : Int32) (Q : pA → Prop) (h : fX10_comesOut A p1 Q) : jMet Γ yX10_comesOut cX10_comesOut 3 none [] 2 0 0 [.ref 1198, .int p1] (n, K, A, Lg, G) (fun o u => ∃ (A' : pA), o = .inl none ∧ u = (n, K, A', Lg, G) ∧ Q A') := by
  unfold fX10_comesOut at h
  obtain ⟨P, hP⟩ : ∃ P : jO → pS → Prop, P = (fun o u => ∃ (A' : pA), o = .inl none ∧ u = (n, K, A', Lg, G) ∧ Q A') := ⟨_, rfl⟩
  rw [← hP]
  refine jMet_of rfl rfl rfl (Nat.le_of_ble_eq_true rfl) ?_
  show J Γ RX10 cX10_comesOut 3 none "comesOut" [] 2 0 0 0 [(0, .ref 1198), (1, .int p1)] [] (n, K, A, Lg, G) P
  obtain ⟨m4, h⟩ := h
  exact fX10_comesOut_L0_ok hf Q P hP   m4 p1 A h
theorem myX10_unit : jY yX10_unit cX10_unit 1 none 0 := ⟨q1863, q139, by decide +kernel, by decide +kernel, by decide⟩
def fX10_unit_J88   (Q : pA → Prop) (A : pA) : Prop :=
    fX10_fail A 1 (fun A1 => Q A1)
theorem fX10_unit_J88_ok {Γ : jG} {n : Nat} {K : Nat → pKd} {G : pG} {Lg : pL} (hf : mOK n K G) (Q : pA → Prop) (P : jO → pS → Prop) (hP : P = (fun o u => ∃ (A' : pA), o = .inl none ∧ u = (n, K, A', Lg, G) ∧ Q A'))   (A : pA) (h : fX10_unit_J88   Q A) : J Γ RX10 cX10_unit 1 none "unit" [] 3 0 0 88 [(0, .ref 1198)] [] (n, K, A, Lg, G) P := by
  unfold fX10_unit_J88 at h
  refine j_aload_n 0 rfl dX10_unit_88 ?_
  refine j_iconst (v := 1) dX10_unit_89 (by decide) ?_
  refine j_callV (b := 1198) (As := [.int 1]) (st := []) (C := RX10) (kc' := 0) (ks' := 0) (tX10_fail hf 1 _ h) myX10_fail rfl q1800 q1802 qs65 (by decide) (fun s9 H9 hK9 hR9 h69 => jIs_in hK9 hR9 h69 (m_lt hf (by decide)) (fk_1198 hf) rfl) rfl (Nat.le_of_ble_eq_true rfl) rfl (by decide) (Nat.le_refl 0) (Nat.le_refl 0) dX10_unit_90 (fun v9 u9 hq => ?_) (fun k9 u9 hq => by obtain ⟨_, e9, _⟩ := hq; cases e9)
  obtain ⟨A1, e9, rfl, h⟩ := hq
  obtain rfl := Sum.inl.inj e9
  show J Γ RX10 cX10_unit 1 none "unit" [] 3 0 0 93 [(0, .ref 1198)] [] (n, K, A1, Lg, G) P
  refine j_vret rfl ?_ dX10_unit_93
  rw [hP]
  exact ⟨A1, rfl, rfl, h⟩
def fX10_unit (A : pA) (Q : pA → Prop) : Prop :=
    fX10_is A 2 (fun r2 => (if r2 = 0 then (if (A 1198 13) = 0 then (vp_in (A 1198 11) 403) ∧ ((if (A 1201 (A 1198 11).toNatClampNeg) < 34 then fX10_unit_J88   Q A else (vp_in (A 1198 11) 403) ∧ ((if 42 < (A 1201 (A 1198 11).toNatClampNeg) then fX10_unit_J88   Q A else (vp_in (A 1198 11) 403) ∧ (fX10_emit A 1 ((A 1201 (A 1198 11).toNatClampNeg) - 34) (fun A6 => fX10_goesOn A6 (fun A7 => Q A7))))))) else fX10_unit_J88   Q A) else (vp_in (A 1198 11) 403) ∧ (fX10_emit A 0 (A 1203 (A 1198 11).toNatClampNeg) (fun A9 => fX10_goesOn A9 (fun A10 => Q A10)))))
theorem tX10_unit {Γ : jG} {n : Nat} {K : Nat → pKd} {G : pG} {Lg : pL} (hf : mOK n K G) {A : pA}  (Q : pA → Prop) (h : fX10_unit A Q) : jMet Γ yX10_unit cX10_unit 1 none [] 3 0 0 [.ref 1198] (n, K, A, Lg, G) (fun o u => ∃ (A' : pA), o = .inl none ∧ u = (n, K, A', Lg, G) ∧ Q A') := by
  unfold fX10_unit at h
  obtain ⟨P, hP⟩ : ∃ P : jO → pS → Prop, P = (fun o u => ∃ (A' : pA), o = .inl none ∧ u = (n, K, A', Lg, G) ∧ Q A') := ⟨_, rfl⟩
  rw [← hP]
  refine jMet_of rfl rfl rfl (Nat.le_of_ble_eq_true rfl) ?_
  show J Γ RX10 cX10_unit 1 none "unit" [] 3 0 0 0 [(0, .ref 1198)] [] (n, K, A, Lg, G) P
  refine j_aload_n 0 rfl dX10_unit_0 ?_
  refine j_iconst (v := 2) dX10_unit_1 (by decide) ?_
  refine j_callV (b := 1198) (As := [.int 2]) (st := []) (C := RX10) (kc' := 0) (ks' := 0) (tX10_is hf 2 _ h) myX10_is rfl q1788 q1790 qs62 (by decide) (fun s9 H9 hK9 hR9 h69 => jIs_in hK9 hR9 h69 (m_lt hf (by decide)) (fk_1198 hf) rfl) rfl (Nat.le_of_ble_eq_true rfl) rfl (by decide) (Nat.le_refl 0) (Nat.le_refl 0) dX10_unit_2 (fun v9 u9 hq => ?_) (fun k9 u9 hq => by obtain ⟨_, e9, _⟩ := hq; cases e9)
  obtain ⟨r2, e9, rfl, h⟩ := hq
  obtain rfl := Sum.inl.inj e9
  show J Γ RX10 cX10_unit 1 none "unit" [] 3 0 0 5 [(0, .ref 1198)] [.int r2] (n, K, A, Lg, G) P
  refine j_if_eq (tgt := 29) dX10_unit_5 (by decide) (fun c => ?_) (fun c => ?_)
  · rw [if_pos c] at h
    refine j_aload_n 0 rfl dX10_unit_29 ?_
    refine j_getfi fl_X10_212_9 rfl (m_lt hf (by decide)) (fk_1198 hf) dX10_unit_30 ?_
    refine j_if_ne (tgt := 88) dX10_unit_33 (by decide) (fun c => ?_) (fun c => ?_)
    · rw [if_neg c] at h
      exact fX10_unit_J88_ok hf Q P hP   A h
    · rw [if_pos c] at h
      refine j_aload_n 0 rfl dX10_unit_36 ?_
      refine j_getfr fl_X10_20_9 rfl (m_lt hf (by decide)) (fk_1198 hf) (fg_1198_5 hf) dX10_unit_37 ?_
      refine j_aload_n 0 rfl dX10_unit_40 ?_
      refine j_getfi fl_X10_215_9 rfl (m_lt hf (by decide)) (fk_1198 hf) dX10_unit_41 ?_
      obtain ⟨b3, h⟩ := h
      refine j_ialdJ (j := (A 1198 11).toNatClampNeg) (m_lt hf (by decide)) (fk_1201 hf) b3 rfl dX10_unit_44 ?_
      refine j_bipush (v := 34) dX10_unit_45 (by decide) ?_
      refine j_icmp_lt (tgt := 88) dX10_unit_47 (by decide) (fun c => ?_) (fun c => ?_)
      · rw [if_pos c] at h
        exact fX10_unit_J88_ok hf Q P hP   A h
      · rw [if_neg c] at h
        refine j_aload_n 0 rfl dX10_unit_50 ?_
        refine j_getfr fl_X10_20_9 rfl (m_lt hf (by decide)) (fk_1198 hf) (fg_1198_5 hf) dX10_unit_51 ?_
        refine j_aload_n 0 rfl dX10_unit_54 ?_
        refine j_getfi fl_X10_215_9 rfl (m_lt hf (by decide)) (fk_1198 hf) dX10_unit_55 ?_
        obtain ⟨b4, h⟩ := h
        refine j_ialdJ (j := (A 1198 11).toNatClampNeg) (m_lt hf (by decide)) (fk_1201 hf) b4 rfl dX10_unit_58 ?_
        refine j_bipush (v := 42) dX10_unit_59 (by decide) ?_
        refine j_icmp_gt (tgt := 88) dX10_unit_61 (by decide) (fun c => ?_) (fun c => ?_)
        · rw [if_pos c] at h
          exact fX10_unit_J88_ok hf Q P hP   A h
        · rw [if_neg c] at h
          refine j_aload_n 0 rfl dX10_unit_64 ?_
          refine j_iconst (v := 1) dX10_unit_65 (by decide) ?_
          refine j_aload_n 0 rfl dX10_unit_66 ?_
          refine j_getfr fl_X10_20_9 rfl (m_lt hf (by decide)) (fk_1198 hf) (fg_1198_5 hf) dX10_unit_67 ?_
          refine j_aload_n 0 rfl dX10_unit_70 ?_
          refine j_getfi fl_X10_215_9 rfl (m_lt hf (by decide)) (fk_1198 hf) dX10_unit_71 ?_
          obtain ⟨b5, h⟩ := h
          refine j_ialdJ (j := (A 1198 11).toNatClampNeg) (m_lt hf (by decide)) (fk_1201 hf) b5 rfl dX10_unit_74 ?_
          refine j_bipush (v := 34) dX10_unit_75 (by decide) ?_
          refine j_isub dX10_unit_77 ?_
          refine j_callV (b := 1198) (As := [.int 1, .int ((A 1201 (A 1198 11).toNatClampNeg) - 34)]) (st := []) (C := RX10) (kc' := 0) (ks' := 0) (tX10_emit hf 1 ((A 1201 (A 1198 11).toNatClampNeg) - 34) _ h) myX10_emit rfl q1864 q1866 qs81 (by decide) (fun s9 H9 hK9 hR9 h69 => jIs_in hK9 hR9 h69 (m_lt hf (by decide)) (fk_1198 hf) rfl) rfl (Nat.le_of_ble_eq_true rfl) rfl (by decide) (Nat.le_refl 0) (Nat.le_refl 0) dX10_unit_78 (fun v9 u9 hq => ?_) (fun k9 u9 hq => by obtain ⟨_, e9, _⟩ := hq; cases e9)
          obtain ⟨A6, e9, rfl, h⟩ := hq
          obtain rfl := Sum.inl.inj e9
          show J Γ RX10 cX10_unit 1 none "unit" [] 3 0 0 81 [(0, .ref 1198)] [] (n, K, A6, Lg, G) P
          refine j_aload_n 0 rfl dX10_unit_81 ?_
          refine j_callV (b := 1198) (As := []) (st := []) (C := RX10) (kc' := 0) (ks' := 0) (tX10_goesOn hf  _ h) myX10_goesOn rfl q1804 q1806 qs66 (by decide) (fun s9 H9 hK9 hR9 h69 => jIs_in hK9 hR9 h69 (m_lt hf (by decide)) (fk_1198 hf) rfl) rfl (Nat.le_of_ble_eq_true rfl) rfl (by decide) (Nat.le_refl 0) (Nat.le_refl 0) dX10_unit_82 (fun v9 u9 hq => ?_) (fun k9 u9 hq => by obtain ⟨_, e9, _⟩ := hq; cases e9)
          obtain ⟨A7, e9, rfl, h⟩ := hq
          obtain rfl := Sum.inl.inj e9
          show J Γ RX10 cX10_unit 1 none "unit" [] 3 0 0 85 [(0, .ref 1198)] [] (n, K, A7, Lg, G) P
          refine j_goto (tgt := 93) dX10_unit_85 (by decide) ?_
          refine j_vret rfl ?_ dX10_unit_93
          rw [hP]
          exact ⟨A7, rfl, rfl, h⟩
  · rw [if_neg c] at h
    refine j_aload_n 0 rfl dX10_unit_8 ?_
    refine j_iconst (v := 0) dX10_unit_9 (by decide) ?_
    refine j_aload_n 0 rfl dX10_unit_10 ?_
    refine j_getfr fl_X10_27_9 rfl (m_lt hf (by decide)) (fk_1198 hf) (fg_1198_7 hf) dX10_unit_11 ?_
    refine j_aload_n 0 rfl dX10_unit_14 ?_
    refine j_getfi fl_X10_215_9 rfl (m_lt hf (by decide)) (fk_1198 hf) dX10_unit_15 ?_
    obtain ⟨b8, h⟩ := h
    refine j_ialdJ (j := (A 1198 11).toNatClampNeg) (m_lt hf (by decide)) (fk_1203 hf) b8 rfl dX10_unit_18 ?_
    refine j_callV (b := 1198) (As := [.int 0, .int (A 1203 (A 1198 11).toNatClampNeg)]) (st := []) (C := RX10) (kc' := 0) (ks' := 0) (tX10_emit hf 0 (A 1203 (A 1198 11).toNatClampNeg) _ h) myX10_emit rfl q1864 q1866 qs81 (by decide) (fun s9 H9 hK9 hR9 h69 => jIs_in hK9 hR9 h69 (m_lt hf (by decide)) (fk_1198 hf) rfl) rfl (Nat.le_of_ble_eq_true rfl) rfl (by decide) (Nat.le_refl 0) (Nat.le_refl 0) dX10_unit_19 (fun v9 u9 hq => ?_) (fun k9 u9 hq => by obtain ⟨_, e9, _⟩ := hq; cases e9)
    obtain ⟨A9, e9, rfl, h⟩ := hq
    obtain rfl := Sum.inl.inj e9
    show J Γ RX10 cX10_unit 1 none "unit" [] 3 0 0 22 [(0, .ref 1198)] [] (n, K, A9, Lg, G) P
    refine j_aload_n 0 rfl dX10_unit_22 ?_
    refine j_callV (b := 1198) (As := []) (st := []) (C := RX10) (kc' := 0) (ks' := 0) (tX10_goesOn hf  _ h) myX10_goesOn rfl q1804 q1806 qs66 (by decide) (fun s9 H9 hK9 hR9 h69 => jIs_in hK9 hR9 h69 (m_lt hf (by decide)) (fk_1198 hf) rfl) rfl (Nat.le_of_ble_eq_true rfl) rfl (by decide) (Nat.le_refl 0) (Nat.le_refl 0) dX10_unit_23 (fun v9 u9 hq => ?_) (fun k9 u9 hq => by obtain ⟨_, e9, _⟩ := hq; cases e9)
    obtain ⟨A10, e9, rfl, h⟩ := hq
    obtain rfl := Sum.inl.inj e9
    show J Γ RX10 cX10_unit 1 none "unit" [] 3 0 0 26 [(0, .ref 1198)] [] (n, K, A10, Lg, G) P
    refine j_goto (tgt := 93) dX10_unit_26 (by decide) ?_
    refine j_vret rfl ?_ dX10_unit_93
    rw [hP]
    exact ⟨A10, rfl, rfl, h⟩
