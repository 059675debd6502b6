set_option maxRecDepth 100000
set_option maxHeartbeats 4000000
theorem myX10_termOf : jY yX10_termOf cX10_termOf 8 (some .int) 2 := ⟨q1955, q139, by decide +kernel, by decide +kernel, by decide⟩
def fX10_termOf_J159  (k5 : Int32 → Int32 → Int32 → pA → Prop) (Q : Int32 → pA → Prop) (l2 : Int32) (l3 : Int32) (l4 : Int32) (A : pA) : Prop :=
    k5 l2 l3 (l4 + 1) A
theorem fX10_termOf_J159_ok {Γ : jG} {n : Nat} {K : Nat → pKd} {G : pG} {Lg : pL} (hf : mOK n K G) (Q : Int32 → pA → Prop) (P : jO → pS → Prop) (hP : P = (fun o u => ∃ (r : Int32) (A' : pA), o = .inl (some (.int r)) ∧ u = (n, K, A', Lg, G) ∧ Q r A')) (k5 : Int32 → Int32 → Int32 → pA → Prop) (ok5 : ∀ (l2 : Int32) (l3 : Int32) (l4 : Int32) (A : pA), k5 l2 l3 l4 A → J Γ RX10 cX10_termOf 8 (some .int) "termOf" [] 1 0 0 5 [(0, .ref 1198), (2, .int l2), (3, .int l3), (4, .int l4)] [] (n, K, A, Lg, G) P) (l2 : Int32) (l3 : Int32) (l4 : Int32) (A : pA) (h : fX10_termOf_J159  k5 Q l2 l3 l4 A) : J Γ RX10 cX10_termOf 8 (some .int) "termOf" [] 1 0 0 159 [(0, .ref 1198), (2, .int l2), (3, .int l3), (4, .int l4)] [] (n, K, A, Lg, G) P := by
  unfold fX10_termOf_J159 at h
  refine j_iinc (v := l4 + 1) 3 rfl rfl (by decide) rfl dX10_termOf_159 ?_
  refine j_goto (tgt := 5) dX10_termOf_162 (by decide) ?_
  refine j_ls [1, 2, 3, 0] rfl ?_
  exact ok5 l2 l3 (l4 + 1) A h
def fX10_termOf_J58  (k5 : Int32 → Int32 → Int32 → pA → Prop) (Q : Int32 → pA → Prop) (l2 : Int32) (l3 : Int32) (l4 : Int32) (s0 : Int32) (s1 : Int32) (A : pA) : Prop :=
    (vp_in s1 400) ∧ (∀ A2 : pA, A2 = pup A 1235 (s1).toNatClampNeg s0 → fX10_termOf_J159  k5 Q l2 (l3 + 1) l4 A2)
theorem fX10_termOf_J58_ok {Γ : jG} {n : Nat} {K : Nat → pKd} {G : pG} {Lg : pL} (hf : mOK n K G) (Q : Int32 → pA → Prop) (P : jO → pS → Prop) (hP : P = (fun o u => ∃ (r : Int32) (A' : pA), o = .inl (some (.int r)) ∧ u = (n, K, A', Lg, G) ∧ Q r A')) (k5 : Int32 → Int32 → Int32 → pA → Prop) (ok5 : ∀ (l2 : Int32) (l3 : Int32) (l4 : Int32) (A : pA), k5 l2 l3 l4 A → J Γ RX10 cX10_termOf 8 (some .int) "termOf" [] 1 0 0 5 [(0, .ref 1198), (2, .int l2), (3, .int l3), (4, .int l4)] [] (n, K, A, Lg, G) P) (l2 : Int32) (l3 : Int32) (l4 : Int32) (s0 : Int32) (s1 : Int32) (A : pA) (h : fX10_termOf_J58  k5 Q l2 l3 l4 s0 s1 A) : J Γ RX10 cX10_termOf 8 (some .int) "termOf" [] 1 0 0 58 [(0, .ref 1198), (2, .int l2), (3, .int l3), (4, .int l4)] [.int s0, .int s1, .ref 1235] (n, K, A, Lg, G) P := by
  unfold fX10_termOf_J58 at h
  obtain ⟨b1, h⟩ := h
  refine j_iastJ (j := (s1).toNatClampNeg) (m_lt hf (by decide)) (fk_1235 hf) b1 rfl dX10_termOf_58 (fun A2 eA2 => ?_)
  replace h := h A2 eA2
  refine j_iinc (v := l3 + 1) 2 rfl rfl (by decide) rfl dX10_termOf_59 ?_
  refine j_goto (tgt := 159) dX10_termOf_62 (by decide) ?_
  refine j_ls [1, 2, 0, 3] rfl ?_
  exact fX10_termOf_J159_ok hf Q P hP k5 ok5 l2 (l3 + 1) l4 A2 h
def fX10_termOf_J158  (k5 : Int32 → Int32 → Int32 → pA → Prop) (Q : Int32 → pA → Prop) (l2 : Int32) (l3 : Int32) (l4 : Int32) (s0 : Int32) (s1 : Int32) (A : pA) : Prop :=
    (vp_in s1 400) ∧ (∀ A4 : pA, A4 = pup A 1235 (s1).toNatClampNeg s0 → fX10_termOf_J159  k5 Q l2 l3 l4 A4)
theorem fX10_termOf_J158_ok {Γ : jG} {n : Nat} {K : Nat → pKd} {G : pG} {Lg : pL} (hf : mOK n K G) (Q : Int32 → pA → Prop) (P : jO → pS → Prop) (hP : P = (fun o u => ∃ (r : Int32) (A' : pA), o = .inl (some (.int r)) ∧ u = (n, K, A', Lg, G) ∧ Q r A')) (k5 : Int32 → Int32 → Int32 → pA → Prop) (ok5 : ∀ (l2 : Int32) (l3 : Int32) (l4 : Int32) (A : pA), k5 l2 l3 l4 A → J Γ RX10 cX10_termOf 8 (some .int) "termOf" [] 1 0 0 5 [(0, .ref 1198), (2, .int l2), (3, .int l3), (4, .int l4)] [] (n, K, A, Lg, G) P) (l2 : Int32) (l3 : Int32) (l4 : Int32) (s0 : Int32) (s1 : Int32) (A : pA) (h : fX10_termOf_J158  k5 Q l2 l3 l4 s0 s1 A) : J Γ RX10 cX10_termOf 8 (some .int) "termOf" [] 1 0 0 158 [(0, .ref 1198), (2, .int l2), (3, .int l3), (4, .int l4)] [.int s0, .int s1, .ref 1235] (n, K, A, Lg, G) P := by
  unfold fX10_termOf_J158 at h
  obtain ⟨b3, h⟩ := h
  refine j_iastJ (j := (s1).toNatClampNeg) (m_lt hf (by decide)) (fk_1235 hf) b3 rfl dX10_termOf_158 (fun A4 eA4 => ?_)
  replace h := h A4 eA4
  exact fX10_termOf_J159_ok hf Q P hP k5 ok5 l2 l3 l4 A4 h
def fX10_termOf_J104  (k5 : Int32 → Int32 → Int32 → pA → Prop) (Q : Int32 → pA → Prop) (l2 : Int32) (l3 : Int32) (l4 : Int32) (l5 : Int32) (l6 : Int32) (l7 : Int32) (A : pA) : Prop :=
    (if l5 = 2 then fX10_termOf_J158  k5 Q l2 l3 l4 (l6 + l7) (l3 - 1) A else (if l5 = 3 then fX10_termOf_J158  k5 Q l2 l3 l4 (l6 - l7) (l3 - 1) A else (if l5 = 4 then fX10_termOf_J158  k5 Q l2 l3 l4 (l6 * l7) (l3 - 1) A else (¬ l7 = 0) ∧ (fX10_termOf_J158  k5 Q l2 l3 l4 (l6 / l7) (l3 - 1) A))))
theorem fX10_termOf_J104_ok {Γ : jG} {n : Nat} {K : Nat → pKd} {G : pG} {Lg : pL} (hf : mOK n K G) (Q : Int32 → pA → Prop) (P : jO → pS → Prop) (hP : P = (fun o u => ∃ (r : Int32) (A' : pA), o = .inl (some (.int r)) ∧ u = (n, K, A', Lg, G) ∧ Q r A')) (k5 : Int32 → Int32 → Int32 → pA → Prop) (ok5 : ∀ (l2 : Int32) (l3 : Int32) (l4 : Int32) (A : pA), k5 l2 l3 l4 A → J Γ RX10 cX10_termOf 8 (some .int) "termOf" [] 1 0 0 5 [(0, .ref 1198), (2, .int l2), (3, .int l3), (4, .int l4)] [] (n, K, A, Lg, G) P) (l2 : Int32) (l3 : Int32) (l4 : Int32) (l5 : Int32) (l6 : Int32) (l7 : Int32) (A : pA) (h : fX10_termOf_J104  k5 Q l2 l3 l4 l5 l6 l7 A) : J Γ RX10 cX10_termOf 8 (some .int) "termOf" [] 1 0 0 104 [(0, .ref 1198), (2, .int l2), (3, .int l3), (4, .int l4), (5, .int l5), (6, .int l6), (7, .int l7)] [] (n, K, A, Lg, G) P := by
  unfold fX10_termOf_J104 at h
  refine j_aload_n 0 rfl dX10_termOf_104 ?_
  refine j_getfr fl_X10_128_9 rfl (m_lt hf (by decide)) (fk_1198 hf) (fg_1198_53 hf) dX10_termOf_105 ?_
  refine j_iload_n 2 rfl dX10_termOf_108 ?_
  refine j_iconst (v := 1) dX10_termOf_109 (by decide) ?_
  refine j_isub dX10_termOf_110 ?_
  refine j_iload 4 rfl dX10_termOf_111 ?_
  refine j_iconst (v := 2) dX10_termOf_113 (by decide) ?_
  refine j_icmp_ne (tgt := 125) dX10_termOf_114 (by decide) (fun c => ?_) (fun c => ?_)
  · rw [if_neg c] at h
    refine j_iload 4 rfl dX10_termOf_125 ?_
    refine j_iconst (v := 3) dX10_termOf_127 (by decide) ?_
    refine j_icmp_ne (tgt := 139) dX10_termOf_128 (by decide) (fun c => ?_) (fun c => ?_)
    · rw [if_neg c] at h
      refine j_iload 4 rfl dX10_termOf_139 ?_
      refine j_iconst (v := 4) dX10_termOf_141 (by decide) ?_
      refine j_icmp_ne (tgt := 153) dX10_termOf_142 (by decide) (fun c => ?_) (fun c => ?_)
      · rw [if_neg c] at h
        refine j_iload 5 rfl dX10_termOf_153 ?_
        refine j_iload 6 rfl dX10_termOf_155 ?_
        obtain ⟨b5, h⟩ := h
        refine j_idiv b5 dX10_termOf_157 ?_
        refine j_ls [0, 1, 2, 3] rfl ?_
        exact fX10_termOf_J158_ok hf Q P hP k5 ok5 l2 l3 l4 (l6 / l7) (l3 - 1) A h
      · rw [if_pos c] at h
        refine j_iload 5 rfl dX10_termOf_145 ?_
        refine j_iload 6 rfl dX10_termOf_147 ?_
        refine j_imul dX10_termOf_149 ?_
        refine j_goto (tgt := 158) dX10_termOf_150 (by decide) ?_
        refine j_ls [0, 1, 2, 3] rfl ?_
        exact fX10_termOf_J158_ok hf Q P hP k5 ok5 l2 l3 l4 (l6 * l7) (l3 - 1) A h
    · rw [if_pos c] at h
      refine j_iload 5 rfl dX10_termOf_131 ?_
      refine j_iload 6 rfl dX10_termOf_133 ?_
      refine j_isub dX10_termOf_135 ?_
      refine j_goto (tgt := 158) dX10_termOf_136 (by decide) ?_
      refine j_ls [0, 1, 2, 3] rfl ?_
      exact fX10_termOf_J158_ok hf Q P hP k5 ok5 l2 l3 l4 (l6 - l7) (l3 - 1) A h
  · rw [if_pos c] at h
    refine j_iload 5 rfl dX10_termOf_117 ?_
    refine j_iload 6 rfl dX10_termOf_119 ?_
    refine j_iadd dX10_termOf_121 ?_
    refine j_goto (tgt := 158) dX10_termOf_122 (by decide) ?_
    refine j_ls [0, 1, 2, 3] rfl ?_
    exact fX10_termOf_J158_ok hf Q P hP k5 ok5 l2 l3 l4 (l6 + l7) (l3 - 1) A h
def fX10_termOf_L5   (Q : Int32 → pA → Prop) : Nat → Int32 → Int32 → Int32 → pA → Prop
  | 0, _, _, _, _ => False
  | n9 + 1, l2, l3, l4, A =>
    (if l2 ≤ l4 then Q (A 1235 0) A else (vp_in l4 840) ∧ ((if 2 ≤ (A 1231 (l4).toNatClampNeg) then (vp_in ((l3 + (-1)) - 1) 400) ∧ ((vp_in (l3 + (-1)) 400) ∧ ((if (A 1231 (l4).toNatClampNeg) = 5 then (if (A 1235 (l3 + (-1)).toNatClampNeg) = 0 then ∀ A9 : pA, A9 = pup A 1198 54 1 → Q 0 A9 else fX10_termOf_J104  (fun x0 x1 x2 x3 => fX10_termOf_L5   Q n9 x0 x1 x2 x3) Q l2 (l3 + (-1)) l4 (A 1231 (l4).toNatClampNeg) (A 1235 ((l3 + (-1)) - 1).toNatClampNeg) (A 1235 (l3 + (-1)).toNatClampNeg) A) else fX10_termOf_J104  (fun x0 x1 x2 x3 => fX10_termOf_L5   Q n9 x0 x1 x2 x3) Q l2 (l3 + (-1)) l4 (A 1231 (l4).toNatClampNeg) (A 1235 ((l3 + (-1)) - 1).toNatClampNeg) (A 1235 (l3 + (-1)).toNatClampNeg) A))) else (if (A 1231 (l4).toNatClampNeg) = 0 then (vp_in l4 840) ∧ (fX10_termOf_J58  (fun x0 x1 x2 x3 => fX10_termOf_L5   Q n9 x0 x1 x2 x3) Q l2 l3 l4 (A 1232 (l4).toNatClampNeg) l3 A) else (vp_in l4 840) ∧ ((vp_in (A 1232 (l4).toNatClampNeg) 9) ∧ (fX10_termOf_J58  (fun x0 x1 x2 x3 => fX10_termOf_L5   Q n9 x0 x1 x2 x3) Q l2 l3 l4 (A 1234 (A 1232 (l4).toNatClampNeg).toNatClampNeg) l3 A))))))
theorem fX10_termOf_L5_ok {Γ : jG} {n : Nat} {K : Nat → pKd} {G : pG} {Lg : pL} (hf : mOK n K G) (Q : Int32 → pA → Prop) (P : jO → pS → Prop) (hP : P = (fun o u => ∃ (r : Int32) (A' : pA), o = .inl (some (.int r)) ∧ u = (n, K, A', Lg, G) ∧ Q r A'))    : ∀ (n9 : Nat) (l2 : Int32) (l3 : Int32) (l4 : Int32) (A : pA), fX10_termOf_L5   Q n9 l2 l3 l4 A → J Γ RX10 cX10_termOf 8 (some .int) "termOf" [] 1 0 0 5 [(0, .ref 1198), (2, .int l2), (3, .int l3), (4, .int l4)] [] (n, K, A, Lg, G) P := by
  intro n9
  induction n9 with
  | zero => intro l2 l3 l4 A h; exact h.elim
  | succ n9 ih =>
    intro l2 l3 l4 A h
    unfold fX10_termOf_L5 at h
    refine j_iload 3 rfl dX10_termOf_5 ?_
    refine j_iload_n 1 rfl dX10_termOf_7 ?_
    refine j_icmp_ge (tgt := 165) dX10_termOf_8 (by decide) (fun c => ?_) (fun c => ?_)
    · rw [if_pos c] at h
      refine j_aload_n 0 rfl dX10_termOf_165 ?_
      refine j_getfr fl_X10_128_9 rfl (m_lt hf (by decide)) (fk_1198 hf) (fg_1198_53 hf) dX10_termOf_166 ?_
      refine j_iconst (v := 0) dX10_termOf_169 (by decide) ?_
      refine j_ialdJ (j := 0) (m_lt hf (by decide)) (fk_1235 hf) (by unfold vp_in; decide) rfl dX10_termOf_170 ?_
      refine j_iret rfl ?_ dX10_termOf_171
      rw [hP]
      exact ⟨A 1235 0, A, rfl, rfl, h⟩
    · rw [if_neg c] at h
      refine j_aload_n 0 rfl dX10_termOf_11 ?_
      refine j_getfr fl_X10_116_9 rfl (m_lt hf (by decide)) (fk_1198 hf) (fg_1198_48 hf) dX10_termOf_12 ?_
      refine j_iload 3 rfl dX10_termOf_15 ?_
      obtain ⟨b6, h⟩ := h
      refine j_ialdJ (j := (l4).toNatClampNeg) (m_lt hf (by decide)) (fk_1231 hf) b6 rfl dX10_termOf_17 ?_
      refine j_istore (by decide) rfl dX10_termOf_18 ?_
      refine j_iload 0 rfl dX10_termOf_20 ?_
      refine j_iconst (v := 2) dX10_termOf_22 (by decide) ?_
      refine j_icmp_ge (tgt := 65) dX10_termOf_23 (by decide) (fun c => ?_) (fun c => ?_)
      · rw [if_pos c] at h
        refine j_iinc (v := l3 + (-1)) 3 rfl (congrArg (fun z => l3 + z) (by decide)) (by decide) rfl dX10_termOf_65 ?_
        refine j_aload_n 2 rfl dX10_termOf_68 ?_
        refine j_getfr fl_X10_128_9 rfl (m_lt hf (by decide)) (fk_1198 hf) (fg_1198_53 hf) dX10_termOf_69 ?_
        refine j_iload_n 0 rfl dX10_termOf_72 ?_
        refine j_iconst (v := 1) dX10_termOf_73 (by decide) ?_
        refine j_isub dX10_termOf_74 ?_
        obtain ⟨b7, h⟩ := h
        refine j_ialdJ (j := ((l3 + (-1)) - 1).toNatClampNeg) (m_lt hf (by decide)) (fk_1235 hf) b7 rfl dX10_termOf_75 ?_
        refine j_istore (by decide) rfl dX10_termOf_76 ?_
        refine j_aload_n 3 rfl dX10_termOf_78 ?_
        refine j_getfr fl_X10_128_9 rfl (m_lt hf (by decide)) (fk_1198 hf) (fg_1198_53 hf) dX10_termOf_79 ?_
        refine j_iload_n 1 rfl dX10_termOf_82 ?_
        obtain ⟨b8, h⟩ := h
        refine j_ialdJ (j := (l3 + (-1)).toNatClampNeg) (m_lt hf (by decide)) (fk_1235 hf) b8 rfl dX10_termOf_83 ?_
        refine j_istore (by decide) rfl dX10_termOf_84 ?_
        refine j_iload 3 rfl dX10_termOf_86 ?_
        refine j_iconst (v := 5) dX10_termOf_88 (by decide) ?_
        refine j_icmp_ne (tgt := 104) dX10_termOf_89 (by decide) (fun c => ?_) (fun c => ?_)
        · rw [if_neg c] at h
          refine j_ls [4, 5, 2, 6, 3, 1, 0] rfl ?_
          exact fX10_termOf_J104_ok hf Q P hP (fun x0 x1 x2 x3 => fX10_termOf_L5   Q n9 x0 x1 x2 x3) (fun x0 x1 x2 x3 h9 => ih x0 x1 x2 x3 h9) l2 (l3 + (-1)) l4 (A 1231 (l4).toNatClampNeg) (A 1235 ((l3 + (-1)) - 1).toNatClampNeg) (A 1235 (l3 + (-1)).toNatClampNeg) A h
        · rw [if_pos c] at h
          refine j_iload 0 rfl dX10_termOf_92 ?_
          refine j_if_ne (tgt := 104) dX10_termOf_94 (by decide) (fun c => ?_) (fun c => ?_)
          · rw [if_neg c] at h
            refine j_ls [4, 5, 2, 6, 3, 1, 0] rfl ?_
            exact fX10_termOf_J104_ok hf Q P hP (fun x0 x1 x2 x3 => fX10_termOf_L5   Q n9 x0 x1 x2 x3) (fun x0 x1 x2 x3 h9 => ih x0 x1 x2 x3 h9) l2 (l3 + (-1)) l4 (A 1231 (l4).toNatClampNeg) (A 1235 ((l3 + (-1)) - 1).toNatClampNeg) (A 1235 (l3 + (-1)).toNatClampNeg) A h
          · rw [if_pos c] at h
            refine j_aload_n 4 rfl dX10_termOf_97 ?_
            refine j_iconst (v := 1) dX10_termOf_98 (by decide) ?_
            refine j_putfiE (fp_X10_330_9 _) rfl (by decide) (by decide) (m_lt hf (by decide)) (fk_1198 hf) dX10_termOf_99 (fun A9 eA9 => ?_)
            replace h := h A9 eA9
            refine j_iconst (v := 0) dX10_termOf_102 (by decide) ?_
            refine j_iret rfl ?_ dX10_termOf_103
            rw [hP]
            exact ⟨0, A9, rfl, rfl, h⟩
      · rw [if_neg c] at h
        refine j_aload_n 1 rfl dX10_termOf_26 ?_
        refine j_getfr fl_X10_128_9 rfl (m_lt hf (by decide)) (fk_1198 hf) (fg_1198_53 hf) dX10_termOf_27 ?_
        refine j_iload_n 3 rfl dX10_termOf_30 ?_
        refine j_iload 0 rfl dX10_termOf_31 ?_
        refine j_if_ne (tgt := 46) dX10_termOf_33 (by decide) (fun c => ?_) (fun c => ?_)
        · rw [if_neg c] at h
          refine j_aload_n 1 rfl dX10_termOf_46 ?_
          refine j_getfr fl_X10_125_9 rfl (m_lt hf (by decide)) (fk_1198 hf) (fg_1198_52 hf) dX10_termOf_47 ?_
          refine j_aload_n 1 rfl dX10_termOf_50 ?_
          refine j_getfr fl_X10_119_9 rfl (m_lt hf (by decide)) (fk_1198 hf) (fg_1198_49 hf) dX10_termOf_51 ?_
          refine j_iload 4 rfl dX10_termOf_54 ?_
          obtain ⟨b10, h⟩ := h
          refine j_ialdJ (j := (l4).toNatClampNeg) (m_lt hf (by decide)) (fk_1232 hf) b10 rfl dX10_termOf_56 ?_
          obtain ⟨b11, h⟩ := h
          refine j_ialdJ (j := (A 1232 (l4).toNatClampNeg).toNatClampNeg) (m_lt hf (by decide)) (fk_1234 hf) b11 rfl dX10_termOf_57 ?_
          refine j_ls [1, 2, 3, 4] rfl ?_
          exact fX10_termOf_J58_ok hf Q P hP (fun x0 x1 x2 x3 => fX10_termOf_L5   Q n9 x0 x1 x2 x3) (fun x0 x1 x2 x3 h9 => ih x0 x1 x2 x3 h9) l2 l3 l4 (A 1234 (A 1232 (l4).toNatClampNeg).toNatClampNeg) l3 A h
        · rw [if_pos c] at h
          refine j_aload_n 1 rfl dX10_termOf_36 ?_
          refine j_getfr fl_X10_119_9 rfl (m_lt hf (by decide)) (fk_1198 hf) (fg_1198_49 hf) dX10_termOf_37 ?_
          refine j_iload 4 rfl dX10_termOf_40 ?_
          obtain ⟨b12, h⟩ := h
          refine j_ialdJ (j := (l4).toNatClampNeg) (m_lt hf (by decide)) (fk_1232 hf) b12 rfl dX10_termOf_42 ?_
          refine j_goto (tgt := 58) dX10_termOf_43 (by decide) ?_
          refine j_ls [1, 2, 3, 4] rfl ?_
          exact fX10_termOf_J58_ok hf Q P hP (fun x0 x1 x2 x3 => fX10_termOf_L5   Q n9 x0 x1 x2 x3) (fun x0 x1 x2 x3 h9 => ih x0 x1 x2 x3 h9) l2 l3 l4 (A 1232 (l4).toNatClampNeg) l3 A h
def fX10_termOf (A : pA) (p1 : Int32) (p2 : Int32) (Q : Int32 → pA → Prop) : Prop :=
    ∃ m13, fX10_termOf_L5   Q m13 p2 0 p1 A
theorem tX10_termOf {Γ : jG} {n : Nat} {K : Nat → pKd} {G : pG} {Lg : pL} (hf : mOK n K G) {A : pA} (p1 : Int32) (p2 : Int32) (Q : Int32 → pA → Prop) (h : fX10_termOf A p1 p2 Q) : jMet Γ yX10_termOf cX10_termOf 8 (some .int) [] 1 0 0 [.ref 1198, .int p1, .int p2] (n, K, A, Lg, G) (fun o u => ∃ (r : Int32) (A' : pA), o = .inl (some (.int r)) ∧ u = (n, K, A', Lg, G) ∧ Q r A') := by
  unfold fX10_termOf at h
  obtain ⟨P, hP⟩ : ∃ P : jO → pS → Prop, P = (fun o u => ∃ (r : Int32) (A' : pA), o = .inl (some (.int r)) ∧ u = (n, K, A', Lg, G) ∧ Q r A') := ⟨_, rfl⟩
  rw [← hP]
  refine jMet_of rfl rfl rfl (Nat.le_of_ble_eq_true rfl) ?_
  show J Γ RX10 cX10_termOf 8 (some .int) "termOf" [] 1 0 0 0 [(0, .ref 1198), (1, .int p1), (2, .int p2)] [] (n, K, A, Lg, G) P
  refine j_iconst (v := 0) dX10_termOf_0 (by decide) ?_
  refine j_istore_n (by decide) rfl dX10_termOf_1 ?_
  refine j_iload_n 2 rfl dX10_termOf_2 ?_
  refine j_istore (by decide) rfl dX10_termOf_3 ?_
  refine j_ls [2, 4, 1, 0] rfl ?_
  obtain ⟨m13, h⟩ := h
  exact fX10_termOf_L5_ok hf Q P hP   m13 p2 0 p1 A h
theorem myX10_asks : jY yX10_asks cX10_asks 7 (some .int) 2 := ⟨q1951, q139, by decide +kernel, by decide +kernel, by decide⟩
def fX10_asks_J119   (Q : Int32 → pA → Prop) (l4 : Int32) (A : pA) : Prop :=
    (vp_in l4 260) ∧ ((vp_in l4 260) ∧ (fX10_termOf A (A 1229 (l4).toNatClampNeg) (A 1230 (l4).toNatClampNeg) (fun r3 A4 => (if (A4 1198 54) = 0 then Q r3 A4 else Q 0 A4))))
theorem fX10_asks_J119_ok {Γ : jG} {n : Nat} {K : Nat → pKd} {G : pG} {Lg : pL} (hf : mOK n K G) (Q : Int32 → pA → Prop) (P : jO → pS → Prop) (hP : P = (fun o u => ∃ (r : Int32) (A' : pA), o = .inl (some (.int r)) ∧ u = (n, K, A', Lg, G) ∧ Q r A'))   (l4 : Int32) (A : pA) (h : fX10_asks_J119   Q l4 A) : J Γ RX10 cX10_asks 7 (some .int) "asks" [] 2 0 0 119 [(0, .ref 1198), (4, .int l4)] [] (n, K, A, Lg, G) P := by
  unfold fX10_asks_J119 at h
  refine j_aload_n 0 rfl dX10_asks_119 ?_
  refine j_aload_n 0 rfl dX10_asks_120 ?_
  refine j_getfr fl_X10_110_9 rfl (m_lt hf (by decide)) (fk_1198 hf) (fg_1198_45 hf) dX10_asks_121 ?_
  refine j_iload 1 rfl dX10_asks_124 ?_
  obtain ⟨b1, h⟩ := h
  refine j_ialdJ (j := (l4).toNatClampNeg) (m_lt hf (by decide)) (fk_1229 hf) b1 rfl dX10_asks_126 ?_
  refine j_aload_n 0 rfl dX10_asks_127 ?_
  refine j_getfr fl_X10_113_9 rfl (m_lt hf (by decide)) (fk_1198 hf) (fg_1198_46 hf) dX10_asks_128 ?_
  refine j_iload 1 rfl dX10_asks_131 ?_
  obtain ⟨b2, h⟩ := h
  refine j_ialdJ (j := (l4).toNatClampNeg) (m_lt hf (by decide)) (fk_1230 hf) b2 rfl dX10_asks_133 ?_
  refine j_callV (b := 1198) (As := [.int (A 1229 (l4).toNatClampNeg), .int (A 1230 (l4).toNatClampNeg)]) (st := []) (C := RX10) (kc' := 0) (ks' := 0) (tX10_termOf hf (A 1229 (l4).toNatClampNeg) (A 1230 (l4).toNatClampNeg) _ h) myX10_termOf rfl q1952 q1954 qs97 (by decide) (fun s9 H9 hK9 hR9 h69 => jIs_in hK9 hR9 h69 (m_lt hf (by decide)) (fk_1198 hf) rfl) rfl (Nat.le_of_ble_eq_true rfl) rfl (by decide) (Nat.le_refl 0) (Nat.le_refl 0) dX10_asks_134 (fun v9 u9 hq => ?_) (fun k9 u9 hq => by obtain ⟨_, _, e9, _⟩ := hq; cases e9)
  obtain ⟨r3, A4, e9, rfl, h⟩ := hq
  obtain rfl := Sum.inl.inj e9
  show J Γ RX10 cX10_asks 7 (some .int) "asks" [] 2 0 0 137 [(0, .ref 1198), (4, .int l4)] [.int r3] (n, K, A4, Lg, G) P
  refine j_istore (by decide) rfl dX10_asks_137 ?_
  refine j_aload_n 1 rfl dX10_asks_139 ?_
  refine j_getfi fl_X10_330_9 rfl (m_lt hf (by decide)) (fk_1198 hf) dX10_asks_140 ?_
  refine j_if_eq (tgt := 150) dX10_asks_143 (by decide) (fun c => ?_) (fun c => ?_)
  · rw [if_pos c] at h
    refine j_iload 0 rfl dX10_asks_150 ?_
    refine j_iret rfl ?_ dX10_asks_152
    rw [hP]
    exact ⟨r3, A4, rfl, rfl, h⟩
  · rw [if_neg c] at h
    refine j_iconst (v := 0) dX10_asks_146 (by decide) ?_
    refine j_goto (tgt := 152) dX10_asks_147 (by decide) ?_
    refine j_iret rfl ?_ dX10_asks_152
    rw [hP]
    exact ⟨0, A4, rfl, rfl, h⟩
def fX10_asks_L39   (Q : Int32 → pA → Prop) : Nat → Int32 → Int32 → pA → Prop
  | 0, _, _, _ => False
  | n9 + 1, l3, l4, A =>
    (vp_in l3 8) ∧ ((if (A 1225 (l3).toNatClampNeg) ≤ l4 then Q 0 A else (vp_in l4 260) ∧ ((if (A 1226 (l4).toNatClampNeg) = 0 then fX10_asks_J119   Q l4 A else (vp_in l4 260) ∧ ((vp_in l4 260) ∧ (fX10_termOf A (A 1227 (l4).toNatClampNeg) (A 1228 (l4).toNatClampNeg) (fun r9 A10 => (vp_in l4 260) ∧ ((vp_in l4 260) ∧ (fX10_termOf A10 (A10 1228 (l4).toNatClampNeg) (A10 1229 (l4).toNatClampNeg) (fun r13 A14 => (if (A14 1198 54) = 0 then (if r9 < r13 then fX10_asks_J119   Q l4 A14 else fX10_asks_L39   Q n9 l3 (l4 + 1) A14) else Q 0 A14)))))))))))
theorem fX10_asks_L39_ok {Γ : jG} {n : Nat} {K : Nat → pKd} {G : pG} {Lg : pL} (hf : mOK n K G) (Q : Int32 → pA → Prop) (P : jO → pS → Prop) (hP : P = (fun o u => ∃ (r : Int32) (A' : pA), o = .inl (some (.int r)) ∧ u = (n, K, A', Lg, G) ∧ Q r A'))    : ∀ (n9 : Nat) (l3 : Int32) (l4 : Int32) (A : pA), fX10_asks_L39   Q n9 l3 l4 A → J Γ RX10 cX10_asks 7 (some .int) "asks" [] 2 0 0 39 [(0, .ref 1198), (3, .int l3), (4, .int l4)] [] (n, K, A, Lg, G) P := by
  intro n9
  induction n9 with
  | zero => intro l3 l4 A h; exact h.elim
  | succ n9 ih =>
    intro l3 l4 A h
    unfold fX10_asks_L39 at h
    refine j_iload 2 rfl dX10_asks_39 ?_
    refine j_aload_n 0 rfl dX10_asks_41 ?_
    refine j_getfr fl_X10_97_9 rfl (m_lt hf (by decide)) (fk_1198 hf) (fg_1198_40 hf) dX10_asks_42 ?_
    refine j_iload_n 1 rfl dX10_asks_45 ?_
    obtain ⟨b5, h⟩ := h
    refine j_ialdJ (j := (l3).toNatClampNeg) (m_lt hf (by decide)) (fk_1225 hf) b5 rfl dX10_asks_46 ?_
    refine j_icmp_ge (tgt := 159) dX10_asks_47 (by decide) (fun c => ?_) (fun c => ?_)
    · rw [if_pos c] at h
      refine j_iconst (v := 0) dX10_asks_159 (by decide) ?_
      refine j_iret rfl ?_ dX10_asks_160
      rw [hP]
      exact ⟨0, A, rfl, rfl, h⟩
    · rw [if_neg c] at h
      refine j_aload_n 0 rfl dX10_asks_50 ?_
      refine j_getfr fl_X10_100_9 rfl (m_lt hf (by decide)) (fk_1198 hf) (fg_1198_42 hf) dX10_asks_51 ?_
      refine j_iload 2 rfl dX10_asks_54 ?_
      obtain ⟨b6, h⟩ := h
      refine j_zaldJ (j := (l4).toNatClampNeg) (m_lt hf (by decide)) (fk_1226 hf) b6 rfl dX10_asks_56 ?_
      refine j_if_eq (tgt := 119) dX10_asks_57 (by decide) (fun c => ?_) (fun c => ?_)
      · rw [if_pos c] at h
        refine j_ls [0, 2] rfl ?_
        exact fX10_asks_J119_ok hf Q P hP   l4 A h
      · rw [if_neg c] at h
        refine j_aload_n 0 rfl dX10_asks_60 ?_
        refine j_aload_n 0 rfl dX10_asks_61 ?_
        refine j_getfr fl_X10_104_9 rfl (m_lt hf (by decide)) (fk_1198 hf) (fg_1198_43 hf) dX10_asks_62 ?_
        refine j_iload 2 rfl dX10_asks_65 ?_
        obtain ⟨b7, h⟩ := h
        refine j_ialdJ (j := (l4).toNatClampNeg) (m_lt hf (by decide)) (fk_1227 hf) b7 rfl dX10_asks_67 ?_
        refine j_aload_n 0 rfl dX10_asks_68 ?_
        refine j_getfr fl_X10_107_9 rfl (m_lt hf (by decide)) (fk_1198 hf) (fg_1198_44 hf) dX10_asks_69 ?_
        refine j_iload 2 rfl dX10_asks_72 ?_
        obtain ⟨b8, h⟩ := h
        refine j_ialdJ (j := (l4).toNatClampNeg) (m_lt hf (by decide)) (fk_1228 hf) b8 rfl dX10_asks_74 ?_
        refine j_callV (b := 1198) (As := [.int (A 1227 (l4).toNatClampNeg), .int (A 1228 (l4).toNatClampNeg)]) (st := []) (C := RX10) (kc' := 0) (ks' := 0) (tX10_termOf hf (A 1227 (l4).toNatClampNeg) (A 1228 (l4).toNatClampNeg) _ h) myX10_termOf rfl q1952 q1954 qs97 (by decide) (fun s9 H9 hK9 hR9 h69 => jIs_in hK9 hR9 h69 (m_lt hf (by decide)) (fk_1198 hf) rfl) rfl (Nat.le_of_ble_eq_true rfl) rfl (by decide) (Nat.le_refl 0) (Nat.le_refl 0) dX10_asks_75 (fun v9 u9 hq => ?_) (fun k9 u9 hq => by obtain ⟨_, _, e9, _⟩ := hq; cases e9)
        obtain ⟨r9, A10, e9, rfl, h⟩ := hq
        obtain rfl := Sum.inl.inj e9
        show J Γ RX10 cX10_asks 7 (some .int) "asks" [] 2 0 0 78 [(0, .ref 1198), (3, .int l3), (4, .int l4)] [.int r9] (n, K, A10, Lg, G) P
        refine j_istore (by decide) rfl dX10_asks_78 ?_
        refine j_aload_n 1 rfl dX10_asks_80 ?_
        refine j_aload_n 1 rfl dX10_asks_81 ?_
        refine j_getfr fl_X10_107_9 rfl (m_lt hf (by decide)) (fk_1198 hf) (fg_1198_44 hf) dX10_asks_82 ?_
        refine j_iload 3 rfl dX10_asks_85 ?_
        obtain ⟨b11, h⟩ := h
        refine j_ialdJ (j := (l4).toNatClampNeg) (m_lt hf (by decide)) (fk_1228 hf) b11 rfl dX10_asks_87 ?_
        refine j_aload_n 1 rfl dX10_asks_88 ?_
        refine j_getfr fl_X10_110_9 rfl (m_lt hf (by decide)) (fk_1198 hf) (fg_1198_45 hf) dX10_asks_89 ?_
        refine j_iload 3 rfl dX10_asks_92 ?_
        obtain ⟨b12, h⟩ := h
        refine j_ialdJ (j := (l4).toNatClampNeg) (m_lt hf (by decide)) (fk_1229 hf) b12 rfl dX10_asks_94 ?_
        refine j_callV (b := 1198) (As := [.int (A10 1228 (l4).toNatClampNeg), .int (A10 1229 (l4).toNatClampNeg)]) (st := []) (C := RX10) (kc' := 0) (ks' := 0) (tX10_termOf hf (A10 1228 (l4).toNatClampNeg) (A10 1229 (l4).toNatClampNeg) _ h) myX10_termOf rfl q1952 q1954 qs97 (by decide) (fun s9 H9 hK9 hR9 h69 => jIs_in hK9 hR9 h69 (m_lt hf (by decide)) (fk_1198 hf) rfl) rfl (Nat.le_of_ble_eq_true rfl) rfl (by decide) (Nat.le_refl 0) (Nat.le_refl 0) dX10_asks_95 (fun v9 u9 hq => ?_) (fun k9 u9 hq => by obtain ⟨_, _, e9, _⟩ := hq; cases e9)
        obtain ⟨r13, A14, e9, rfl, h⟩ := hq
        obtain rfl := Sum.inl.inj e9
        show J Γ RX10 cX10_asks 7 (some .int) "asks" [] 2 0 0 98 [(5, .int r9), (0, .ref 1198), (3, .int l3), (4, .int l4)] [.int r13] (n, K, A14, Lg, G) P
        refine j_istore (by decide) rfl dX10_asks_98 ?_
        refine j_aload_n 2 rfl dX10_asks_100 ?_
        refine j_getfi fl_X10_330_9 rfl (m_lt hf (by decide)) (fk_1198 hf) dX10_asks_101 ?_
        refine j_if_eq (tgt := 109) dX10_asks_104 (by decide) (fun c => ?_) (fun c => ?_)
        · rw [if_pos c] at h
          refine j_iload 1 rfl dX10_asks_109 ?_
          refine j_iload 0 rfl dX10_asks_111 ?_
          refine j_icmp_lt (tgt := 119) dX10_asks_113 (by decide) (fun c => ?_) (fun c => ?_)
          · rw [if_pos c] at h
            refine j_ls [2, 4] rfl ?_
            exact fX10_asks_J119_ok hf Q P hP   l4 A14 h
          · rw [if_neg c] at h
            refine j_goto (tgt := 153) dX10_asks_116 (by decide) ?_
            refine j_iinc (v := l4 + 1) 4 rfl rfl (by decide) rfl dX10_asks_153 ?_
            refine j_goto (tgt := 39) dX10_asks_156 (by decide) ?_
            refine j_ls [3, 4, 0] rfl ?_
            exact ih l3 (l4 + 1) A14 h
        · rw [if_neg c] at h
          refine j_iconst (v := 0) dX10_asks_107 (by decide) ?_
          refine j_iret rfl ?_ dX10_asks_108
          rw [hP]
          exact ⟨0, A14, rfl, rfl, h⟩
def fX10_asks (A : pA) (p1 : Int32) (p2 : Int32) (Q : Int32 → pA → Prop) : Prop :=
    (vp_in ((4 * (A 1198 18)) + p1) 8) ∧ ((vp_in ((4 * (A 1198 18)) + p1) 8) ∧ ((if (A 1224 ((4 * (A 1198 18)) + p1).toNatClampNeg) = (A 1225 ((4 * (A 1198 18)) + p1).toNatClampNeg) then Q p2 A else ∀ A17 : pA, A17 = pup A 1198 54 0 → (vp_in ((4 * (A 1198 18)) + p1) 8) ∧ (∃ m19, fX10_asks_L39   Q m19 ((4 * (A 1198 18)) + p1) (A17 1224 ((4 * (A 1198 18)) + p1).toNatClampNeg) A17))))
theorem tX10_asks {Γ : jG} {n : Nat} {K : Nat → pKd} {G : pG} {Lg : pL} (hf : mOK n K G) {A : pA} (p1 : Int32) (p2 : Int32) (Q : Int32 → pA → Prop) (h : fX10_asks A p1 p2 Q) : jMet Γ yX10_asks cX10_asks 7 (some .int) [] 2 0 0 [.ref 1198, .int p1, .int p2] (n, K, A, Lg, G) (fun o u => ∃ (r : Int32) (A' : pA), o = .inl (some (.int r)) ∧ u = (n, K, A', Lg, G) ∧ Q r A') := by
  unfold fX10_asks at h
  obtain ⟨P, hP⟩ : ∃ P : jO → pS → Prop, P = (fun o u => ∃ (r : Int32) (A' : pA), o = .inl (some (.int r)) ∧ u = (n, K, A', Lg, G) ∧ Q r A') := ⟨_, rfl⟩
  rw [← hP]
  refine jMet_of rfl rfl rfl (Nat.le_of_ble_eq_true rfl) ?_
  show J Γ RX10 cX10_asks 7 (some .int) "asks" [] 2 0 0 0 [(0, .ref 1198), (1, .int p1), (2, .int p2)] [] (n, K, A, Lg, G) P
  refine j_iconst (v := 4) dX10_asks_0 (by decide) ?_
  refine j_aload_n 0 rfl dX10_asks_1 ?_
  refine j_getfi fl_X10_242_9 rfl (m_lt hf (by decide)) (fk_1198 hf) dX10_asks_2 ?_
  refine j_imul dX10_asks_5 ?_
  refine j_iload_n 1 rfl dX10_asks_6 ?_
  refine j_iadd dX10_asks_7 ?_
  refine j_istore_n (by decide) rfl dX10_asks_8 ?_
  refine j_aload_n 1 rfl dX10_asks_9 ?_
  refine j_getfr fl_X10_94_9 rfl (m_lt hf (by decide)) (fk_1198 hf) (fg_1198_39 hf) dX10_asks_10 ?_
  refine j_iload_n 0 rfl dX10_asks_13 ?_
  obtain ⟨b15, h⟩ := h
  refine j_ialdJ (j := ((4 * (A 1198 18)) + p1).toNatClampNeg) (m_lt hf (by decide)) (fk_1224 hf) b15 rfl dX10_asks_14 ?_
  refine j_aload_n 1 rfl dX10_asks_15 ?_
  refine j_getfr fl_X10_97_9 rfl (m_lt hf (by decide)) (fk_1198 hf) (fg_1198_40 hf) dX10_asks_16 ?_
  refine j_iload_n 0 rfl dX10_asks_19 ?_
  obtain ⟨b16, h⟩ := h
  refine j_ialdJ (j := ((4 * (A 1198 18)) + p1).toNatClampNeg) (m_lt hf (by decide)) (fk_1225 hf) b16 rfl dX10_asks_20 ?_
  refine j_icmp_ne (tgt := 26) dX10_asks_21 (by decide) (fun c => ?_) (fun c => ?_)
  · rw [if_neg c] at h
    refine j_aload_n 1 rfl dX10_asks_26 ?_
    refine j_iconst (v := 0) dX10_asks_27 (by decide) ?_
    refine j_putfiE (fp_X10_330_9 _) rfl (by decide) (by decide) (m_lt hf (by decide)) (fk_1198 hf) dX10_asks_28 (fun A17 eA17 => ?_)
    replace h := h A17 eA17
    refine j_aload_n 1 rfl dX10_asks_31 ?_
    refine j_getfr fl_X10_94_9 rfl (m_lt hf (by decide)) (fk_1198 hf) (fg_1198_39 hf) dX10_asks_32 ?_
    refine j_iload_n 0 rfl dX10_asks_35 ?_
    obtain ⟨b18, h⟩ := h
    refine j_ialdJ (j := ((4 * (A 1198 18)) + p1).toNatClampNeg) (m_lt hf (by decide)) (fk_1224 hf) b18 rfl dX10_asks_36 ?_
    refine j_istore (by decide) rfl dX10_asks_37 ?_
    refine j_ls [2, 1, 0] rfl ?_
    obtain ⟨m19, h⟩ := h
    exact fX10_asks_L39_ok hf Q P hP   m19 ((4 * (A 1198 18)) + p1) (A17 1224 ((4 * (A 1198 18)) + p1).toNatClampNeg) A17 h
  · rw [if_pos c] at h
    refine j_iload_n 3 rfl dX10_asks_24 ?_
    refine j_iret rfl ?_ dX10_asks_25
    rw [hP]
    exact ⟨p2, A, rfl, rfl, h⟩
theorem myX10_farTo : jY yX10_farTo cX10_farTo 3 (some .int) 2 := ⟨q1947, q139, by decide +kernel, by decide +kernel, by decide⟩
def fX10_farTo (A : pA) (p1 : Int32) (p2 : Int32) (Q : Int32 → Prop) : Prop :=
    (vp_in p1 77) ∧ ((vp_in (15 + p2) 77) ∧ ((vp_in ((7 * (A 1238 (p1).toNatClampNeg)) + (A 1238 (15 + p2).toNatClampNeg)) 49) ∧ (Q (A 1236 ((7 * (A 1238 (p1).toNatClampNeg)) + (A 1238 (15 + p2).toNatClampNeg)).toNatClampNeg))))
theorem tX10_farTo {Γ : jG} {n : Nat} {K : Nat → pKd} {G : pG} {Lg : pL} (hf : mOK n K G) {A : pA} (p1 : Int32) (p2 : Int32) (Q : Int32 → Prop) (h : fX10_farTo A p1 p2 Q) : jMet Γ yX10_farTo cX10_farTo 3 (some .int) [] 1 0 0 [.ref 1198, .int p1, .int p2] (n, K, A, Lg, G) (fun o u => ∃ (r : Int32), o = .inl (some (.int r)) ∧ u = (n, K, A, Lg, G) ∧ Q r) := by
  unfold fX10_farTo at h
  obtain ⟨P, hP⟩ : ∃ P : jO → pS → Prop, P = (fun o u => ∃ (r : Int32), o = .inl (some (.int r)) ∧ u = (n, K, A, Lg, G) ∧ Q r) := ⟨_, rfl⟩
  rw [← hP]
  refine jMet_of rfl rfl rfl (Nat.le_of_ble_eq_true rfl) ?_
  show J Γ RX10 cX10_farTo 3 (some .int) "farTo" [] 1 0 0 0 [(0, .ref 1198), (1, .int p1), (2, .int p2)] [] (n, K, A, Lg, G) P
  refine j_aload_n 0 rfl dX10_farTo_0 ?_
  refine j_getfr fl_X10_131_9 rfl (m_lt hf (by decide)) (fk_1198 hf) (fg_1198_55 hf) dX10_farTo_1 ?_
  refine j_bipush (v := 7) dX10_farTo_4 (by decide) ?_
  refine j_aload_n 0 rfl dX10_farTo_6 ?_
  refine j_getfr fl_X10_137_9 rfl (m_lt hf (by decide)) (fk_1198 hf) (fg_1198_57 hf) dX10_farTo_7 ?_
  refine j_iload_n 1 rfl dX10_farTo_10 ?_
  obtain ⟨b1, h⟩ := h
  refine j_ialdJ (j := (p1).toNatClampNeg) (m_lt hf (by decide)) (fk_1238 hf) b1 rfl dX10_farTo_11 ?_
  refine j_imul dX10_farTo_12 ?_
  refine j_aload_n 0 rfl dX10_farTo_13 ?_
  refine j_getfr fl_X10_137_9 rfl (m_lt hf (by decide)) (fk_1198 hf) (fg_1198_57 hf) dX10_farTo_14 ?_
  refine j_bipush (v := 15) dX10_farTo_17 (by decide) ?_
  refine j_iload_n 2 rfl dX10_farTo_19 ?_
  refine j_iadd dX10_farTo_20 ?_
  obtain ⟨b2, h⟩ := h
  refine j_ialdJ (j := (15 + p2).toNatClampNeg) (m_lt hf (by decide)) (fk_1238 hf) b2 rfl dX10_farTo_21 ?_
  refine j_iadd dX10_farTo_22 ?_
  obtain ⟨b3, h⟩ := h
  refine j_ialdJ (j := ((7 * (A 1238 (p1).toNatClampNeg)) + (A 1238 (15 + p2).toNatClampNeg)).toNatClampNeg) (m_lt hf (by decide)) (fk_1236 hf) b3 rfl dX10_farTo_23 ?_
  refine j_iret rfl ?_ dX10_farTo_24
  rw [hP]
  exact ⟨A 1236 ((7 * (A 1238 (p1).toNatClampNeg)) + (A 1238 (15 + p2).toNatClampNeg)).toNatClampNeg, rfl, rfl, h⟩
theorem myX10_looks : jY yX10_looks cX10_looks 4 none 2 := ⟨q1943, q139, by decide +kernel, by decide +kernel, by decide⟩
def fX10_looks (A : pA) (p1 : Int32) (p2 : Int32) (Q : pA → Prop) : Prop :=
    (vp_in (35 + ((4 * p1) + p2)) 77) ∧ (∀ A2 : pA, A2 = pup A 1234 0 (A 1238 (35 + ((4 * p1) + p2)).toNatClampNeg) → (vp_in (55 + ((4 * p1) + p2)) 77) ∧ (∀ A4 : pA, A4 = pup A2 1234 1 (A2 1238 (55 + ((4 * p1) + p2)).toNatClampNeg) → fX10_farTo A4 p1 p2 (fun r5 => ∀ A6 : pA, A6 = pup A4 1234 2 r5 → (vp_in (23 + p2) 77) ∧ (∀ A8 : pA, A8 = pup A6 1234 3 (A6 1238 (23 + p2).toNatClampNeg) → Q A8))))
theorem tX10_looks {Γ : jG} {n : Nat} {K : Nat → pKd} {G : pG} {Lg : pL} (hf : mOK n K G) {A : pA} (p1 : Int32) (p2 : Int32) (Q : pA → Prop) (h : fX10_looks A p1 p2 Q) : jMet Γ yX10_looks cX10_looks 4 none [] 2 0 0 [.ref 1198, .int p1, .int p2] (n, K, A, Lg, G) (fun o u => ∃ (A' : pA), o = .inl none ∧ u = (n, K, A', Lg, G) ∧ Q A') := by
  unfold fX10_looks at h
  obtain ⟨P, hP⟩ : ∃ P : jO → pS → Prop, P = (fun o u => ∃ (A' : pA), o = .inl none ∧ u = (n, K, A', Lg, G) ∧ Q A') := ⟨_, rfl⟩
  rw [← hP]
  refine jMet_of rfl rfl rfl (Nat.le_of_ble_eq_true rfl) ?_
  show J Γ RX10 cX10_looks 4 none "looks" [] 2 0 0 0 [(0, .ref 1198), (1, .int p1), (2, .int p2)] [] (n, K, A, Lg, G) P
  refine j_iconst (v := 4) dX10_looks_0 (by decide) ?_
  refine j_iload_n 1 rfl dX10_looks_1 ?_
  refine j_imul dX10_looks_2 ?_
  refine j_iload_n 2 rfl dX10_looks_3 ?_
  refine j_iadd dX10_looks_4 ?_
  refine j_istore_n (by decide) rfl dX10_looks_5 ?_
  refine j_aload_n 1 rfl dX10_looks_6 ?_
  refine j_getfr fl_X10_125_9 rfl (m_lt hf (by decide)) (fk_1198 hf) (fg_1198_52 hf) dX10_looks_7 ?_
  refine j_iconst (v := 0) dX10_looks_10 (by decide) ?_
  refine j_aload_n 1 rfl dX10_looks_11 ?_
  refine j_getfr fl_X10_137_9 rfl (m_lt hf (by decide)) (fk_1198 hf) (fg_1198_57 hf) dX10_looks_12 ?_
  refine j_bipush (v := 35) dX10_looks_15 (by decide) ?_
  refine j_iload_n 0 rfl dX10_looks_17 ?_
  refine j_iadd dX10_looks_18 ?_
  obtain ⟨b1, h⟩ := h
  refine j_ialdJ (j := (35 + ((4 * p1) + p2)).toNatClampNeg) (m_lt hf (by decide)) (fk_1238 hf) b1 rfl dX10_looks_19 ?_
  refine j_iastJ (j := 0) (m_lt hf (by decide)) (fk_1234 hf) (by unfold vp_in; decide) rfl dX10_looks_20 (fun A2 eA2 => ?_)
  replace h := h A2 eA2
  refine j_aload_n 1 rfl dX10_looks_21 ?_
  refine j_getfr fl_X10_125_9 rfl (m_lt hf (by decide)) (fk_1198 hf) (fg_1198_52 hf) dX10_looks_22 ?_
  refine j_iconst (v := 1) dX10_looks_25 (by decide) ?_
  refine j_aload_n 1 rfl dX10_looks_26 ?_
  refine j_getfr fl_X10_137_9 rfl (m_lt hf (by decide)) (fk_1198 hf) (fg_1198_57 hf) dX10_looks_27 ?_
  refine j_bipush (v := 55) dX10_looks_30 (by decide) ?_
  refine j_iload_n 0 rfl dX10_looks_32 ?_
  refine j_iadd dX10_looks_33 ?_
  obtain ⟨b3, h⟩ := h
  refine j_ialdJ (j := (55 + ((4 * p1) + p2)).toNatClampNeg) (m_lt hf (by decide)) (fk_1238 hf) b3 rfl dX10_looks_34 ?_
  refine j_iastJ (j := 1) (m_lt hf (by decide)) (fk_1234 hf) (by unfold vp_in; decide) rfl dX10_looks_35 (fun A4 eA4 => ?_)
  replace h := h A4 eA4
  refine j_aload_n 1 rfl dX10_looks_36 ?_
  refine j_getfr fl_X10_125_9 rfl (m_lt hf (by decide)) (fk_1198 hf) (fg_1198_52 hf) dX10_looks_37 ?_
  refine j_iconst (v := 2) dX10_looks_40 (by decide) ?_
  refine j_aload_n 1 rfl dX10_looks_41 ?_
  refine j_iload_n 2 rfl dX10_looks_42 ?_
  refine j_iload_n 3 rfl dX10_looks_43 ?_
  refine j_callV (b := 1198) (As := [.int p1, .int p2]) (st := [.int 2, .ref 1234]) (C := RX10) (kc' := 0) (ks' := 0) (tX10_farTo hf p1 p2 _ h) myX10_farTo rfl q1944 q1946 qs95 (by decide) (fun s9 H9 hK9 hR9 h69 => jIs_in hK9 hR9 h69 (m_lt hf (by decide)) (fk_1198 hf) rfl) rfl (Nat.le_of_ble_eq_true rfl) rfl (by decide) (Nat.le_refl 0) (Nat.le_refl 0) dX10_looks_44 (fun v9 u9 hq => ?_) (fun k9 u9 hq => by obtain ⟨_, e9, _⟩ := hq; cases e9)
  obtain ⟨r5, e9, rfl, h⟩ := hq
  obtain rfl := Sum.inl.inj e9
  show J Γ RX10 cX10_looks 4 none "looks" [] 2 0 0 47 [(3, .int ((4 * p1) + p2)), (0, .ref 1198), (1, .int p1), (2, .int p2)] [.int r5, .int 2, .ref 1234] (n, K, A4, Lg, G) P
  refine j_iastJ (j := 2) (m_lt hf (by decide)) (fk_1234 hf) (by unfold vp_in; decide) rfl dX10_looks_47 (fun A6 eA6 => ?_)
  replace h := h A6 eA6
  refine j_aload_n 1 rfl dX10_looks_48 ?_
  refine j_getfr fl_X10_125_9 rfl (m_lt hf (by decide)) (fk_1198 hf) (fg_1198_52 hf) dX10_looks_49 ?_
  refine j_iconst (v := 3) dX10_looks_52 (by decide) ?_
  refine j_aload_n 1 rfl dX10_looks_53 ?_
  refine j_getfr fl_X10_137_9 rfl (m_lt hf (by decide)) (fk_1198 hf) (fg_1198_57 hf) dX10_looks_54 ?_
  refine j_bipush (v := 23) dX10_looks_57 (by decide) ?_
  refine j_iload_n 3 rfl dX10_looks_59 ?_
  refine j_iadd dX10_looks_60 ?_
  obtain ⟨b7, h⟩ := h
  refine j_ialdJ (j := (23 + p2).toNatClampNeg) (m_lt hf (by decide)) (fk_1238 hf) b7 rfl dX10_looks_61 ?_
  refine j_iastJ (j := 3) (m_lt hf (by decide)) (fk_1234 hf) (by unfold vp_in; decide) rfl dX10_looks_62 (fun A8 eA8 => ?_)
  replace h := h A8 eA8
  refine j_vret rfl ?_ dX10_looks_63
  rw [hP]
  exact ⟨A8, rfl, rfl, h⟩
theorem myX10_minuteNow : jY yX10_minuteNow cX10_minuteNow 1 (some .int) 0 := ⟨q1939, q139, by decide +kernel, by decide +kernel, by decide⟩
def fX10_minuteNow (A : pA) (Q : Int32 → Prop) : Prop :=
    (vp_in (A 1198 18) 2) ∧ (Q (((A 1223 (A 1198 18).toNatClampNeg) + (A 1238 76)) - ((A 1223 (A 1198 18).toNatClampNeg) + (A 1238 76)) / 1440 * 1440))
theorem tX10_minuteNow {Γ : jG} {n : Nat} {K : Nat → pKd} {G : pG} {Lg : pL} (hf : mOK n K G) {A : pA}  (Q : Int32 → Prop) (h : fX10_minuteNow A Q) : jMet Γ yX10_minuteNow cX10_minuteNow 1 (some .int) [] 1 0 0 [.ref 1198] (n, K, A, Lg, G) (fun o u => ∃ (r : Int32), o = .inl (some (.int r)) ∧ u = (n, K, A, Lg, G) ∧ Q r) := by
  unfold fX10_minuteNow at h
  obtain ⟨P, hP⟩ : ∃ P : jO → pS → Prop, P = (fun o u => ∃ (r : Int32), o = .inl (some (.int r)) ∧ u = (n, K, A, Lg, G) ∧ Q r) := ⟨_, rfl⟩
  rw [← hP]
  refine jMet_of rfl rfl rfl (Nat.le_of_ble_eq_true rfl) ?_
  show J Γ RX10 cX10_minuteNow 1 (some .int) "minuteNow" [] 1 0 0 0 [(0, .ref 1198)] [] (n, K, A, Lg, G) P
  refine j_aload_n 0 rfl dX10_minuteNow_0 ?_
  refine j_getfr fl_X10_91_9 rfl (m_lt hf (by decide)) (fk_1198 hf) (fg_1198_38 hf) dX10_minuteNow_1 ?_
  refine j_aload_n 0 rfl dX10_minuteNow_4 ?_
  refine j_getfi fl_X10_242_9 rfl (m_lt hf (by decide)) (fk_1198 hf) dX10_minuteNow_5 ?_
  obtain ⟨b1, h⟩ := h
  refine j_ialdJ (j := (A 1198 18).toNatClampNeg) (m_lt hf (by decide)) (fk_1223 hf) b1 rfl dX10_minuteNow_8 ?_
  refine j_aload_n 0 rfl dX10_minuteNow_9 ?_
  refine j_getfr fl_X10_137_9 rfl (m_lt hf (by decide)) (fk_1198 hf) (fg_1198_57 hf) dX10_minuteNow_10 ?_
  refine j_bipush (v := 76) dX10_minuteNow_13 (by decide) ?_
  refine j_ialdJ (j := 76) (m_lt hf (by decide)) (fk_1238 hf) (by unfold vp_in; decide) rfl dX10_minuteNow_15 ?_
  refine j_iadd dX10_minuteNow_16 ?_
  refine j_sipush (v := 1440) dX10_minuteNow_17 (by decide) ?_
  refine j_irem (by decide) dX10_minuteNow_20 ?_
  refine j_iret rfl ?_ dX10_minuteNow_21
  rw [hP]
  exact ⟨((A 1223 (A 1198 18).toNatClampNeg) + (A 1238 76)) - ((A 1223 (A 1198 18).toNatClampNeg) + (A 1238 76)) / 1440 * 1440, rfl, rfl, h⟩
theorem myX10_looksAtDog : jY yX10_looksAtDog cX10_looksAtDog 3 none 1 := ⟨q1935, q139, by decide +kernel, by decide +kernel, by decide⟩
def fX10_looksAtDog_L2   (Q : pA → Prop) : Nat → Int32 → Int32 → pA → Prop
  | 0, _, _, _ => False
  | n9 + 1, l1, l2, A =>
    (if 9 ≤ l2 then (vp_in ((5 * (A 1198 18)) + l1) 10) ∧ (∀ A2 : pA, A2 = pup A 1234 4 (A 1213 ((5 * (A 1198 18)) + l1).toNatClampNeg) → (vp_in ((5 * (A2 1198 18)) + l1) 10) ∧ (∀ A4 : pA, A4 = pup A2 1234 5 (A2 1214 ((5 * (A2 1198 18)) + l1).toNatClampNeg) → fX10_minuteNow A4 (fun r5 => ∀ A6 : pA, A6 = pup A4 1234 6 r5 → ∀ A7 : pA, A7 = pup A6 1234 7 l1 → (vp_in (5 + l1) 77) ∧ (∀ A9 : pA, A9 = pup A7 1234 8 (A7 1238 (5 + l1).toNatClampNeg) → Q A9)))) else (vp_in l2 9) ∧ (∀ A11 : pA, A11 = pup A 1234 (l2).toNatClampNeg 0 → fX10_looksAtDog_L2   Q n9 l1 (l2 + 1) A11))
theorem fX10_looksAtDog_L2_ok {Γ : jG} {n : Nat} {K : Nat → pKd} {G : pG} {Lg : pL} (hf : mOK n K G) (Q : pA → Prop) (P : jO → pS → Prop) (hP : P = (fun o u => ∃ (A' : pA), o = .inl none ∧ u = (n, K, A', Lg, G) ∧ Q A'))    : ∀ (n9 : Nat) (l1 : Int32) (l2 : Int32) (A : pA), fX10_looksAtDog_L2   Q n9 l1 l2 A → J Γ RX10 cX10_looksAtDog 3 none "looksAtDog" [] 2 0 0 2 [(0, .ref 1198), (1, .int l1), (2, .int l2)] [] (n, K, A, Lg, G) P := by
  intro n9
  induction n9 with
  | zero => intro l1 l2 A h; exact h.elim
  | succ n9 ih =>
    intro l1 l2 A h
    unfold fX10_looksAtDog_L2 at h
    refine j_iload_n 2 rfl dX10_looksAtDog_2 ?_
    refine j_bipush (v := 9) dX10_looksAtDog_3 (by decide) ?_
    refine j_icmp_ge (tgt := 21) dX10_looksAtDog_5 (by decide) (fun c => ?_) (fun c => ?_)
    · rw [if_pos c] at h
      refine j_aload_n 0 rfl dX10_looksAtDog_21 ?_
      refine j_getfr fl_X10_125_9 rfl (m_lt hf (by decide)) (fk_1198 hf) (fg_1198_52 hf) dX10_looksAtDog_22 ?_
      refine j_iconst (v := 4) dX10_looksAtDog_25 (by decide) ?_
      refine j_aload_n 0 rfl dX10_looksAtDog_26 ?_
      refine j_getfr fl_X10_61_9 rfl (m_lt hf (by decide)) (fk_1198 hf) (fg_1198_28 hf) dX10_looksAtDog_27 ?_
      refine j_iconst (v := 5) dX10_looksAtDog_30 (by decide) ?_
      refine j_aload_n 0 rfl dX10_looksAtDog_31 ?_
      refine j_getfi fl_X10_242_9 rfl (m_lt hf (by decide)) (fk_1198 hf) dX10_looksAtDog_32 ?_
      refine j_imul dX10_looksAtDog_35 ?_
      refine j_iload_n 1 rfl dX10_looksAtDog_36 ?_
      refine j_iadd dX10_looksAtDog_37 ?_
      obtain ⟨b1, h⟩ := h
      refine j_ialdJ (j := ((5 * (A 1198 18)) + l1).toNatClampNeg) (m_lt hf (by decide)) (fk_1213 hf) b1 rfl dX10_looksAtDog_38 ?_
      refine j_iastJ (j := 4) (m_lt hf (by decide)) (fk_1234 hf) (by unfold vp_in; decide) rfl dX10_looksAtDog_39 (fun A2 eA2 => ?_)
      replace h := h A2 eA2
      refine j_aload_n 0 rfl dX10_looksAtDog_40 ?_
      refine j_getfr fl_X10_125_9 rfl (m_lt hf (by decide)) (fk_1198 hf) (fg_1198_52 hf) dX10_looksAtDog_41 ?_
      refine j_iconst (v := 5) dX10_looksAtDog_44 (by decide) ?_
      refine j_aload_n 0 rfl dX10_looksAtDog_45 ?_
      refine j_getfr fl_X10_64_9 rfl (m_lt hf (by decide)) (fk_1198 hf) (fg_1198_29 hf) dX10_looksAtDog_46 ?_
      refine j_iconst (v := 5) dX10_looksAtDog_49 (by decide) ?_
      refine j_aload_n 0 rfl dX10_looksAtDog_50 ?_
      refine j_getfi fl_X10_242_9 rfl (m_lt hf (by decide)) (fk_1198 hf) dX10_looksAtDog_51 ?_
      refine j_imul dX10_looksAtDog_54 ?_
      refine j_iload_n 1 rfl dX10_looksAtDog_55 ?_
      refine j_iadd dX10_looksAtDog_56 ?_
      obtain ⟨b3, h⟩ := h
      refine j_ialdJ (j := ((5 * (A2 1198 18)) + l1).toNatClampNeg) (m_lt hf (by decide)) (fk_1214 hf) b3 rfl dX10_looksAtDog_57 ?_
      refine j_iastJ (j := 5) (m_lt hf (by decide)) (fk_1234 hf) (by unfold vp_in; decide) rfl dX10_looksAtDog_58 (fun A4 eA4 => ?_)
      replace h := h A4 eA4
      refine j_aload_n 0 rfl dX10_looksAtDog_59 ?_
      refine j_getfr fl_X10_125_9 rfl (m_lt hf (by decide)) (fk_1198 hf) (fg_1198_52 hf) dX10_looksAtDog_60 ?_
      refine j_bipush (v := 6) dX10_looksAtDog_63 (by decide) ?_
      refine j_aload_n 0 rfl dX10_looksAtDog_65 ?_
      refine j_callV (b := 1198) (As := []) (st := [.int 6, .ref 1234]) (C := RX10) (kc' := 0) (ks' := 0) (tX10_minuteNow hf  _ h) myX10_minuteNow rfl q1936 q1938 qs93 (by decide) (fun s9 H9 hK9 hR9 h69 => jIs_in hK9 hR9 h69 (m_lt hf (by decide)) (fk_1198 hf) rfl) rfl (Nat.le_of_ble_eq_true rfl) rfl (by decide) (Nat.le_refl 0) (Nat.le_refl 0) dX10_looksAtDog_66 (fun v9 u9 hq => ?_) (fun k9 u9 hq => by obtain ⟨_, e9, _⟩ := hq; cases e9)
      obtain ⟨r5, e9, rfl, h⟩ := hq
      obtain rfl := Sum.inl.inj e9
      show J Γ RX10 cX10_looksAtDog 3 none "looksAtDog" [] 2 0 0 69 [(0, .ref 1198), (1, .int l1), (2, .int l2)] [.int r5, .int 6, .ref 1234] (n, K, A4, Lg, G) P
      refine j_iastJ (j := 6) (m_lt hf (by decide)) (fk_1234 hf) (by unfold vp_in; decide) rfl dX10_looksAtDog_69 (fun A6 eA6 => ?_)
      replace h := h A6 eA6
      refine j_aload_n 0 rfl dX10_looksAtDog_70 ?_
      refine j_getfr fl_X10_125_9 rfl (m_lt hf (by decide)) (fk_1198 hf) (fg_1198_52 hf) dX10_looksAtDog_71 ?_
      refine j_bipush (v := 7) dX10_looksAtDog_74 (by decide) ?_
      refine j_iload_n 1 rfl dX10_looksAtDog_76 ?_
      refine j_iastJ (j := 7) (m_lt hf (by decide)) (fk_1234 hf) (by unfold vp_in; decide) rfl dX10_looksAtDog_77 (fun A7 eA7 => ?_)
      replace h := h A7 eA7
      refine j_aload_n 0 rfl dX10_looksAtDog_78 ?_
      refine j_getfr fl_X10_125_9 rfl (m_lt hf (by decide)) (fk_1198 hf) (fg_1198_52 hf) dX10_looksAtDog_79 ?_
      refine j_bipush (v := 8) dX10_looksAtDog_82 (by decide) ?_
      refine j_aload_n 0 rfl dX10_looksAtDog_84 ?_
      refine j_getfr fl_X10_137_9 rfl (m_lt hf (by decide)) (fk_1198 hf) (fg_1198_57 hf) dX10_looksAtDog_85 ?_
      refine j_iconst (v := 5) dX10_looksAtDog_88 (by decide) ?_
      refine j_iload_n 1 rfl dX10_looksAtDog_89 ?_
      refine j_iadd dX10_looksAtDog_90 ?_
      obtain ⟨b8, h⟩ := h
      refine j_ialdJ (j := (5 + l1).toNatClampNeg) (m_lt hf (by decide)) (fk_1238 hf) b8 rfl dX10_looksAtDog_91 ?_
      refine j_iastJ (j := 8) (m_lt hf (by decide)) (fk_1234 hf) (by unfold vp_in; decide) rfl dX10_looksAtDog_92 (fun A9 eA9 => ?_)
      replace h := h A9 eA9
      refine j_vret rfl ?_ dX10_looksAtDog_93
      rw [hP]
      exact ⟨A9, rfl, rfl, h⟩
    · rw [if_neg c] at h
      refine j_aload_n 0 rfl dX10_looksAtDog_8 ?_
      refine j_getfr fl_X10_125_9 rfl (m_lt hf (by decide)) (fk_1198 hf) (fg_1198_52 hf) dX10_looksAtDog_9 ?_
      refine j_iload_n 2 rfl dX10_looksAtDog_12 ?_
      refine j_iconst (v := 0) dX10_looksAtDog_13 (by decide) ?_
      obtain ⟨b10, h⟩ := h
      refine j_iastJ (j := (l2).toNatClampNeg) (m_lt hf (by decide)) (fk_1234 hf) b10 rfl dX10_looksAtDog_14 (fun A11 eA11 => ?_)
      replace h := h A11 eA11
      refine j_iinc (v := l2 + 1) 2 rfl rfl (by decide) rfl dX10_looksAtDog_15 ?_
      refine j_goto (tgt := 2) dX10_looksAtDog_18 (by decide) ?_
      refine j_ls [1, 2, 0] rfl ?_
      exact ih l1 (l2 + 1) A11 h
def fX10_looksAtDog (A : pA) (p1 : Int32) (Q : pA → Prop) : Prop :=
    ∃ m12, fX10_looksAtDog_L2   Q m12 p1 0 A
theorem tX10_looksAtDog {Γ : jG} {n : Nat} {K : Nat → pKd} {G : pG} {Lg : pL} (hf : mOK n K G) {A : pA} (p1 : Int32) (Q : pA → Prop) (h : fX10_looksAtDog A p1 Q) : jMet Γ yX10_looksAtDog cX10_looksAtDog 3 none [] 2 0 0 [.ref 1198, .int p1] (n, K, A, Lg, G) (fun o u => ∃ (A' : pA), o = .inl none ∧ u = (n, K, A', Lg, G) ∧ Q A') := by
  unfold fX10_looksAtDog at h
  obtain ⟨P, hP⟩ : ∃ P : jO → pS → Prop, P = (fun o u => ∃ (A' : pA), o = .inl none ∧ u = (n, K, A', Lg, G) ∧ Q A') := ⟨_, rfl⟩
  rw [← hP]
  refine jMet_of rfl rfl rfl (Nat.le_of_ble_eq_true rfl) ?_
  show J Γ RX10 cX10_looksAtDog 3 none "looksAtDog" [] 2 0 0 0 [(0, .ref 1198), (1, .int p1)] [] (n, K, A, Lg, G) P
  refine j_iconst (v := 0) dX10_looksAtDog_0 (by decide) ?_
  refine j_istore_n (by decide) rfl dX10_looksAtDog_1 ?_
  refine j_ls [1, 2, 0] rfl ?_
  obtain ⟨m12, h⟩ := h
  exact fX10_looksAtDog_L2_ok hf Q P hP   m12 p1 0 A h
theorem myX10_within : jY yX10_within cX10_within 3 (some .int) 3 := ⟨q1962, q139, by decide +kernel, by decide +kernel, by decide⟩
def fX10_within (A : pA) (p0 : Int32) (p1 : Int32) (p2 : Int32) (Q : Int32 → Prop) : Prop :=
    (if p1 ≤ p0 then (if p0 ≤ p2 then Q p0 else Q p2) else Q p1)
theorem tX10_within {Γ : jG} {n : Nat} {K : Nat → pKd} {G : pG} {Lg : pL} (hf : mOK n K G) {A : pA} (p0 : Int32) (p1 : Int32) (p2 : Int32) (Q : Int32 → Prop) (h : fX10_within A p0 p1 p2 Q) : jMet Γ yX10_within cX10_within 3 (some .int) [] 1 0 0 [.int p0, .int p1, .int p2] (n, K, A, Lg, G) (fun o u => ∃ (r : Int32), o = .inl (some (.int r)) ∧ u = (n, K, A, Lg, G) ∧ Q r) := by
  unfold fX10_within at h
  obtain ⟨P, hP⟩ : ∃ P : jO → pS → Prop, P = (fun o u => ∃ (r : Int32), o = .inl (some (.int r)) ∧ u = (n, K, A, Lg, G) ∧ Q r) := ⟨_, rfl⟩
  rw [← hP]
  refine jMet_of rfl rfl rfl (Nat.le_of_ble_eq_true rfl) ?_
  show J Γ RX10 cX10_within 3 (some .int) "within" [] 1 0 0 0 [(0, .int p0), (1, .int p1), (2, .int p2)] [] (n, K, A, Lg, G) P
  refine j_iload_n 0 rfl dX10_within_0 ?_
  refine j_iload_n 1 rfl dX10_within_1 ?_
  refine j_icmp_ge (tgt := 9) dX10_within_2 (by decide) (fun c => ?_) (fun c => ?_)
  · rw [if_pos c] at h
    refine j_iload_n 0 rfl dX10_within_9 ?_
    refine j_iload_n 2 rfl dX10_within_10 ?_
    refine j_icmp_le (tgt := 18) dX10_within_11 (by decide) (fun c => ?_) (fun c => ?_)
    · rw [if_pos c] at h
      refine j_iload_n 0 rfl dX10_within_18 ?_
      refine j_iret rfl ?_ dX10_within_19
      rw [hP]
      exact ⟨p0, rfl, rfl, h⟩
    · rw [if_neg c] at h
      refine j_iload_n 2 rfl dX10_within_14 ?_
      refine j_goto (tgt := 19) dX10_within_15 (by decide) ?_
      refine j_iret rfl ?_ dX10_within_19
      rw [hP]
      exact ⟨p2, rfl, rfl, h⟩
  · rw [if_neg c] at h
    refine j_iload_n 1 rfl dX10_within_5 ?_
    refine j_goto (tgt := 19) dX10_within_6 (by decide) ?_
    refine j_iret rfl ?_ dX10_within_19
    rw [hP]
    exact ⟨p1, rfl, rfl, h⟩
theorem myX10_fadesOf : jY yX10_fadesOf cX10_fadesOf 3 (some .int) 2 := ⟨q1966, q139, by decide +kernel, by decide +kernel, by decide⟩
def fX10_fadesOf (A : pA) (p1 : Int32) (p2 : Int32) (Q : Int32 → pA → Prop) : Prop :=
    fX10_looksAtDog A p1 (fun A1 => fX10_looks A1 p1 p2 (fun A2 => fX10_asks A2 2 1 (fun r3 A4 => fX10_within A4 r3 0 99 (fun r5 => Q r5 A4))))
theorem tX10_fadesOf {Γ : jG} {n : Nat} {K : Nat → pKd} {G : pG} {Lg : pL} (hf : mOK n K G) {A : pA} (p1 : Int32) (p2 : Int32) (Q : Int32 → pA → Prop) (h : fX10_fadesOf A p1 p2 Q) : jMet Γ yX10_fadesOf cX10_fadesOf 3 (some .int) [] 3 0 0 [.ref 1198, .int p1, .int p2] (n, K, A, Lg, G) (fun o u => ∃ (r : Int32) (A' : pA), o = .inl (some (.int r)) ∧ u = (n, K, A', Lg, G) ∧ Q r A') := by
  unfold fX10_fadesOf at h
  obtain ⟨P, hP⟩ : ∃ P : jO → pS → Prop, P = (fun o u => ∃ (r : Int32) (A' : pA), o = .inl (some (.int r)) ∧ u = (n, K, A', Lg, G) ∧ Q r A') := ⟨_, rfl⟩
  rw [← hP]
  refine jMet_of rfl rfl rfl (Nat.le_of_ble_eq_true rfl) ?_
  show J Γ RX10 cX10_fadesOf 3 (some .int) "fadesOf" [] 3 0 0 0 [(0, .ref 1198), (1, .int p1), (2, .int p2)] [] (n, K, A, Lg, G) P
  refine j_aload_n 0 rfl dX10_fadesOf_0 ?_
  refine j_iload_n 1 rfl dX10_fadesOf_1 ?_
  refine j_callV (b := 1198) (As := [.int p1]) (st := []) (C := RX10) (kc' := 0) (ks' := 0) (tX10_looksAtDog hf p1 _ h) myX10_looksAtDog rfl q1932 q1934 qs92 (by decide) (fun s9 H9 hK9 hR9 h69 => jIs_in hK9 hR9 h69 (m_lt hf (by decide)) (fk_1198 hf) rfl) rfl (Nat.le_of_ble_eq_true rfl) rfl (by decide) (Nat.le_refl 0) (Nat.le_refl 0) dX10_fadesOf_2 (fun v9 u9 hq => ?_) (fun k9 u9 hq => by obtain ⟨_, e9, _⟩ := hq; cases e9)
  obtain ⟨A1, e9, rfl, h⟩ := hq
  obtain rfl := Sum.inl.inj e9
  show J Γ RX10 cX10_fadesOf 3 (some .int) "fadesOf" [] 3 0 0 5 [(0, .ref 1198), (1, .int p1), (2, .int p2)] [] (n, K, A1, Lg, G) P
  refine j_aload_n 0 rfl dX10_fadesOf_5 ?_
  refine j_iload_n 1 rfl dX10_fadesOf_6 ?_
  refine j_iload_n 2 rfl dX10_fadesOf_7 ?_
  refine j_callV (b := 1198) (As := [.int p1, .int p2]) (st := []) (C := RX10) (kc' := 0) (ks' := 0) (tX10_looks hf p1 p2 _ h) myX10_looks rfl q1940 q1942 qs94 (by decide) (fun s9 H9 hK9 hR9 h69 => jIs_in hK9 hR9 h69 (m_lt hf (by decide)) (fk_1198 hf) rfl) rfl (Nat.le_of_ble_eq_true rfl) rfl (by decide) (Nat.le_refl 0) (Nat.le_refl 0) dX10_fadesOf_8 (fun v9 u9 hq => ?_) (fun k9 u9 hq => by obtain ⟨_, e9, _⟩ := hq; cases e9)
  obtain ⟨A2, e9, rfl, h⟩ := hq
  obtain rfl := Sum.inl.inj e9
  show J Γ RX10 cX10_fadesOf 3 (some .int) "fadesOf" [] 3 0 0 11 [(0, .ref 1198), (1, .int p1), (2, .int p2)] [] (n, K, A2, Lg, G) P
  refine j_aload_n 0 rfl dX10_fadesOf_11 ?_
  refine j_iconst (v := 2) dX10_fadesOf_12 (by decide) ?_
  refine j_iconst (v := 1) dX10_fadesOf_13 (by decide) ?_
  refine j_callV (b := 1198) (As := [.int 2, .int 1]) (st := []) (C := RX10) (kc' := 0) (ks' := 0) (tX10_asks hf 2 1 _ h) myX10_asks rfl q1948 q1950 qs96 (by decide) (fun s9 H9 hK9 hR9 h69 => jIs_in hK9 hR9 h69 (m_lt hf (by decide)) (fk_1198 hf) rfl) rfl (Nat.le_of_ble_eq_true rfl) rfl (by decide) (Nat.le_refl 0) (Nat.le_refl 0) dX10_fadesOf_14 (fun v9 u9 hq => ?_) (fun k9 u9 hq => by obtain ⟨_, _, e9, _⟩ := hq; cases e9)
  obtain ⟨r3, A4, e9, rfl, h⟩ := hq
  obtain rfl := Sum.inl.inj e9
  show J Γ RX10 cX10_fadesOf 3 (some .int) "fadesOf" [] 3 0 0 17 [(0, .ref 1198), (1, .int p1), (2, .int p2)] [.int r3] (n, K, A4, Lg, G) P
  refine j_iconst (v := 0) dX10_fadesOf_17 (by decide) ?_
  refine j_bipush (v := 99) dX10_fadesOf_18 (by decide) ?_
  refine j_callS (As := [.int r3, .int 0, .int 99]) (st := []) (kc' := 0) (ks' := 0) (tX10_within hf r3 0 99 _ h) myX10_within q1960 q1961 rfl (Nat.le_of_ble_eq_true rfl) rfl (by decide) (Nat.le_refl 0) (Nat.le_refl 0) dX10_fadesOf_20 (fun v9 u9 hq => ?_) (fun k9 u9 hq => by obtain ⟨_, e9, _⟩ := hq; cases e9)
  obtain ⟨r5, e9, rfl, h⟩ := hq
  obtain rfl := Sum.inl.inj e9
  show J Γ RX10 cX10_fadesOf 3 (some .int) "fadesOf" [] 3 0 0 23 [(0, .ref 1198), (1, .int p1), (2, .int p2)] [.int r5] (n, K, A4, Lg, G) P
  refine j_iret rfl ?_ dX10_fadesOf_23
  rw [hP]
  exact ⟨r5, A4, rfl, rfl, h⟩
theorem myX10_takesOf : jY yX10_takesOf cX10_takesOf 3 (some .int) 2 := ⟨q1959, q139, by decide +kernel, by decide +kernel, by decide⟩
def fX10_takesOf (A : pA) (p1 : Int32) (p2 : Int32) (Q : Int32 → pA → Prop) : Prop :=
    fX10_looksAtDog A p1 (fun A1 => fX10_looks A1 p1 p2 (fun A2 => fX10_asks A2 1 (A2 1234 4) (fun r3 A4 => (vp_in (23 + p2) 77) ∧ (fX10_within A4 r3 0 (A4 1238 (23 + p2).toNatClampNeg) (fun r6 => Q r6 A4)))))
theorem tX10_takesOf {Γ : jG} {n : Nat} {K : Nat → pKd} {G : pG} {Lg : pL} (hf : mOK n K G) {A : pA} (p1 : Int32) (p2 : Int32) (Q : Int32 → pA → Prop) (h : fX10_takesOf A p1 p2 Q) : jMet Γ yX10_takesOf cX10_takesOf 3 (some .int) [] 3 0 0 [.ref 1198, .int p1, .int p2] (n, K, A, Lg, G) (fun o u => ∃ (r : Int32) (A' : pA), o = .inl (some (.int r)) ∧ u = (n, K, A', Lg, G) ∧ Q r A') := by
  unfold fX10_takesOf at h
  obtain ⟨P, hP⟩ : ∃ P : jO → pS → Prop, P = (fun o u => ∃ (r : Int32) (A' : pA), o = .inl (some (.int r)) ∧ u = (n, K, A', Lg, G) ∧ Q r A') := ⟨_, rfl⟩
  rw [← hP]
  refine jMet_of rfl rfl rfl (Nat.le_of_ble_eq_true rfl) ?_
  show J Γ RX10 cX10_takesOf 3 (some .int) "takesOf" [] 3 0 0 0 [(0, .ref 1198), (1, .int p1), (2, .int p2)] [] (n, K, A, Lg, G) P
  refine j_aload_n 0 rfl dX10_takesOf_0 ?_
  refine j_iload_n 1 rfl dX10_takesOf_1 ?_
  refine j_callV (b := 1198) (As := [.int p1]) (st := []) (C := RX10) (kc' := 0) (ks' := 0) (tX10_looksAtDog hf p1 _ h) myX10_looksAtDog rfl q1932 q1934 qs92 (by decide) (fun s9 H9 hK9 hR9 h69 => jIs_in hK9 hR9 h69 (m_lt hf (by decide)) (fk_1198 hf) rfl) rfl (Nat.le_of_ble_eq_true rfl) rfl (by decide) (Nat.le_refl 0) (Nat.le_refl 0) dX10_takesOf_2 (fun v9 u9 hq => ?_) (fun k9 u9 hq => by obtain ⟨_, e9, _⟩ := hq; cases e9)
  obtain ⟨A1, e9, rfl, h⟩ := hq
  obtain rfl := Sum.inl.inj e9
  show J Γ RX10 cX10_takesOf 3 (some .int) "takesOf" [] 3 0 0 5 [(0, .ref 1198), (1, .int p1), (2, .int p2)] [] (n, K, A1, Lg, G) P
  refine j_aload_n 0 rfl dX10_takesOf_5 ?_
  refine j_iload_n 1 rfl dX10_takesOf_6 ?_
  refine j_iload_n 2 rfl dX10_takesOf_7 ?_
  refine j_callV (b := 1198) (As := [.int p1, .int p2]) (st := []) (C := RX10) (kc' := 0) (ks' := 0) (tX10_looks hf p1 p2 _ h) myX10_looks rfl q1940 q1942 qs94 (by decide) (fun s9 H9 hK9 hR9 h69 => jIs_in hK9 hR9 h69 (m_lt hf (by decide)) (fk_1198 hf) rfl) rfl (Nat.le_of_ble_eq_true rfl) rfl (by decide) (Nat.le_refl 0) (Nat.le_refl 0) dX10_takesOf_8 (fun v9 u9 hq => ?_) (fun k9 u9 hq => by obtain ⟨_, e9, _⟩ := hq; cases e9)
  obtain ⟨A2, e9, rfl, h⟩ := hq
  obtain rfl := Sum.inl.inj e9
  show J Γ RX10 cX10_takesOf 3 (some .int) "takesOf" [] 3 0 0 11 [(0, .ref 1198), (1, .int p1), (2, .int p2)] [] (n, K, A2, Lg, G) P
  refine j_aload_n 0 rfl dX10_takesOf_11 ?_
  refine j_iconst (v := 1) dX10_takesOf_12 (by decide) ?_
  refine j_aload_n 0 rfl dX10_takesOf_13 ?_
  refine j_getfr fl_X10_125_9 rfl (m_lt hf (by decide)) (fk_1198 hf) (fg_1198_52 hf) dX10_takesOf_14 ?_
  refine j_iconst (v := 4) dX10_takesOf_17 (by decide) ?_
  refine j_ialdJ (j := 4) (m_lt hf (by decide)) (fk_1234 hf) (by unfold vp_in; decide) rfl dX10_takesOf_18 ?_
  refine j_callV (b := 1198) (As := [.int 1, .int (A2 1234 4)]) (st := []) (C := RX10) (kc' := 0) (ks' := 0) (tX10_asks hf 1 (A2 1234 4) _ h) myX10_asks rfl q1948 q1950 qs96 (by decide) (fun s9 H9 hK9 hR9 h69 => jIs_in hK9 hR9 h69 (m_lt hf (by decide)) (fk_1198 hf) rfl) rfl (Nat.le_of_ble_eq_true rfl) rfl (by decide) (Nat.le_refl 0) (Nat.le_refl 0) dX10_takesOf_19 (fun v9 u9 hq => ?_) (fun k9 u9 hq => by obtain ⟨_, _, e9, _⟩ := hq; cases e9)
  obtain ⟨r3, A4, e9, rfl, h⟩ := hq
  obtain rfl := Sum.inl.inj e9
  show J Γ RX10 cX10_takesOf 3 (some .int) "takesOf" [] 3 0 0 22 [(0, .ref 1198), (1, .int p1), (2, .int p2)] [.int r3] (n, K, A4, Lg, G) P
  refine j_iconst (v := 0) dX10_takesOf_22 (by decide) ?_
  refine j_aload_n 0 rfl dX10_takesOf_23 ?_
  refine j_getfr fl_X10_137_9 rfl (m_lt hf (by decide)) (fk_1198 hf) (fg_1198_57 hf) dX10_takesOf_24 ?_
  refine j_bipush (v := 23) dX10_takesOf_27 (by decide) ?_
  refine j_iload_n 2 rfl dX10_takesOf_29 ?_
  refine j_iadd dX10_takesOf_30 ?_
  obtain ⟨b5, h⟩ := h
  refine j_ialdJ (j := (23 + p2).toNatClampNeg) (m_lt hf (by decide)) (fk_1238 hf) b5 rfl dX10_takesOf_31 ?_
  refine j_callS (As := [.int r3, .int 0, .int (A4 1238 (23 + p2).toNatClampNeg)]) (st := []) (kc' := 0) (ks' := 0) (tX10_within hf r3 0 (A4 1238 (23 + p2).toNatClampNeg) _ h) myX10_within q1960 q1961 rfl (Nat.le_of_ble_eq_true rfl) rfl (by decide) (Nat.le_refl 0) (Nat.le_refl 0) dX10_takesOf_32 (fun v9 u9 hq => ?_) (fun k9 u9 hq => by obtain ⟨_, e9, _⟩ := hq; cases e9)
  obtain ⟨r6, e9, rfl, h⟩ := hq
  obtain rfl := Sum.inl.inj e9
  show J Γ RX10 cX10_takesOf 3 (some .int) "takesOf" [] 3 0 0 35 [(0, .ref 1198), (1, .int p1), (2, .int p2)] [.int r6] (n, K, A4, Lg, G) P
  refine j_iret rfl ?_ dX10_takesOf_35
  rw [hP]
  exact ⟨r6, A4, rfl, rfl, h⟩
theorem myX10_wantsOf : jY yX10_wantsOf cX10_wantsOf 3 (some .int) 2 := ⟨q1931, q139, by decide +kernel, by decide +kernel, by decide⟩
def fX10_wantsOf (A : pA) (p1 : Int32) (p2 : Int32) (Q : Int32 → pA → Prop) : Prop :=
    fX10_looksAtDog A p1 (fun A1 => fX10_looks A1 p1 p2 (fun A2 => fX10_asks A2 0 (A2 1234 1) (fun r3 A4 => Q r3 A4)))
theorem tX10_wantsOf {Γ : jG} {n : Nat} {K : Nat → pKd} {G : pG} {Lg : pL} (hf : mOK n K G) {A : pA} (p1 : Int32) (p2 : Int32) (Q : Int32 → pA → Prop) (h : fX10_wantsOf A p1 p2 Q) : jMet Γ yX10_wantsOf cX10_wantsOf 3 (some .int) [] 3 0 0 [.ref 1198, .int p1, .int p2] (n, K, A, Lg, G) (fun o u => ∃ (r : Int32) (A' : pA), o = .inl (some (.int r)) ∧ u = (n, K, A', Lg, G) ∧ Q r A') := by
  unfold fX10_wantsOf at h
  obtain ⟨P, hP⟩ : ∃ P : jO → pS → Prop, P = (fun o u => ∃ (r : Int32) (A' : pA), o = .inl (some (.int r)) ∧ u = (n, K, A', Lg, G) ∧ Q r A') := ⟨_, rfl⟩
  rw [← hP]
  refine jMet_of rfl rfl rfl (Nat.le_of_ble_eq_true rfl) ?_
  show J Γ RX10 cX10_wantsOf 3 (some .int) "wantsOf" [] 3 0 0 0 [(0, .ref 1198), (1, .int p1), (2, .int p2)] [] (n, K, A, Lg, G) P
  refine j_aload_n 0 rfl dX10_wantsOf_0 ?_
  refine j_iload_n 1 rfl dX10_wantsOf_1 ?_
  refine j_callV (b := 1198) (As := [.int p1]) (st := []) (C := RX10) (kc' := 0) (ks' := 0) (tX10_looksAtDog hf p1 _ h) myX10_looksAtDog rfl q1932 q1934 qs92 (by decide) (fun s9 H9 hK9 hR9 h69 => jIs_in hK9 hR9 h69 (m_lt hf (by decide)) (fk_1198 hf) rfl) rfl (Nat.le_of_ble_eq_true rfl) rfl (by decide) (Nat.le_refl 0) (Nat.le_refl 0) dX10_wantsOf_2 (fun v9 u9 hq => ?_) (fun k9 u9 hq => by obtain ⟨_, e9, _⟩ := hq; cases e9)
  obtain ⟨A1, e9, rfl, h⟩ := hq
  obtain rfl := Sum.inl.inj e9
  show J Γ RX10 cX10_wantsOf 3 (some .int) "wantsOf" [] 3 0 0 5 [(0, .ref 1198), (1, .int p1), (2, .int p2)] [] (n, K, A1, Lg, G) P
  refine j_aload_n 0 rfl dX10_wantsOf_5 ?_
  refine j_iload_n 1 rfl dX10_wantsOf_6 ?_
  refine j_iload_n 2 rfl dX10_wantsOf_7 ?_
  refine j_callV (b := 1198) (As := [.int p1, .int p2]) (st := []) (C := RX10) (kc' := 0) (ks' := 0) (tX10_looks hf p1 p2 _ h) myX10_looks rfl q1940 q1942 qs94 (by decide) (fun s9 H9 hK9 hR9 h69 => jIs_in hK9 hR9 h69 (m_lt hf (by decide)) (fk_1198 hf) rfl) rfl (Nat.le_of_ble_eq_true rfl) rfl (by decide) (Nat.le_refl 0) (Nat.le_refl 0) dX10_wantsOf_8 (fun v9 u9 hq => ?_) (fun k9 u9 hq => by obtain ⟨_, e9, _⟩ := hq; cases e9)
  obtain ⟨A2, e9, rfl, h⟩ := hq
  obtain rfl := Sum.inl.inj e9
  show J Γ RX10 cX10_wantsOf 3 (some .int) "wantsOf" [] 3 0 0 11 [(0, .ref 1198), (1, .int p1), (2, .int p2)] [] (n, K, A2, Lg, G) P
  refine j_aload_n 0 rfl dX10_wantsOf_11 ?_
  refine j_iconst (v := 0) dX10_wantsOf_12 (by decide) ?_
  refine j_aload_n 0 rfl dX10_wantsOf_13 ?_
  refine j_getfr fl_X10_125_9 rfl (m_lt hf (by decide)) (fk_1198 hf) (fg_1198_52 hf) dX10_wantsOf_14 ?_
  refine j_iconst (v := 1) dX10_wantsOf_17 (by decide) ?_
  refine j_ialdJ (j := 1) (m_lt hf (by decide)) (fk_1234 hf) (by unfold vp_in; decide) rfl dX10_wantsOf_18 ?_
  refine j_callV (b := 1198) (As := [.int 0, .int (A2 1234 1)]) (st := []) (C := RX10) (kc' := 0) (ks' := 0) (tX10_asks hf 0 (A2 1234 1) _ h) myX10_asks rfl q1948 q1950 qs96 (by decide) (fun s9 H9 hK9 hR9 h69 => jIs_in hK9 hR9 h69 (m_lt hf (by decide)) (fk_1198 hf) rfl) rfl (Nat.le_of_ble_eq_true rfl) rfl (by decide) (Nat.le_refl 0) (Nat.le_refl 0) dX10_wantsOf_19 (fun v9 u9 hq => ?_) (fun k9 u9 hq => by obtain ⟨_, _, e9, _⟩ := hq; cases e9)
  obtain ⟨r3, A4, e9, rfl, h⟩ := hq
  obtain rfl := Sum.inl.inj e9
  show J Γ RX10 cX10_wantsOf 3 (some .int) "wantsOf" [] 3 0 0 22 [(0, .ref 1198), (1, .int p1), (2, .int p2)] [.int r3] (n, K, A4, Lg, G) P
  refine j_iret rfl ?_ dX10_wantsOf_22
  rw [hP]
  exact ⟨r3, A4, rfl, rfl, h⟩
theorem myX10_mind : jY yX10_mind cX10_mind 4 (some .int) 3 := ⟨q1926, q139, by decide +kernel, by decide +kernel, by decide⟩
def fX10_mind_J16   (Q : Int32 → pA → Prop) (A : pA) : Prop :=
    Q (-100000) A
theorem fX10_mind_J16_ok {Γ : jG} {n : Nat} {K : Nat → pKd} {G : pG} {Lg : pL} (hf : mOK n K G) (Q : Int32 → pA → Prop) (P : jO → pS → Prop) (hP : P = (fun o u => ∃ (r : Int32) (A' : pA), o = .inl (some (.int r)) ∧ u = (n, K, A', Lg, G) ∧ Q r A'))   (A : pA) (h : fX10_mind_J16   Q A) : J Γ RX10 cX10_mind 4 (some .int) "mind" [] 4 0 0 16 [] [] (n, K, A, Lg, G) P := by
  unfold fX10_mind_J16 at h
  refine j_ldcw (v := (-100000)) q1927 dX10_mind_16 ?_
  refine j_iret rfl ?_ dX10_mind_19
  rw [hP]
  exact ⟨(-100000), A, rfl, rfl, h⟩
def fX10_mind (A : pA) (p1 : Int32) (p2 : Int32) (p3 : Int32) (Q : Int32 → pA → Prop) : Prop :=
    fX10_isDog A p1 (fun r1 => (if r1 = 0 then fX10_mind_J16   Q A else fX10_isPerson A p2 (fun r2 => (if r2 = 0 then fX10_mind_J16   Q A else fX10_copies A (fun A3 => (if p3 = 0 then (vp_in ((35 + (4 * p1)) + p2) 77) ∧ (Q (A3 1238 ((35 + (4 * p1)) + p2).toNatClampNeg) A3) else (if p3 = 1 then (vp_in ((55 + (4 * p1)) + p2) 77) ∧ (Q (A3 1238 ((55 + (4 * p1)) + p2).toNatClampNeg) A3) else (if p3 = 2 then fX10_wantsOf A3 p1 p2 (fun r9 A10 => Q r9 A10) else (if p3 = 3 then fX10_takesOf A3 p1 p2 (fun r12 A13 => Q r12 A13) else (if p3 = 4 then fX10_fadesOf A3 p1 p2 (fun r15 A16 => Q r15 A16) else (Q (-100000) A3)))))))))))
theorem tX10_mind {Γ : jG} {n : Nat} {K : Nat → pKd} {G : pG} {Lg : pL} (hf : mOK n K G) {A : pA} (p1 : Int32) (p2 : Int32) (p3 : Int32) (Q : Int32 → pA → Prop) (h : fX10_mind A p1 p2 p3 Q) : jMet Γ yX10_mind cX10_mind 4 (some .int) [] 4 0 0 [.ref 1198, .int p1, .int p2, .int p3] (n, K, A, Lg, G) (fun o u => ∃ (r : Int32) (A' : pA), o = .inl (some (.int r)) ∧ u = (n, K, A', Lg, G) ∧ Q r A') := by
  unfold fX10_mind at h
  obtain ⟨P, hP⟩ : ∃ P : jO → pS → Prop, P = (fun o u => ∃ (r : Int32) (A' : pA), o = .inl (some (.int r)) ∧ u = (n, K, A', Lg, G) ∧ Q r A') := ⟨_, rfl⟩
  rw [← hP]
  refine jMet_of rfl rfl rfl (Nat.le_of_ble_eq_true rfl) ?_
  show J Γ RX10 cX10_mind 4 (some .int) "mind" [] 4 0 0 0 [(0, .ref 1198), (1, .int p1), (2, .int p2), (3, .int p3)] [] (n, K, A, Lg, G) P
  refine j_aload_n 0 rfl dX10_mind_0 ?_
  refine j_iload_n 1 rfl dX10_mind_1 ?_
  refine j_callV (b := 1198) (As := [.int p1]) (st := []) (C := RX10) (kc' := 0) (ks' := 0) (tX10_isDog hf p1 _ h) myX10_isDog rfl q1911 q1913 qs89 (by decide) (fun s9 H9 hK9 hR9 h69 => jIs_in hK9 hR9 h69 (m_lt hf (by decide)) (fk_1198 hf) rfl) rfl (Nat.le_of_ble_eq_true rfl) rfl (by decide) (Nat.le_refl 0) (Nat.le_refl 0) dX10_mind_2 (fun v9 u9 hq => ?_) (fun k9 u9 hq => by obtain ⟨_, e9, _⟩ := hq; cases e9)
  obtain ⟨r1, e9, rfl, h⟩ := hq
  obtain rfl := Sum.inl.inj e9
  show J Γ RX10 cX10_mind 4 (some .int) "mind" [] 4 0 0 5 [(0, .ref 1198), (1, .int p1), (2, .int p2), (3, .int p3)] [.int r1] (n, K, A, Lg, G) P
  refine j_if_eq (tgt := 16) dX10_mind_5 (by decide) (fun c => ?_) (fun c => ?_)
  · rw [if_pos c] at h
    refine j_ls [] rfl ?_
    exact fX10_mind_J16_ok hf Q P hP   A h
  · rw [if_neg c] at h
    refine j_aload_n 0 rfl dX10_mind_8 ?_
    refine j_iload_n 2 rfl dX10_mind_9 ?_
    refine j_callV (b := 1198) (As := [.int p2]) (st := []) (C := RX10) (kc' := 0) (ks' := 0) (tX10_isPerson hf p2 _ h) myX10_isPerson rfl q1919 q1921 qs90 (by decide) (fun s9 H9 hK9 hR9 h69 => jIs_in hK9 hR9 h69 (m_lt hf (by decide)) (fk_1198 hf) rfl) rfl (Nat.le_of_ble_eq_true rfl) rfl (by decide) (Nat.le_refl 0) (Nat.le_refl 0) dX10_mind_10 (fun v9 u9 hq => ?_) (fun k9 u9 hq => by obtain ⟨_, e9, _⟩ := hq; cases e9)
    obtain ⟨r2, e9, rfl, h⟩ := hq
    obtain rfl := Sum.inl.inj e9
    show J Γ RX10 cX10_mind 4 (some .int) "mind" [] 4 0 0 13 [(0, .ref 1198), (1, .int p1), (2, .int p2), (3, .int p3)] [.int r2] (n, K, A, Lg, G) P
    refine j_if_ne (tgt := 20) dX10_mind_13 (by decide) (fun c => ?_) (fun c => ?_)
    · rw [if_neg c] at h
      refine j_aload_n 0 rfl dX10_mind_20 ?_
      refine j_callV (b := 1198) (As := []) (st := []) (C := RX10) (kc' := 0) (ks' := 0) (tX10_copies hf  _ h) myX10_copies rfl q1895 q1897 qs86 (by decide) (fun s9 H9 hK9 hR9 h69 => jIs_in hK9 hR9 h69 (m_lt hf (by decide)) (fk_1198 hf) rfl) rfl (Nat.le_of_ble_eq_true rfl) rfl (by decide) (Nat.le_refl 0) (Nat.le_refl 0) dX10_mind_21 (fun v9 u9 hq => ?_) (fun k9 u9 hq => by obtain ⟨_, e9, _⟩ := hq; cases e9)
      obtain ⟨A3, e9, rfl, h⟩ := hq
      obtain rfl := Sum.inl.inj e9
      show J Γ RX10 cX10_mind 4 (some .int) "mind" [] 4 0 0 24 [(0, .ref 1198), (1, .int p1), (2, .int p2), (3, .int p3)] [] (n, K, A3, Lg, G) P
      refine j_iload_n 3 rfl dX10_mind_24 ?_
      by_cases c4 : p3 = 0
      · rw [if_pos c4] at h
        have c4T : (p3 : Int32).toInt = 0 := by rw [c4]; rfl
        refine j_tableIn (off := 35) (tgt := 60) (by rw [c4T]; decide) (by rw [c4T]; decide) (by rw [c4T]; rfl) dX10_mind_25 (by decide) ?_
        refine j_aload_n 0 rfl dX10_mind_60 ?_
        refine j_getfr fl_X10_137_9 rfl (m_lt hf (by decide)) (fk_1198 hf) (fg_1198_57 hf) dX10_mind_61 ?_
        refine j_bipush (v := 35) dX10_mind_64 (by decide) ?_
        refine j_iconst (v := 4) dX10_mind_66 (by decide) ?_
        refine j_iload_n 1 rfl dX10_mind_67 ?_
        refine j_imul dX10_mind_68 ?_
        refine j_iadd dX10_mind_69 ?_
        refine j_iload_n 2 rfl dX10_mind_70 ?_
        refine j_iadd dX10_mind_71 ?_
        obtain ⟨b5, h⟩ := h
        refine j_ialdJ (j := ((35 + (4 * p1)) + p2).toNatClampNeg) (m_lt hf (by decide)) (fk_1238 hf) b5 rfl dX10_mind_72 ?_
        refine j_iret rfl ?_ dX10_mind_73
        rw [hP]
        exact ⟨A3 1238 ((35 + (4 * p1)) + p2).toNatClampNeg, A3, rfl, rfl, h⟩
      rw [if_neg c4] at h
      by_cases c6 : p3 = 1
      · rw [if_pos c6] at h
        have c6T : (p3 : Int32).toInt = 1 := by rw [c6]; rfl
        refine j_tableIn (off := 49) (tgt := 74) (by rw [c6T]; decide) (by rw [c6T]; decide) (by rw [c6T]; rfl) dX10_mind_25 (by decide) ?_
        refine j_aload_n 0 rfl dX10_mind_74 ?_
        refine j_getfr fl_X10_137_9 rfl (m_lt hf (by decide)) (fk_1198 hf) (fg_1198_57 hf) dX10_mind_75 ?_
        refine j_bipush (v := 55) dX10_mind_78 (by decide) ?_
        refine j_iconst (v := 4) dX10_mind_80 (by decide) ?_
        refine j_iload_n 1 rfl dX10_mind_81 ?_
        refine j_imul dX10_mind_82 ?_
        refine j_iadd dX10_mind_83 ?_
        refine j_iload_n 2 rfl dX10_mind_84 ?_
        refine j_iadd dX10_mind_85 ?_
        obtain ⟨b7, h⟩ := h
        refine j_ialdJ (j := ((55 + (4 * p1)) + p2).toNatClampNeg) (m_lt hf (by decide)) (fk_1238 hf) b7 rfl dX10_mind_86 ?_
        refine j_iret rfl ?_ dX10_mind_87
        rw [hP]
        exact ⟨A3 1238 ((55 + (4 * p1)) + p2).toNatClampNeg, A3, rfl, rfl, h⟩
      rw [if_neg c6] at h
      by_cases c8 : p3 = 2
      · rw [if_pos c8] at h
        have c8T : (p3 : Int32).toInt = 2 := by rw [c8]; rfl
        refine j_tableIn (off := 63) (tgt := 88) (by rw [c8T]; decide) (by rw [c8T]; decide) (by rw [c8T]; rfl) dX10_mind_25 (by decide) ?_
        refine j_aload_n 0 rfl dX10_mind_88 ?_
        refine j_iload_n 1 rfl dX10_mind_89 ?_
        refine j_iload_n 2 rfl dX10_mind_90 ?_
        refine j_callV (b := 1198) (As := [.int p1, .int p2]) (st := []) (C := RX10) (kc' := 0) (ks' := 0) (tX10_wantsOf hf p1 p2 _ h) myX10_wantsOf rfl q1928 q1930 qs91 (by decide) (fun s9 H9 hK9 hR9 h69 => jIs_in hK9 hR9 h69 (m_lt hf (by decide)) (fk_1198 hf) rfl) rfl (Nat.le_of_ble_eq_true rfl) rfl (by decide) (Nat.le_refl 0) (Nat.le_refl 0) dX10_mind_91 (fun v9 u9 hq => ?_) (fun k9 u9 hq => by obtain ⟨_, _, e9, _⟩ := hq; cases e9)
        obtain ⟨r9, A10, e9, rfl, h⟩ := hq
        obtain rfl := Sum.inl.inj e9
        show J Γ RX10 cX10_mind 4 (some .int) "mind" [] 4 0 0 94 [(0, .ref 1198), (1, .int p1), (2, .int p2), (3, .int p3)] [.int r9] (n, K, A10, Lg, G) P
        refine j_iret rfl ?_ dX10_mind_94
        rw [hP]
        exact ⟨r9, A10, rfl, rfl, h⟩
      rw [if_neg c8] at h
      by_cases c11 : p3 = 3
      · rw [if_pos c11] at h
        have c11T : (p3 : Int32).toInt = 3 := by rw [c11]; rfl
        refine j_tableIn (off := 70) (tgt := 95) (by rw [c11T]; decide) (by rw [c11T]; decide) (by rw [c11T]; rfl) dX10_mind_25 (by decide) ?_
        refine j_aload_n 0 rfl dX10_mind_95 ?_
        refine j_iload_n 1 rfl dX10_mind_96 ?_
        refine j_iload_n 2 rfl dX10_mind_97 ?_
        refine j_callV (b := 1198) (As := [.int p1, .int p2]) (st := []) (C := RX10) (kc' := 0) (ks' := 0) (tX10_takesOf hf p1 p2 _ h) myX10_takesOf rfl q1956 q1958 qs98 (by decide) (fun s9 H9 hK9 hR9 h69 => jIs_in hK9 hR9 h69 (m_lt hf (by decide)) (fk_1198 hf) rfl) rfl (Nat.le_of_ble_eq_true rfl) rfl (by decide) (Nat.le_refl 0) (Nat.le_refl 0) dX10_mind_98 (fun v9 u9 hq => ?_) (fun k9 u9 hq => by obtain ⟨_, _, e9, _⟩ := hq; cases e9)
        obtain ⟨r12, A13, e9, rfl, h⟩ := hq
        obtain rfl := Sum.inl.inj e9
        show J Γ RX10 cX10_mind 4 (some .int) "mind" [] 4 0 0 101 [(0, .ref 1198), (1, .int p1), (2, .int p2), (3, .int p3)] [.int r12] (n, K, A13, Lg, G) P
        refine j_iret rfl ?_ dX10_mind_101
        rw [hP]
        exact ⟨r12, A13, rfl, rfl, h⟩
      rw [if_neg c11] at h
      by_cases c14 : p3 = 4
      · rw [if_pos c14] at h
        have c14T : (p3 : Int32).toInt = 4 := by rw [c14]; rfl
        refine j_tableIn (off := 77) (tgt := 102) (by rw [c14T]; decide) (by rw [c14T]; decide) (by rw [c14T]; rfl) dX10_mind_25 (by decide) ?_
        refine j_aload_n 0 rfl dX10_mind_102 ?_
        refine j_iload_n 1 rfl dX10_mind_103 ?_
        refine j_iload_n 2 rfl dX10_mind_104 ?_
        refine j_callV (b := 1198) (As := [.int p1, .int p2]) (st := []) (C := RX10) (kc' := 0) (ks' := 0) (tX10_fadesOf hf p1 p2 _ h) myX10_fadesOf rfl q1963 q1965 qs99 (by decide) (fun s9 H9 hK9 hR9 h69 => jIs_in hK9 hR9 h69 (m_lt hf (by decide)) (fk_1198 hf) rfl) rfl (Nat.le_of_ble_eq_true rfl) rfl (by decide) (Nat.le_refl 0) (Nat.le_refl 0) dX10_mind_105 (fun v9 u9 hq => ?_) (fun k9 u9 hq => by obtain ⟨_, _, e9, _⟩ := hq; cases e9)
        obtain ⟨r15, A16, e9, rfl, h⟩ := hq
        obtain rfl := Sum.inl.inj e9
        show J Γ RX10 cX10_mind 4 (some .int) "mind" [] 4 0 0 108 [(0, .ref 1198), (1, .int p1), (2, .int p2), (3, .int p3)] [.int r15] (n, K, A16, Lg, G) P
        refine j_iret rfl ?_ dX10_mind_108
        rw [hP]
        exact ⟨r15, A16, rfl, rfl, h⟩
      rw [if_neg c14] at h
      refine j_tableOut (tgt := 109) (by have c4T := lv_neT c4 (a := 0) rfl; have c6T := lv_neT c6 (a := 1) rfl; have c8T := lv_neT c8 (a := 2) rfl; have c11T := lv_neT c11 (a := 3) rfl; have c14T := lv_neT c14 (a := 4) rfl; omega) dX10_mind_25 (by decide) ?_
      refine j_ldcw (v := (-100000)) q1927 dX10_mind_109 ?_
      refine j_iret rfl ?_ dX10_mind_112
      rw [hP]
      exact ⟨(-100000), A3, rfl, rfl, h⟩
    · rw [if_pos c] at h
      refine j_ls [] rfl ?_
      exact fX10_mind_J16_ok hf Q P hP   A h
theorem myX10_records : jY yX10_records cX10_records 2 none 0 := ⟨q1974, q139, by decide +kernel, by decide +kernel, by decide⟩
def fX10_records_L51   (Q : pA → Prop) : Nat → Int32 → pA → Prop
  | 0, _, _ => False
  | n9 + 1, l1, A =>
    (if 77 ≤ l1 then ∀ A1 : pA, A1 = pup A 1198 58 ((A 1198 58) + 1) → fX10_keepsRow A1 (fun A2 => Q A2) else (vp_in l1 77) ∧ ((vp_in ((77 * (A 1198 58)) + l1) 3080) ∧ (∀ A5 : pA, A5 = pup A 1239 ((77 * (A 1198 58)) + l1).toNatClampNeg (A 1237 (l1).toNatClampNeg) → fX10_records_L51   Q n9 (l1 + 1) A5)))
theorem fX10_records_L51_ok {Γ : jG} {n : Nat} {K : Nat → pKd} {G : pG} {Lg : pL} (hf : mOK n K G) (Q : pA → Prop) (P : jO → pS → Prop) (hP : P = (fun o u => ∃ (A' : pA), o = .inl none ∧ u = (n, K, A', Lg, G) ∧ Q A'))    : ∀ (n9 : Nat) (l1 : Int32) (A : pA), fX10_records_L51   Q n9 l1 A → J Γ RX10 cX10_records 2 none "records" [] 2 0 0 51 [(0, .ref 1198), (1, .int l1)] [] (n, K, A, Lg, G) P := by
  intro n9
  induction n9 with
  | zero => intro l1 A h; exact h.elim
  | succ n9 ih =>
    intro l1 A h
    unfold fX10_records_L51 at h
    refine j_iload_n 1 rfl dX10_records_51 ?_
    refine j_bipush (v := 77) dX10_records_52 (by decide) ?_
    refine j_icmp_ge (tgt := 83) dX10_records_54 (by decide) (fun c => ?_) (fun c => ?_)
    · rw [if_pos c] at h
      refine j_aload_n 0 rfl dX10_records_83 ?_
      refine j_dup rfl dX10_records_84 ?_
      refine j_getfi fl_X10_263_9 rfl (m_lt hf (by decide)) (fk_1198 hf) dX10_records_85 ?_
      refine j_iconst (v := 1) dX10_records_88 (by decide) ?_
      refine j_iadd dX10_records_89 ?_
      refine j_putfiE (fp_X10_263_9 _) rfl rfl rfl (m_lt hf (by decide)) (fk_1198 hf) dX10_records_90 (fun A1 eA1 => ?_)
      replace h := h A1 eA1
      refine j_aload_n 0 rfl dX10_records_93 ?_
      refine j_callV (b := 1198) (As := []) (st := []) (C := RX10) (kc' := 0) (ks' := 0) (tX10_keepsRow hf  _ h) myX10_keepsRow rfl q1544 q1546 qs56 (by decide) (fun s9 H9 hK9 hR9 h69 => jIs_in hK9 hR9 h69 (m_lt hf (by decide)) (fk_1198 hf) rfl) rfl (Nat.le_of_ble_eq_true rfl) rfl (by decide) (Nat.le_refl 0) (Nat.le_refl 0) dX10_records_94 (fun v9 u9 hq => ?_) (fun k9 u9 hq => by obtain ⟨_, e9, _⟩ := hq; cases e9)
      obtain ⟨A2, e9, rfl, h⟩ := hq
      obtain rfl := Sum.inl.inj e9
      show J Γ RX10 cX10_records 2 none "records" [] 2 0 0 97 [(0, .ref 1198), (1, .int l1)] [] (n, K, A2, Lg, G) P
      refine j_vret rfl ?_ dX10_records_97
      rw [hP]
      exact ⟨A2, rfl, rfl, h⟩
    · rw [if_neg c] at h
      refine j_aload_n 0 rfl dX10_records_57 ?_
      refine j_getfr fl_X10_140_9 rfl (m_lt hf (by decide)) (fk_1198 hf) (fg_1198_59 hf) dX10_records_58 ?_
      refine j_bipush (v := 77) dX10_records_61 (by decide) ?_
      refine j_aload_n 0 rfl dX10_records_63 ?_
      refine j_getfi fl_X10_263_9 rfl (m_lt hf (by decide)) (fk_1198 hf) dX10_records_64 ?_
      refine j_imul dX10_records_67 ?_
      refine j_iload_n 1 rfl dX10_records_68 ?_
      refine j_iadd dX10_records_69 ?_
      refine j_aload_n 0 rfl dX10_records_70 ?_
      refine j_getfr fl_X10_134_9 rfl (m_lt hf (by decide)) (fk_1198 hf) (fg_1198_56 hf) dX10_records_71 ?_
      refine j_iload_n 1 rfl dX10_records_74 ?_
      obtain ⟨b3, h⟩ := h
      refine j_ialdJ (j := (l1).toNatClampNeg) (m_lt hf (by decide)) (fk_1237 hf) b3 rfl dX10_records_75 ?_
      obtain ⟨b4, h⟩ := h
      refine j_iastJ (j := ((77 * (A 1198 58)) + l1).toNatClampNeg) (m_lt hf (by decide)) (fk_1239 hf) b4 rfl dX10_records_76 (fun A5 eA5 => ?_)
      replace h := h A5 eA5
      refine j_iinc (v := l1 + 1) 1 rfl rfl (by decide) rfl dX10_records_77 ?_
      refine j_goto (tgt := 51) dX10_records_80 (by decide) ?_
      refine j_ls [1, 0] rfl ?_
      exact ih (l1 + 1) A5 h
def fX10_records_J49   (Q : pA → Prop) (A : pA) : Prop :=
    ∃ m6, fX10_records_L51   Q m6 0 A
theorem fX10_records_J49_ok {Γ : jG} {n : Nat} {K : Nat → pKd} {G : pG} {Lg : pL} (hf : mOK n K G) (Q : pA → Prop) (P : jO → pS → Prop) (hP : P = (fun o u => ∃ (A' : pA), o = .inl none ∧ u = (n, K, A', Lg, G) ∧ Q A'))   (A : pA) (h : fX10_records_J49   Q A) : J Γ RX10 cX10_records 2 none "records" [] 2 0 0 49 [(0, .ref 1198)] [] (n, K, A, Lg, G) P := by
  unfold fX10_records_J49 at h
  refine j_iconst (v := 0) dX10_records_49 (by decide) ?_
  refine j_istore_n (by decide) rfl dX10_records_50 ?_
  refine j_ls [1, 0] rfl ?_
  obtain ⟨m6, h⟩ := h
  exact fX10_records_L51_ok hf Q P hP   m6 0 A h
def fX10_records_L11   (Q : pA → Prop) : Nat → Int32 → pA → Prop
  | 0, _, _ => False
  | n9 + 1, l1, A =>
    (if 3003 ≤ l1 then ∀ A7 : pA, A7 = pup A 1198 58 ((A 1198 58) - 1) → fX10_records_J49   Q A7 else (vp_in (l1 + 77) 3080) ∧ ((vp_in l1 3080) ∧ (∀ A10 : pA, A10 = pup A 1239 (l1).toNatClampNeg (A 1239 (l1 + 77).toNatClampNeg) → fX10_records_L11   Q n9 (l1 + 1) A10)))
theorem fX10_records_L11_ok {Γ : jG} {n : Nat} {K : Nat → pKd} {G : pG} {Lg : pL} (hf : mOK n K G) (Q : pA → Prop) (P : jO → pS → Prop) (hP : P = (fun o u => ∃ (A' : pA), o = .inl none ∧ u = (n, K, A', Lg, G) ∧ Q A'))    : ∀ (n9 : Nat) (l1 : Int32) (A : pA), fX10_records_L11   Q n9 l1 A → J Γ RX10 cX10_records 2 none "records" [] 2 0 0 11 [(0, .ref 1198), (1, .int l1)] [] (n, K, A, Lg, G) P := by
  intro n9
  induction n9 with
  | zero => intro l1 A h; exact h.elim
  | succ n9 ih =>
    intro l1 A h
    unfold fX10_records_L11 at h
    refine j_iload_n 1 rfl dX10_records_11 ?_
    refine j_sipush (v := 3003) dX10_records_12 (by decide) ?_
    refine j_icmp_ge (tgt := 39) dX10_records_15 (by decide) (fun c => ?_) (fun c => ?_)
    · rw [if_pos c] at h
      refine j_aload_n 0 rfl dX10_records_39 ?_
      refine j_dup rfl dX10_records_40 ?_
      refine j_getfi fl_X10_263_9 rfl (m_lt hf (by decide)) (fk_1198 hf) dX10_records_41 ?_
      refine j_iconst (v := 1) dX10_records_44 (by decide) ?_
      refine j_isub dX10_records_45 ?_
      refine j_putfiE (fp_X10_263_9 _) rfl rfl rfl (m_lt hf (by decide)) (fk_1198 hf) dX10_records_46 (fun A7 eA7 => ?_)
      replace h := h A7 eA7
      refine j_ls [0] rfl ?_
      exact fX10_records_J49_ok hf Q P hP   A7 h
    · rw [if_neg c] at h
      refine j_aload_n 0 rfl dX10_records_18 ?_
      refine j_getfr fl_X10_140_9 rfl (m_lt hf (by decide)) (fk_1198 hf) (fg_1198_59 hf) dX10_records_19 ?_
      refine j_iload_n 1 rfl dX10_records_22 ?_
      refine j_aload_n 0 rfl dX10_records_23 ?_
      refine j_getfr fl_X10_140_9 rfl (m_lt hf (by decide)) (fk_1198 hf) (fg_1198_59 hf) dX10_records_24 ?_
      refine j_iload_n 1 rfl dX10_records_27 ?_
      refine j_bipush (v := 77) dX10_records_28 (by decide) ?_
      refine j_iadd dX10_records_30 ?_
      obtain ⟨b8, h⟩ := h
      refine j_ialdJ (j := (l1 + 77).toNatClampNeg) (m_lt hf (by decide)) (fk_1239 hf) b8 rfl dX10_records_31 ?_
      obtain ⟨b9, h⟩ := h
      refine j_iastJ (j := (l1).toNatClampNeg) (m_lt hf (by decide)) (fk_1239 hf) b9 rfl dX10_records_32 (fun A10 eA10 => ?_)
      replace h := h A10 eA10
      refine j_iinc (v := l1 + 1) 1 rfl rfl (by decide) rfl dX10_records_33 ?_
      refine j_goto (tgt := 11) dX10_records_36 (by decide) ?_
      refine j_ls [1, 0] rfl ?_
      exact ih (l1 + 1) A10 h
def fX10_records (A : pA) (Q : pA → Prop) : Prop :=
    (if (A 1198 58) = 40 then ∃ m11, fX10_records_L11   Q m11 0 A else fX10_records_J49   Q A)
theorem tX10_records {Γ : jG} {n : Nat} {K : Nat → pKd} {G : pG} {Lg : pL} (hf : mOK n K G) {A : pA}  (Q : pA → Prop) (h : fX10_records A Q) : jMet Γ yX10_records cX10_records 2 none [] 2 0 0 [.ref 1198] (n, K, A, Lg, G) (fun o u => ∃ (A' : pA), o = .inl none ∧ u = (n, K, A', Lg, G) ∧ Q A') := by
  unfold fX10_records at h
  obtain ⟨P, hP⟩ : ∃ P : jO → pS → Prop, P = (fun o u => ∃ (A' : pA), o = .inl none ∧ u = (n, K, A', Lg, G) ∧ Q A') := ⟨_, rfl⟩
  rw [← hP]
  refine jMet_of rfl rfl rfl (Nat.le_of_ble_eq_true rfl) ?_
  show J Γ RX10 cX10_records 2 none "records" [] 2 0 0 0 [(0, .ref 1198)] [] (n, K, A, Lg, G) P
  refine j_aload_n 0 rfl dX10_records_0 ?_
  refine j_getfi fl_X10_263_9 rfl (m_lt hf (by decide)) (fk_1198 hf) dX10_records_1 ?_
  refine j_bipush (v := 40) dX10_records_4 (by decide) ?_
  refine j_icmp_ne (tgt := 49) dX10_records_6 (by decide) (fun c => ?_) (fun c => ?_)
  · rw [if_neg c] at h
    exact fX10_records_J49_ok hf Q P hP   A h
  · rw [if_pos c] at h
    refine j_iconst (v := 0) dX10_records_9 (by decide) ?_
    refine j_istore_n (by decide) rfl dX10_records_10 ?_
    refine j_ls [1, 0] rfl ?_
    obtain ⟨m11, h⟩ := h
    exact fX10_records_L11_ok hf Q P hP   m11 0 A h
theorem myX10_go : jY yX10_go cX10_go 4 (some .boolean) 2 := ⟨q1970, q139, by decide +kernel, by decide +kernel, by decide⟩
def fX10_go_J47   (Q : Int32 → pA → Prop) (l1 : Int32) (s0 : Int32) (A : pA) : Prop :=
    (vp_in (19 + l1) 77) ∧ ((if (A 1237 (19 + l1).toNatClampNeg) = s0 then Q 0 A else fX10_copies A (fun A2 => (vp_in (19 + l1) 77) ∧ (∀ A4 : pA, A4 = pup A2 1238 (19 + l1).toNatClampNeg s0 → fX10_records A4 (fun A5 => Q 1 A5)))))
theorem fX10_go_J47_ok {Γ : jG} {n : Nat} {K : Nat → pKd} {G : pG} {Lg : pL} (hf : mOK n K G) (Q : Int32 → pA → Prop) (P : jO → pS → Prop) (hP : P = (fun o u => ∃ (r : Int32) (A' : pA), o = .inl (some (.int r)) ∧ u = (n, K, A', Lg, G) ∧ Q r A'))   (l1 : Int32) (s0 : Int32) (A : pA) (h : fX10_go_J47   Q l1 s0 A) : J Γ RX10 cX10_go 4 (some .boolean) "go" [] 3 0 0 47 [(0, .ref 1198), (1, .int l1)] [.int s0] (n, K, A, Lg, G) P := by
  unfold fX10_go_J47 at h
  refine j_istore_n (by decide) rfl dX10_go_47 ?_
  refine j_aload_n 1 rfl dX10_go_48 ?_
  refine j_getfr fl_X10_134_9 rfl (m_lt hf (by decide)) (fk_1198 hf) (fg_1198_56 hf) dX10_go_49 ?_
  refine j_bipush (v := 19) dX10_go_52 (by decide) ?_
  refine j_iload_n 2 rfl dX10_go_54 ?_
  refine j_iadd dX10_go_55 ?_
  obtain ⟨b1, h⟩ := h
  refine j_ialdJ (j := (19 + l1).toNatClampNeg) (m_lt hf (by decide)) (fk_1237 hf) b1 rfl dX10_go_56 ?_
  refine j_iload_n 0 rfl dX10_go_57 ?_
  refine j_icmp_ne (tgt := 63) dX10_go_58 (by decide) (fun c => ?_) (fun c => ?_)
  · rw [if_neg c] at h
    refine j_aload_n 1 rfl dX10_go_63 ?_
    refine j_callV (b := 1198) (As := []) (st := []) (C := RX10) (kc' := 0) (ks' := 0) (tX10_copies hf  _ h) myX10_copies rfl q1895 q1897 qs86 (by decide) (fun s9 H9 hK9 hR9 h69 => jIs_in hK9 hR9 h69 (m_lt hf (by decide)) (fk_1198 hf) rfl) rfl (Nat.le_of_ble_eq_true rfl) rfl (by decide) (Nat.le_refl 0) (Nat.le_refl 0) dX10_go_64 (fun v9 u9 hq => ?_) (fun k9 u9 hq => by obtain ⟨_, e9, _⟩ := hq; cases e9)
    obtain ⟨A2, e9, rfl, h⟩ := hq
    obtain rfl := Sum.inl.inj e9
    show J Γ RX10 cX10_go 4 (some .boolean) "go" [] 3 0 0 67 [(3, .int s0), (0, .ref 1198), (1, .int l1)] [] (n, K, A2, Lg, G) P
    refine j_aload_n 1 rfl dX10_go_67 ?_
    refine j_getfr fl_X10_137_9 rfl (m_lt hf (by decide)) (fk_1198 hf) (fg_1198_57 hf) dX10_go_68 ?_
    refine j_bipush (v := 19) dX10_go_71 (by decide) ?_
    refine j_iload_n 2 rfl dX10_go_73 ?_
    refine j_iadd dX10_go_74 ?_
    refine j_iload_n 0 rfl dX10_go_75 ?_
    obtain ⟨b3, h⟩ := h
    refine j_iastJ (j := (19 + l1).toNatClampNeg) (m_lt hf (by decide)) (fk_1238 hf) b3 rfl dX10_go_76 (fun A4 eA4 => ?_)
    replace h := h A4 eA4
    refine j_aload_n 1 rfl dX10_go_77 ?_
    refine j_callV (b := 1198) (As := []) (st := []) (C := RX10) (kc' := 0) (ks' := 0) (tX10_records hf  _ h) myX10_records rfl q1971 q1973 qs100 (by decide) (fun s9 H9 hK9 hR9 h69 => jIs_in hK9 hR9 h69 (m_lt hf (by decide)) (fk_1198 hf) rfl) rfl (Nat.le_of_ble_eq_true rfl) rfl (by decide) (Nat.le_refl 0) (Nat.le_refl 0) dX10_go_78 (fun v9 u9 hq => ?_) (fun k9 u9 hq => by obtain ⟨_, e9, _⟩ := hq; cases e9)
    obtain ⟨A5, e9, rfl, h⟩ := hq
    obtain rfl := Sum.inl.inj e9
    show J Γ RX10 cX10_go 4 (some .boolean) "go" [] 3 0 0 81 [(3, .int s0), (0, .ref 1198), (1, .int l1)] [] (n, K, A5, Lg, G) P
    refine j_iconst (v := 1) dX10_go_81 (by decide) ?_
    refine j_zret rfl (by decide) ?_ dX10_go_82
    rw [hP]
    exact ⟨1, A5, rfl, rfl, h⟩
  · rw [if_pos c] at h
    refine j_iconst (v := 0) dX10_go_61 (by decide) ?_
    refine j_zret rfl (by decide) ?_ dX10_go_62
    rw [hP]
    exact ⟨0, A, rfl, rfl, h⟩
def fX10_go_J21   (Q : Int32 → pA → Prop) (l1 : Int32) (l2 : Int32) (A : pA) : Prop :=
    (vp_in (27 + l1) 77) ∧ ((if (A 1237 (27 + l1).toNatClampNeg) = 1 then Q 0 A else (if l2 = (-1) then fX10_go_J47   Q l1 (-2) A else fX10_go_J47   Q l1 l2 A)))
theorem fX10_go_J21_ok {Γ : jG} {n : Nat} {K : Nat → pKd} {G : pG} {Lg : pL} (hf : mOK n K G) (Q : Int32 → pA → Prop) (P : jO → pS → Prop) (hP : P = (fun o u => ∃ (r : Int32) (A' : pA), o = .inl (some (.int r)) ∧ u = (n, K, A', Lg, G) ∧ Q r A'))   (l1 : Int32) (l2 : Int32) (A : pA) (h : fX10_go_J21   Q l1 l2 A) : J Γ RX10 cX10_go 4 (some .boolean) "go" [] 3 0 0 21 [(0, .ref 1198), (1, .int l1), (2, .int l2)] [] (n, K, A, Lg, G) P := by
  unfold fX10_go_J21 at h
  refine j_aload_n 0 rfl dX10_go_21 ?_
  refine j_getfr fl_X10_134_9 rfl (m_lt hf (by decide)) (fk_1198 hf) (fg_1198_56 hf) dX10_go_22 ?_
  refine j_bipush (v := 27) dX10_go_25 (by decide) ?_
  refine j_iload_n 1 rfl dX10_go_27 ?_
  refine j_iadd dX10_go_28 ?_
  obtain ⟨b6, h⟩ := h
  refine j_ialdJ (j := (27 + l1).toNatClampNeg) (m_lt hf (by decide)) (fk_1237 hf) b6 rfl dX10_go_29 ?_
  refine j_iconst (v := 1) dX10_go_30 (by decide) ?_
  refine j_icmp_ne (tgt := 36) dX10_go_31 (by decide) (fun c => ?_) (fun c => ?_)
  · rw [if_neg c] at h
    refine j_iload_n 2 rfl dX10_go_36 ?_
    refine j_iconst (v := (-1)) dX10_go_37 (by decide) ?_
    refine j_icmp_ne (tgt := 46) dX10_go_38 (by decide) (fun c => ?_) (fun c => ?_)
    · rw [if_neg c] at h
      refine j_iload_n 2 rfl dX10_go_46 ?_
      refine j_ls [0, 1] rfl ?_
      exact fX10_go_J47_ok hf Q P hP   l1 l2 A h
    · rw [if_pos c] at h
      refine j_bipush (v := (-2)) dX10_go_41 (by decide) ?_
      refine j_goto (tgt := 47) dX10_go_43 (by decide) ?_
      refine j_ls [0, 1] rfl ?_
      exact fX10_go_J47_ok hf Q P hP   l1 (-2) A h
  · rw [if_pos c] at h
    refine j_iconst (v := 0) dX10_go_34 (by decide) ?_
    refine j_zret rfl (by decide) ?_ dX10_go_35
    rw [hP]
    exact ⟨0, A, rfl, rfl, h⟩
def fX10_go (A : pA) (p1 : Int32) (p2 : Int32) (Q : Int32 → pA → Prop) : Prop :=
    fX10_isPerson A p1 (fun r7 => (if r7 = 0 then Q 0 A else (if p2 = (-1) then fX10_go_J21   Q p1 p2 A else fX10_isPlace A p2 (fun r8 => (if r8 = 0 then Q 0 A else fX10_go_J21   Q p1 p2 A)))))
theorem tX10_go {Γ : jG} {n : Nat} {K : Nat → pKd} {G : pG} {Lg : pL} (hf : mOK n K G) {A : pA} (p1 : Int32) (p2 : Int32) (Q : Int32 → pA → Prop) (h : fX10_go A p1 p2 Q) : jMet Γ yX10_go cX10_go 4 (some .boolean) [] 3 0 0 [.ref 1198, .int p1, .int p2] (n, K, A, Lg, G) (fun o u => ∃ (r : Int32) (A' : pA), o = .inl (some (.int r)) ∧ u = (n, K, A', Lg, G) ∧ Q r A') := by
  unfold fX10_go at h
  obtain ⟨P, hP⟩ : ∃ P : jO → pS → Prop, P = (fun o u => ∃ (r : Int32) (A' : pA), o = .inl (some (.int r)) ∧ u = (n, K, A', Lg, G) ∧ Q r A') := ⟨_, rfl⟩
  rw [← hP]
  refine jMet_of rfl rfl rfl (Nat.le_of_ble_eq_true rfl) ?_
  show J Γ RX10 cX10_go 4 (some .boolean) "go" [] 3 0 0 0 [(0, .ref 1198), (1, .int p1), (2, .int p2)] [] (n, K, A, Lg, G) P
  refine j_aload_n 0 rfl dX10_go_0 ?_
  refine j_iload_n 1 rfl dX10_go_1 ?_
  refine j_callV (b := 1198) (As := [.int p1]) (st := []) (C := RX10) (kc' := 0) (ks' := 0) (tX10_isPerson hf p1 _ h) myX10_isPerson rfl q1919 q1921 qs90 (by decide) (fun s9 H9 hK9 hR9 h69 => jIs_in hK9 hR9 h69 (m_lt hf (by decide)) (fk_1198 hf) rfl) rfl (Nat.le_of_ble_eq_true rfl) rfl (by decide) (Nat.le_refl 0) (Nat.le_refl 0) dX10_go_2 (fun v9 u9 hq => ?_) (fun k9 u9 hq => by obtain ⟨_, e9, _⟩ := hq; cases e9)
  obtain ⟨r7, e9, rfl, h⟩ := hq
  obtain rfl := Sum.inl.inj e9
  show J Γ RX10 cX10_go 4 (some .boolean) "go" [] 3 0 0 5 [(0, .ref 1198), (1, .int p1), (2, .int p2)] [.int r7] (n, K, A, Lg, G) P
  refine j_if_eq (tgt := 34) dX10_go_5 (by decide) (fun c => ?_) (fun c => ?_)
  · rw [if_pos c] at h
    refine j_iconst (v := 0) dX10_go_34 (by decide) ?_
    refine j_zret rfl (by decide) ?_ dX10_go_35
    rw [hP]
    exact ⟨0, A, rfl, rfl, h⟩
  · rw [if_neg c] at h
    refine j_iload_n 2 rfl dX10_go_8 ?_
    refine j_iconst (v := (-1)) dX10_go_9 (by decide) ?_
    refine j_icmp_eq (tgt := 21) dX10_go_10 (by decide) (fun c => ?_) (fun c => ?_)
    · rw [if_pos c] at h
      exact fX10_go_J21_ok hf Q P hP   p1 p2 A h
    · rw [if_neg c] at h
      refine j_aload_n 0 rfl dX10_go_13 ?_
      refine j_iload_n 2 rfl dX10_go_14 ?_
      refine j_callV (b := 1198) (As := [.int p2]) (st := []) (C := RX10) (kc' := 0) (ks' := 0) (tX10_isPlace hf p2 _ h) myX10_isPlace rfl q1888 q1890 qs85 (by decide) (fun s9 H9 hK9 hR9 h69 => jIs_in hK9 hR9 h69 (m_lt hf (by decide)) (fk_1198 hf) rfl) rfl (Nat.le_of_ble_eq_true rfl) rfl (by decide) (Nat.le_refl 0) (Nat.le_refl 0) dX10_go_15 (fun v9 u9 hq => ?_) (fun k9 u9 hq => by obtain ⟨_, e9, _⟩ := hq; cases e9)
      obtain ⟨r8, e9, rfl, h⟩ := hq
      obtain rfl := Sum.inl.inj e9
      show J Γ RX10 cX10_go 4 (some .boolean) "go" [] 3 0 0 18 [(0, .ref 1198), (1, .int p1), (2, .int p2)] [.int r8] (n, K, A, Lg, G) P
      refine j_if_eq (tgt := 34) dX10_go_18 (by decide) (fun c => ?_) (fun c => ?_)
      · rw [if_pos c] at h
        refine j_iconst (v := 0) dX10_go_34 (by decide) ?_
        refine j_zret rfl (by decide) ?_ dX10_go_35
        rw [hP]
        exact ⟨0, A, rfl, rfl, h⟩
      · rw [if_neg c] at h
        exact fX10_go_J21_ok hf Q P hP   p1 p2 A h
theorem myX10_isWith : jY yX10_isWith cX10_isWith 3 (some .boolean) 2 := ⟨q1982, q139, by decide +kernel, by decide +kernel, by decide⟩
def fX10_isWith (A : pA) (p1 : Int32) (p2 : Int32) (Q : Int32 → Prop) : Prop :=
    (vp_in (27 + p1) 77) ∧ ((if (A 1237 (27 + p1).toNatClampNeg) = 0 then (vp_in (15 + p1) 77) ∧ ((vp_in p2 77) ∧ ((if (A 1237 (15 + p1).toNatClampNeg) = (A 1237 (p2).toNatClampNeg) then Q 1 else Q 0))) else Q 0))
theorem tX10_isWith {Γ : jG} {n : Nat} {K : Nat → pKd} {G : pG} {Lg : pL} (hf : mOK n K G) {A : pA} (p1 : Int32) (p2 : Int32) (Q : Int32 → Prop) (h : fX10_isWith A p1 p2 Q) : jMet Γ yX10_isWith cX10_isWith 3 (some .boolean) [] 1 0 0 [.ref 1198, .int p1, .int p2] (n, K, A, Lg, G) (fun o u => ∃ (r : Int32), o = .inl (some (.int r)) ∧ u = (n, K, A, Lg, G) ∧ Q r) := by
  unfold fX10_isWith at h
  obtain ⟨P, hP⟩ : ∃ P : jO → pS → Prop, P = (fun o u => ∃ (r : Int32), o = .inl (some (.int r)) ∧ u = (n, K, A, Lg, G) ∧ Q r) := ⟨_, rfl⟩
  rw [← hP]
  refine jMet_of rfl rfl rfl (Nat.le_of_ble_eq_true rfl) ?_
  show J Γ RX10 cX10_isWith 3 (some .boolean) "isWith" [] 1 0 0 0 [(0, .ref 1198), (1, .int p1), (2, .int p2)] [] (n, K, A, Lg, G) P
  refine j_aload_n 0 rfl dX10_isWith_0 ?_
  refine j_getfr fl_X10_134_9 rfl (m_lt hf (by decide)) (fk_1198 hf) (fg_1198_56 hf) dX10_isWith_1 ?_
  refine j_bipush (v := 27) dX10_isWith_4 (by decide) ?_
  refine j_iload_n 1 rfl dX10_isWith_6 ?_
  refine j_iadd dX10_isWith_7 ?_
  obtain ⟨b1, h⟩ := h
  refine j_ialdJ (j := (27 + p1).toNatClampNeg) (m_lt hf (by decide)) (fk_1237 hf) b1 rfl dX10_isWith_8 ?_
  refine j_if_ne (tgt := 34) dX10_isWith_9 (by decide) (fun c => ?_) (fun c => ?_)
  · rw [if_neg c] at h
    refine j_iconst (v := 0) dX10_isWith_34 (by decide) ?_
    refine j_zret rfl (by decide) ?_ dX10_isWith_35
    rw [hP]
    exact ⟨0, rfl, rfl, h⟩
  · rw [if_pos c] at h
    refine j_aload_n 0 rfl dX10_isWith_12 ?_
    refine j_getfr fl_X10_134_9 rfl (m_lt hf (by decide)) (fk_1198 hf) (fg_1198_56 hf) dX10_isWith_13 ?_
    refine j_bipush (v := 15) dX10_isWith_16 (by decide) ?_
    refine j_iload_n 1 rfl dX10_isWith_18 ?_
    refine j_iadd dX10_isWith_19 ?_
    obtain ⟨b2, h⟩ := h
    refine j_ialdJ (j := (15 + p1).toNatClampNeg) (m_lt hf (by decide)) (fk_1237 hf) b2 rfl dX10_isWith_20 ?_
    refine j_aload_n 0 rfl dX10_isWith_21 ?_
    refine j_getfr fl_X10_134_9 rfl (m_lt hf (by decide)) (fk_1198 hf) (fg_1198_56 hf) dX10_isWith_22 ?_
    refine j_iload_n 2 rfl dX10_isWith_25 ?_
    obtain ⟨b3, h⟩ := h
    refine j_ialdJ (j := (p2).toNatClampNeg) (m_lt hf (by decide)) (fk_1237 hf) b3 rfl dX10_isWith_26 ?_
    refine j_icmp_ne (tgt := 34) dX10_isWith_27 (by decide) (fun c => ?_) (fun c => ?_)
    · rw [if_neg c] at h
      refine j_iconst (v := 0) dX10_isWith_34 (by decide) ?_
      refine j_zret rfl (by decide) ?_ dX10_isWith_35
      rw [hP]
      exact ⟨0, rfl, rfl, h⟩
    · rw [if_pos c] at h
      refine j_iconst (v := 1) dX10_isWith_30 (by decide) ?_
      refine j_goto (tgt := 35) dX10_isWith_31 (by decide) ?_
      refine j_zret rfl (by decide) ?_ dX10_isWith_35
      rw [hP]
      exact ⟨1, rfl, rfl, h⟩
theorem myX10_give : jY yX10_give cX10_give 5 (some .int) 3 := ⟨q1978, q139, by decide +kernel, by decide +kernel, by decide⟩
def fX10_give (A : pA) (p1 : Int32) (p2 : Int32) (p3 : Int32) (Q : Int32 → pA → Prop) : Prop :=
    fX10_isPerson A p1 (fun r1 => (if r1 = 0 then Q (-1) A else fX10_isDog A p2 (fun r2 => (if r2 = 0 then Q (-1) A else fX10_in A p3 1 99 (fun r3 => (if r3 = 0 then Q (-1) A else fX10_isWith A p1 p2 (fun r4 => (if r4 = 0 then Q (-2) A else (vp_in (23 + p1) 77) ∧ ((if (A 1237 (23 + p1).toNatClampNeg) < p3 then Q (-2) A else (vp_in ((35 + (4 * p2)) + p1) 77) ∧ ((if ((A 1237 ((35 + (4 * p2)) + p1).toNatClampNeg) + p3) ≤ 999 then fX10_copies A (fun A7 => (vp_in (23 + p1) 77) ∧ ((vp_in (23 + p1) 77) ∧ (∀ A10 : pA, A10 = pup A7 1238 (23 + p1).toNatClampNeg ((A7 1238 (23 + p1).toNatClampNeg) - p3) → (vp_in ((35 + (4 * p2)) + p1) 77) ∧ ((vp_in ((35 + (4 * p2)) + p1) 77) ∧ (∀ A13 : pA, A13 = pup A10 1238 ((35 + (4 * p2)) + p1).toNatClampNeg ((A10 1238 ((35 + (4 * p2)) + p1).toNatClampNeg) + p3) → fX10_records A13 (fun A14 => (vp_in ((35 + (4 * p2)) + p1) 77) ∧ (Q (A14 1237 ((35 + (4 * p2)) + p1).toNatClampNeg) A14))))))) else Q (-2) A))))))))))))
theorem tX10_give {Γ : jG} {n : Nat} {K : Nat → pKd} {G : pG} {Lg : pL} (hf : mOK n K G) {A : pA} (p1 : Int32) (p2 : Int32) (p3 : Int32) (Q : Int32 → pA → Prop) (h : fX10_give A p1 p2 p3 Q) : jMet Γ yX10_give cX10_give 5 (some .int) [] 3 0 0 [.ref 1198, .int p1, .int p2, .int p3] (n, K, A, Lg, G) (fun o u => ∃ (r : Int32) (A' : pA), o = .inl (some (.int r)) ∧ u = (n, K, A', Lg, G) ∧ Q r A') := by
  unfold fX10_give at h
  obtain ⟨P, hP⟩ : ∃ P : jO → pS → Prop, P = (fun o u => ∃ (r : Int32) (A' : pA), o = .inl (some (.int r)) ∧ u = (n, K, A', Lg, G) ∧ Q r A') := ⟨_, rfl⟩
  rw [← hP]
  refine jMet_of rfl rfl rfl (Nat.le_of_ble_eq_true rfl) ?_
  show J Γ RX10 cX10_give 5 (some .int) "give" [] 3 0 0 0 [(0, .ref 1198), (1, .int p1), (2, .int p2), (3, .int p3)] [] (n, K, A, Lg, G) P
  refine j_aload_n 0 rfl dX10_give_0 ?_
  refine j_iload_n 1 rfl dX10_give_1 ?_
  refine j_callV (b := 1198) (As := [.int p1]) (st := []) (C := RX10) (kc' := 0) (ks' := 0) (tX10_isPerson hf p1 _ h) myX10_isPerson rfl q1919 q1921 qs90 (by decide) (fun s9 H9 hK9 hR9 h69 => jIs_in hK9 hR9 h69 (m_lt hf (by decide)) (fk_1198 hf) rfl) rfl (Nat.le_of_ble_eq_true rfl) rfl (by decide) (Nat.le_refl 0) (Nat.le_refl 0) dX10_give_2 (fun v9 u9 hq => ?_) (fun k9 u9 hq => by obtain ⟨_, e9, _⟩ := hq; cases e9)
  obtain ⟨r1, e9, rfl, h⟩ := hq
  obtain rfl := Sum.inl.inj e9
  show J Γ RX10 cX10_give 5 (some .int) "give" [] 3 0 0 5 [(0, .ref 1198), (1, .int p1), (2, .int p2), (3, .int p3)] [.int r1] (n, K, A, Lg, G) P
  refine j_if_eq (tgt := 26) dX10_give_5 (by decide) (fun c => ?_) (fun c => ?_)
  · rw [if_pos c] at h
    refine j_iconst (v := (-1)) dX10_give_26 (by decide) ?_
    refine j_iret rfl ?_ dX10_give_27
    rw [hP]
    exact ⟨(-1), A, rfl, rfl, h⟩
  · rw [if_neg c] at h
    refine j_aload_n 0 rfl dX10_give_8 ?_
    refine j_iload_n 2 rfl dX10_give_9 ?_
    refine j_callV (b := 1198) (As := [.int p2]) (st := []) (C := RX10) (kc' := 0) (ks' := 0) (tX10_isDog hf p2 _ h) myX10_isDog rfl q1911 q1913 qs89 (by decide) (fun s9 H9 hK9 hR9 h69 => jIs_in hK9 hR9 h69 (m_lt hf (by decide)) (fk_1198 hf) rfl) rfl (Nat.le_of_ble_eq_true rfl) rfl (by decide) (Nat.le_refl 0) (Nat.le_refl 0) dX10_give_10 (fun v9 u9 hq => ?_) (fun k9 u9 hq => by obtain ⟨_, e9, _⟩ := hq; cases e9)
    obtain ⟨r2, e9, rfl, h⟩ := hq
    obtain rfl := Sum.inl.inj e9
    show J Γ RX10 cX10_give 5 (some .int) "give" [] 3 0 0 13 [(0, .ref 1198), (1, .int p1), (2, .int p2), (3, .int p3)] [.int r2] (n, K, A, Lg, G) P
    refine j_if_eq (tgt := 26) dX10_give_13 (by decide) (fun c => ?_) (fun c => ?_)
    · rw [if_pos c] at h
      refine j_iconst (v := (-1)) dX10_give_26 (by decide) ?_
      refine j_iret rfl ?_ dX10_give_27
      rw [hP]
      exact ⟨(-1), A, rfl, rfl, h⟩
    · rw [if_neg c] at h
      refine j_iload_n 3 rfl dX10_give_16 ?_
      refine j_iconst (v := 1) dX10_give_17 (by decide) ?_
      refine j_bipush (v := 99) dX10_give_18 (by decide) ?_
      refine j_callS (As := [.int p3, .int 1, .int 99]) (st := []) (kc' := 0) (ks' := 0) (tX10_in hf p3 1 99 _ h) myX10_in q1892 q1893 rfl (Nat.le_of_ble_eq_true rfl) rfl (by decide) (Nat.le_refl 0) (Nat.le_refl 0) dX10_give_20 (fun v9 u9 hq => ?_) (fun k9 u9 hq => by obtain ⟨_, e9, _⟩ := hq; cases e9)
      obtain ⟨r3, e9, rfl, h⟩ := hq
      obtain rfl := Sum.inl.inj e9
      show J Γ RX10 cX10_give 5 (some .int) "give" [] 3 0 0 23 [(0, .ref 1198), (1, .int p1), (2, .int p2), (3, .int p3)] [.int r3] (n, K, A, Lg, G) P
      refine j_if_ne (tgt := 28) dX10_give_23 (by decide) (fun c => ?_) (fun c => ?_)
      · rw [if_neg c] at h
        refine j_bipush (v := 35) dX10_give_28 (by decide) ?_
        refine j_iconst (v := 4) dX10_give_30 (by decide) ?_
        refine j_iload_n 2 rfl dX10_give_31 ?_
        refine j_imul dX10_give_32 ?_
        refine j_iadd dX10_give_33 ?_
        refine j_iload_n 1 rfl dX10_give_34 ?_
        refine j_iadd dX10_give_35 ?_
        refine j_istore (by decide) rfl dX10_give_36 ?_
        refine j_aload_n 1 rfl dX10_give_38 ?_
        refine j_iload_n 2 rfl dX10_give_39 ?_
        refine j_iload_n 3 rfl dX10_give_40 ?_
        refine j_callV (b := 1198) (As := [.int p1, .int p2]) (st := []) (C := RX10) (kc' := 0) (ks' := 0) (tX10_isWith hf p1 p2 _ h) myX10_isWith rfl q1979 q1981 qs101 (by decide) (fun s9 H9 hK9 hR9 h69 => jIs_in hK9 hR9 h69 (m_lt hf (by decide)) (fk_1198 hf) rfl) rfl (Nat.le_of_ble_eq_true rfl) rfl (by decide) (Nat.le_refl 0) (Nat.le_refl 0) dX10_give_41 (fun v9 u9 hq => ?_) (fun k9 u9 hq => by obtain ⟨_, e9, _⟩ := hq; cases e9)
        obtain ⟨r4, e9, rfl, h⟩ := hq
        obtain rfl := Sum.inl.inj e9
        show J Γ RX10 cX10_give 5 (some .int) "give" [] 3 0 0 44 [(4, .int ((35 + (4 * p2)) + p1)), (0, .ref 1198), (1, .int p1), (2, .int p2), (3, .int p3)] [.int r4] (n, K, A, Lg, G) P
        refine j_if_eq (tgt := 75) dX10_give_44 (by decide) (fun c => ?_) (fun c => ?_)
        · rw [if_pos c] at h
          refine j_bipush (v := (-2)) dX10_give_75 (by decide) ?_
          refine j_iret rfl ?_ dX10_give_77
          rw [hP]
          exact ⟨(-2), A, rfl, rfl, h⟩
        · rw [if_neg c] at h
          refine j_aload_n 1 rfl dX10_give_47 ?_
          refine j_getfr fl_X10_134_9 rfl (m_lt hf (by decide)) (fk_1198 hf) (fg_1198_56 hf) dX10_give_48 ?_
          refine j_bipush (v := 23) dX10_give_51 (by decide) ?_
          refine j_iload_n 2 rfl dX10_give_53 ?_
          refine j_iadd dX10_give_54 ?_
          obtain ⟨b5, h⟩ := h
          refine j_ialdJ (j := (23 + p1).toNatClampNeg) (m_lt hf (by decide)) (fk_1237 hf) b5 rfl dX10_give_55 ?_
          refine j_iload_n 4 rfl dX10_give_56 ?_
          refine j_icmp_lt (tgt := 75) dX10_give_57 (by decide) (fun c => ?_) (fun c => ?_)
          · rw [if_pos c] at h
            refine j_bipush (v := (-2)) dX10_give_75 (by decide) ?_
            refine j_iret rfl ?_ dX10_give_77
            rw [hP]
            exact ⟨(-2), A, rfl, rfl, h⟩
          · rw [if_neg c] at h
            refine j_aload_n 1 rfl dX10_give_60 ?_
            refine j_getfr fl_X10_134_9 rfl (m_lt hf (by decide)) (fk_1198 hf) (fg_1198_56 hf) dX10_give_61 ?_
            refine j_iload 0 rfl dX10_give_64 ?_
            obtain ⟨b6, h⟩ := h
            refine j_ialdJ (j := ((35 + (4 * p2)) + p1).toNatClampNeg) (m_lt hf (by decide)) (fk_1237 hf) b6 rfl dX10_give_66 ?_
            refine j_iload_n 4 rfl dX10_give_67 ?_
            refine j_iadd dX10_give_68 ?_
            refine j_sipush (v := 999) dX10_give_69 (by decide) ?_
            refine j_icmp_le (tgt := 78) dX10_give_72 (by decide) (fun c => ?_) (fun c => ?_)
            · rw [if_pos c] at h
              refine j_aload_n 1 rfl dX10_give_78 ?_
              refine j_callV (b := 1198) (As := []) (st := []) (C := RX10) (kc' := 0) (ks' := 0) (tX10_copies hf  _ h) myX10_copies rfl q1895 q1897 qs86 (by decide) (fun s9 H9 hK9 hR9 h69 => jIs_in hK9 hR9 h69 (m_lt hf (by decide)) (fk_1198 hf) rfl) rfl (Nat.le_of_ble_eq_true rfl) rfl (by decide) (Nat.le_refl 0) (Nat.le_refl 0) dX10_give_79 (fun v9 u9 hq => ?_) (fun k9 u9 hq => by obtain ⟨_, e9, _⟩ := hq; cases e9)
              obtain ⟨A7, e9, rfl, h⟩ := hq
              obtain rfl := Sum.inl.inj e9
              show J Γ RX10 cX10_give 5 (some .int) "give" [] 3 0 0 82 [(4, .int ((35 + (4 * p2)) + p1)), (0, .ref 1198), (1, .int p1), (2, .int p2), (3, .int p3)] [] (n, K, A7, Lg, G) P
              refine j_aload_n 1 rfl dX10_give_82 ?_
              refine j_getfr fl_X10_137_9 rfl (m_lt hf (by decide)) (fk_1198 hf) (fg_1198_57 hf) dX10_give_83 ?_
              refine j_bipush (v := 23) dX10_give_86 (by decide) ?_
              refine j_iload_n 2 rfl dX10_give_88 ?_
              refine j_iadd dX10_give_89 ?_
              refine j_dup2 rfl rfl dX10_give_90 ?_
              obtain ⟨b8, h⟩ := h
              refine j_ialdJ (j := (23 + p1).toNatClampNeg) (m_lt hf (by decide)) (fk_1238 hf) b8 rfl dX10_give_91 ?_
              refine j_iload_n 4 rfl dX10_give_92 ?_
              refine j_isub dX10_give_93 ?_
              obtain ⟨b9, h⟩ := h
              refine j_iastJ (j := (23 + p1).toNatClampNeg) (m_lt hf (by decide)) (fk_1238 hf) b9 rfl dX10_give_94 (fun A10 eA10 => ?_)
              replace h := h A10 eA10
              refine j_aload_n 1 rfl dX10_give_95 ?_
              refine j_getfr fl_X10_137_9 rfl (m_lt hf (by decide)) (fk_1198 hf) (fg_1198_57 hf) dX10_give_96 ?_
              refine j_iload 0 rfl dX10_give_99 ?_
              refine j_dup2 rfl rfl dX10_give_101 ?_
              obtain ⟨b11, h⟩ := h
              refine j_ialdJ (j := ((35 + (4 * p2)) + p1).toNatClampNeg) (m_lt hf (by decide)) (fk_1238 hf) b11 rfl dX10_give_102 ?_
              refine j_iload_n 4 rfl dX10_give_103 ?_
              refine j_iadd dX10_give_104 ?_
              obtain ⟨b12, h⟩ := h
              refine j_iastJ (j := ((35 + (4 * p2)) + p1).toNatClampNeg) (m_lt hf (by decide)) (fk_1238 hf) b12 rfl dX10_give_105 (fun A13 eA13 => ?_)
              replace h := h A13 eA13
              refine j_aload_n 1 rfl dX10_give_106 ?_
              refine j_callV (b := 1198) (As := []) (st := []) (C := RX10) (kc' := 0) (ks' := 0) (tX10_records hf  _ h) myX10_records rfl q1971 q1973 qs100 (by decide) (fun s9 H9 hK9 hR9 h69 => jIs_in hK9 hR9 h69 (m_lt hf (by decide)) (fk_1198 hf) rfl) rfl (Nat.le_of_ble_eq_true rfl) rfl (by decide) (Nat.le_refl 0) (Nat.le_refl 0) dX10_give_107 (fun v9 u9 hq => ?_) (fun k9 u9 hq => by obtain ⟨_, e9, _⟩ := hq; cases e9)
              obtain ⟨A14, e9, rfl, h⟩ := hq
              obtain rfl := Sum.inl.inj e9
              show J Γ RX10 cX10_give 5 (some .int) "give" [] 3 0 0 110 [(4, .int ((35 + (4 * p2)) + p1)), (0, .ref 1198), (1, .int p1), (2, .int p2), (3, .int p3)] [] (n, K, A14, Lg, G) P
              refine j_aload_n 1 rfl dX10_give_110 ?_
              refine j_getfr fl_X10_134_9 rfl (m_lt hf (by decide)) (fk_1198 hf) (fg_1198_56 hf) dX10_give_111 ?_
              refine j_iload 0 rfl dX10_give_114 ?_
              obtain ⟨b15, h⟩ := h
              refine j_ialdJ (j := ((35 + (4 * p2)) + p1).toNatClampNeg) (m_lt hf (by decide)) (fk_1237 hf) b15 rfl dX10_give_116 ?_
              refine j_iret rfl ?_ dX10_give_117
              rw [hP]
              exact ⟨A14 1237 ((35 + (4 * p2)) + p1).toNatClampNeg, A14, rfl, rfl, h⟩
            · rw [if_neg c] at h
              refine j_bipush (v := (-2)) dX10_give_75 (by decide) ?_
              refine j_iret rfl ?_ dX10_give_77
              rw [hP]
              exact ⟨(-2), A, rfl, rfl, h⟩
      · rw [if_pos c] at h
        refine j_iconst (v := (-1)) dX10_give_26 (by decide) ?_
        refine j_iret rfl ?_ dX10_give_27
        rw [hP]
        exact ⟨(-1), A, rfl, rfl, h⟩
theorem myX10_kick : jY yX10_kick cX10_kick 4 (some .int) 2 := ⟨q1986, q139, by decide +kernel, by decide +kernel, by decide⟩
def fX10_kick (A : pA) (p1 : Int32) (p2 : Int32) (Q : Int32 → pA → Prop) : Prop :=
    fX10_isPerson A p1 (fun r1 => (if r1 = 0 then Q (-1) A else fX10_isDog A p2 (fun r2 => (if r2 = 0 then Q (-1) A else fX10_isWith A p1 p2 (fun r3 => (if r3 = 0 then Q (-2) A else (vp_in ((55 + (4 * p2)) + p1) 77) ∧ ((if (A 1237 ((55 + (4 * p2)) + p1).toNatClampNeg) = 999 then Q (-2) A else fX10_copies A (fun A5 => (vp_in ((55 + (4 * p2)) + p1) 77) ∧ ((vp_in ((55 + (4 * p2)) + p1) 77) ∧ (∀ A8 : pA, A8 = pup A5 1238 ((55 + (4 * p2)) + p1).toNatClampNeg ((A5 1238 ((55 + (4 * p2)) + p1).toNatClampNeg) + 1) → fX10_records A8 (fun A9 => (vp_in ((55 + (4 * p2)) + p1) 77) ∧ (Q (A9 1237 ((55 + (4 * p2)) + p1).toNatClampNeg) A9)))))))))))))
theorem tX10_kick {Γ : jG} {n : Nat} {K : Nat → pKd} {G : pG} {Lg : pL} (hf : mOK n K G) {A : pA} (p1 : Int32) (p2 : Int32) (Q : Int32 → pA → Prop) (h : fX10_kick A p1 p2 Q) : jMet Γ yX10_kick cX10_kick 4 (some .int) [] 3 0 0 [.ref 1198, .int p1, .int p2] (n, K, A, Lg, G) (fun o u => ∃ (r : Int32) (A' : pA), o = .inl (some (.int r)) ∧ u = (n, K, A', Lg, G) ∧ Q r A') := by
  unfold fX10_kick at h
  obtain ⟨P, hP⟩ : ∃ P : jO → pS → Prop, P = (fun o u => ∃ (r : Int32) (A' : pA), o = .inl (some (.int r)) ∧ u = (n, K, A', Lg, G) ∧ Q r A') := ⟨_, rfl⟩
  rw [← hP]
  refine jMet_of rfl rfl rfl (Nat.le_of_ble_eq_true rfl) ?_
  show J Γ RX10 cX10_kick 4 (some .int) "kick" [] 3 0 0 0 [(0, .ref 1198), (1, .int p1), (2, .int p2)] [] (n, K, A, Lg, G) P
  refine j_aload_n 0 rfl dX10_kick_0 ?_
  refine j_iload_n 1 rfl dX10_kick_1 ?_
  refine j_callV (b := 1198) (As := [.int p1]) (st := []) (C := RX10) (kc' := 0) (ks' := 0) (tX10_isPerson hf p1 _ h) myX10_isPerson rfl q1919 q1921 qs90 (by decide) (fun s9 H9 hK9 hR9 h69 => jIs_in hK9 hR9 h69 (m_lt hf (by decide)) (fk_1198 hf) rfl) rfl (Nat.le_of_ble_eq_true rfl) rfl (by decide) (Nat.le_refl 0) (Nat.le_refl 0) dX10_kick_2 (fun v9 u9 hq => ?_) (fun k9 u9 hq => by obtain ⟨_, e9, _⟩ := hq; cases e9)
  obtain ⟨r1, e9, rfl, h⟩ := hq
  obtain rfl := Sum.inl.inj e9
  show J Γ RX10 cX10_kick 4 (some .int) "kick" [] 3 0 0 5 [(0, .ref 1198), (1, .int p1), (2, .int p2)] [.int r1] (n, K, A, Lg, G) P
  refine j_if_eq (tgt := 16) dX10_kick_5 (by decide) (fun c => ?_) (fun c => ?_)
  · rw [if_pos c] at h
    refine j_iconst (v := (-1)) dX10_kick_16 (by decide) ?_
    refine j_iret rfl ?_ dX10_kick_17
    rw [hP]
    exact ⟨(-1), A, rfl, rfl, h⟩
  · rw [if_neg c] at h
    refine j_aload_n 0 rfl dX10_kick_8 ?_
    refine j_iload_n 2 rfl dX10_kick_9 ?_
    refine j_callV (b := 1198) (As := [.int p2]) (st := []) (C := RX10) (kc' := 0) (ks' := 0) (tX10_isDog hf p2 _ h) myX10_isDog rfl q1911 q1913 qs89 (by decide) (fun s9 H9 hK9 hR9 h69 => jIs_in hK9 hR9 h69 (m_lt hf (by decide)) (fk_1198 hf) rfl) rfl (Nat.le_of_ble_eq_true rfl) rfl (by decide) (Nat.le_refl 0) (Nat.le_refl 0) dX10_kick_10 (fun v9 u9 hq => ?_) (fun k9 u9 hq => by obtain ⟨_, e9, _⟩ := hq; cases e9)
    obtain ⟨r2, e9, rfl, h⟩ := hq
    obtain rfl := Sum.inl.inj e9
    show J Γ RX10 cX10_kick 4 (some .int) "kick" [] 3 0 0 13 [(0, .ref 1198), (1, .int p1), (2, .int p2)] [.int r2] (n, K, A, Lg, G) P
    refine j_if_ne (tgt := 18) dX10_kick_13 (by decide) (fun c => ?_) (fun c => ?_)
    · rw [if_neg c] at h
      refine j_bipush (v := 55) dX10_kick_18 (by decide) ?_
      refine j_iconst (v := 4) dX10_kick_20 (by decide) ?_
      refine j_iload_n 2 rfl dX10_kick_21 ?_
      refine j_imul dX10_kick_22 ?_
      refine j_iadd dX10_kick_23 ?_
      refine j_iload_n 1 rfl dX10_kick_24 ?_
      refine j_iadd dX10_kick_25 ?_
      refine j_istore_n (by decide) rfl dX10_kick_26 ?_
      refine j_aload_n 1 rfl dX10_kick_27 ?_
      refine j_iload_n 2 rfl dX10_kick_28 ?_
      refine j_iload_n 3 rfl dX10_kick_29 ?_
      refine j_callV (b := 1198) (As := [.int p1, .int p2]) (st := []) (C := RX10) (kc' := 0) (ks' := 0) (tX10_isWith hf p1 p2 _ h) myX10_isWith rfl q1979 q1981 qs101 (by decide) (fun s9 H9 hK9 hR9 h69 => jIs_in hK9 hR9 h69 (m_lt hf (by decide)) (fk_1198 hf) rfl) rfl (Nat.le_of_ble_eq_true rfl) rfl (by decide) (Nat.le_refl 0) (Nat.le_refl 0) dX10_kick_30 (fun v9 u9 hq => ?_) (fun k9 u9 hq => by obtain ⟨_, e9, _⟩ := hq; cases e9)
      obtain ⟨r3, e9, rfl, h⟩ := hq
      obtain rfl := Sum.inl.inj e9
      show J Γ RX10 cX10_kick 4 (some .int) "kick" [] 3 0 0 33 [(3, .int ((55 + (4 * p2)) + p1)), (0, .ref 1198), (1, .int p1), (2, .int p2)] [.int r3] (n, K, A, Lg, G) P
      refine j_if_eq (tgt := 48) dX10_kick_33 (by decide) (fun c => ?_) (fun c => ?_)
      · rw [if_pos c] at h
        refine j_bipush (v := (-2)) dX10_kick_48 (by decide) ?_
        refine j_iret rfl ?_ dX10_kick_50
        rw [hP]
        exact ⟨(-2), A, rfl, rfl, h⟩
      · rw [if_neg c] at h
        refine j_aload_n 1 rfl dX10_kick_36 ?_
        refine j_getfr fl_X10_134_9 rfl (m_lt hf (by decide)) (fk_1198 hf) (fg_1198_56 hf) dX10_kick_37 ?_
        refine j_iload_n 0 rfl dX10_kick_40 ?_
        obtain ⟨b4, h⟩ := h
        refine j_ialdJ (j := ((55 + (4 * p2)) + p1).toNatClampNeg) (m_lt hf (by decide)) (fk_1237 hf) b4 rfl dX10_kick_41 ?_
        refine j_sipush (v := 999) dX10_kick_42 (by decide) ?_
        refine j_icmp_ne (tgt := 51) dX10_kick_45 (by decide) (fun c => ?_) (fun c => ?_)
        · rw [if_neg c] at h
          refine j_aload_n 1 rfl dX10_kick_51 ?_
          refine j_callV (b := 1198) (As := []) (st := []) (C := RX10) (kc' := 0) (ks' := 0) (tX10_copies hf  _ h) myX10_copies rfl q1895 q1897 qs86 (by decide) (fun s9 H9 hK9 hR9 h69 => jIs_in hK9 hR9 h69 (m_lt hf (by decide)) (fk_1198 hf) rfl) rfl (Nat.le_of_ble_eq_true rfl) rfl (by decide) (Nat.le_refl 0) (Nat.le_refl 0) dX10_kick_52 (fun v9 u9 hq => ?_) (fun k9 u9 hq => by obtain ⟨_, e9, _⟩ := hq; cases e9)
          obtain ⟨A5, e9, rfl, h⟩ := hq
          obtain rfl := Sum.inl.inj e9
          show J Γ RX10 cX10_kick 4 (some .int) "kick" [] 3 0 0 55 [(3, .int ((55 + (4 * p2)) + p1)), (0, .ref 1198), (1, .int p1), (2, .int p2)] [] (n, K, A5, Lg, G) P
          refine j_aload_n 1 rfl dX10_kick_55 ?_
          refine j_getfr fl_X10_137_9 rfl (m_lt hf (by decide)) (fk_1198 hf) (fg_1198_57 hf) dX10_kick_56 ?_
          refine j_iload_n 0 rfl dX10_kick_59 ?_
          refine j_dup2 rfl rfl dX10_kick_60 ?_
          obtain ⟨b6, h⟩ := h
          refine j_ialdJ (j := ((55 + (4 * p2)) + p1).toNatClampNeg) (m_lt hf (by decide)) (fk_1238 hf) b6 rfl dX10_kick_61 ?_
          refine j_iconst (v := 1) dX10_kick_62 (by decide) ?_
          refine j_iadd dX10_kick_63 ?_
          obtain ⟨b7, h⟩ := h
          refine j_iastJ (j := ((55 + (4 * p2)) + p1).toNatClampNeg) (m_lt hf (by decide)) (fk_1238 hf) b7 rfl dX10_kick_64 (fun A8 eA8 => ?_)
          replace h := h A8 eA8
          refine j_aload_n 1 rfl dX10_kick_65 ?_
          refine j_callV (b := 1198) (As := []) (st := []) (C := RX10) (kc' := 0) (ks' := 0) (tX10_records hf  _ h) myX10_records rfl q1971 q1973 qs100 (by decide) (fun s9 H9 hK9 hR9 h69 => jIs_in hK9 hR9 h69 (m_lt hf (by decide)) (fk_1198 hf) rfl) rfl (Nat.le_of_ble_eq_true rfl) rfl (by decide) (Nat.le_refl 0) (Nat.le_refl 0) dX10_kick_66 (fun v9 u9 hq => ?_) (fun k9 u9 hq => by obtain ⟨_, e9, _⟩ := hq; cases e9)
          obtain ⟨A9, e9, rfl, h⟩ := hq
          obtain rfl := Sum.inl.inj e9
          show J Γ RX10 cX10_kick 4 (some .int) "kick" [] 3 0 0 69 [(3, .int ((55 + (4 * p2)) + p1)), (0, .ref 1198), (1, .int p1), (2, .int p2)] [] (n, K, A9, Lg, G) P
          refine j_aload_n 1 rfl dX10_kick_69 ?_
          refine j_getfr fl_X10_134_9 rfl (m_lt hf (by decide)) (fk_1198 hf) (fg_1198_56 hf) dX10_kick_70 ?_
          refine j_iload_n 0 rfl dX10_kick_73 ?_
          obtain ⟨b10, h⟩ := h
          refine j_ialdJ (j := ((55 + (4 * p2)) + p1).toNatClampNeg) (m_lt hf (by decide)) (fk_1237 hf) b10 rfl dX10_kick_74 ?_
          refine j_iret rfl ?_ dX10_kick_75
          rw [hP]
          exact ⟨A9 1237 ((55 + (4 * p2)) + p1).toNatClampNeg, A9, rfl, rfl, h⟩
        · rw [if_pos c] at h
          refine j_bipush (v := (-2)) dX10_kick_48 (by decide) ?_
          refine j_iret rfl ?_ dX10_kick_50
          rw [hP]
          exact ⟨(-2), A, rfl, rfl, h⟩
    · rw [if_pos c] at h
      refine j_iconst (v := (-1)) dX10_kick_16 (by decide) ?_
      refine j_iret rfl ?_ dX10_kick_17
      rw [hP]
      exact ⟨(-1), A, rfl, rfl, h⟩
theorem myX10_bearsGrudge : jY yX10_bearsGrudge cX10_bearsGrudge 3 (some .boolean) 2 := ⟨q2026, q139, by decide +kernel, by decide +kernel, by decide⟩
def fX10_bearsGrudge (A : pA) (p1 : Int32) (p2 : Int32) (Q : Int32 → Prop) : Prop :=
    (vp_in ((55 + (4 * p1)) + p2) 77) ∧ ((vp_in ((35 + (4 * p1)) + p2) 77) ∧ ((if (A 1238 ((55 + (4 * p1)) + p2).toNatClampNeg) ≤ (A 1238 ((35 + (4 * p1)) + p2).toNatClampNeg) then Q 0 else Q 1)))
theorem tX10_bearsGrudge {Γ : jG} {n : Nat} {K : Nat → pKd} {G : pG} {Lg : pL} (hf : mOK n K G) {A : pA} (p1 : Int32) (p2 : Int32) (Q : Int32 → Prop) (h : fX10_bearsGrudge A p1 p2 Q) : jMet Γ yX10_bearsGrudge cX10_bearsGrudge 3 (some .boolean) [] 1 0 0 [.ref 1198, .int p1, .int p2] (n, K, A, Lg, G) (fun o u => ∃ (r : Int32), o = .inl (some (.int r)) ∧ u = (n, K, A, Lg, G) ∧ Q r) := by
  unfold fX10_bearsGrudge at h
  obtain ⟨P, hP⟩ : ∃ P : jO → pS → Prop, P = (fun o u => ∃ (r : Int32), o = .inl (some (.int r)) ∧ u = (n, K, A, Lg, G) ∧ Q r) := ⟨_, rfl⟩
  rw [← hP]
  refine jMet_of rfl rfl rfl (Nat.le_of_ble_eq_true rfl) ?_
  show J Γ RX10 cX10_bearsGrudge 3 (some .boolean) "bearsGrudge" [] 1 0 0 0 [(0, .ref 1198), (1, .int p1), (2, .int p2)] [] (n, K, A, Lg, G) P
  refine j_aload_n 0 rfl dX10_bearsGrudge_0 ?_
  refine j_getfr fl_X10_137_9 rfl (m_lt hf (by decide)) (fk_1198 hf) (fg_1198_57 hf) dX10_bearsGrudge_1 ?_
  refine j_bipush (v := 55) dX10_bearsGrudge_4 (by decide) ?_
  refine j_iconst (v := 4) dX10_bearsGrudge_6 (by decide) ?_
  refine j_iload_n 1 rfl dX10_bearsGrudge_7 ?_
  refine j_imul dX10_bearsGrudge_8 ?_
  refine j_iadd dX10_bearsGrudge_9 ?_
  refine j_iload_n 2 rfl dX10_bearsGrudge_10 ?_
  refine j_iadd dX10_bearsGrudge_11 ?_
  obtain ⟨b1, h⟩ := h
  refine j_ialdJ (j := ((55 + (4 * p1)) + p2).toNatClampNeg) (m_lt hf (by decide)) (fk_1238 hf) b1 rfl dX10_bearsGrudge_12 ?_
  refine j_aload_n 0 rfl dX10_bearsGrudge_13 ?_
  refine j_getfr fl_X10_137_9 rfl (m_lt hf (by decide)) (fk_1198 hf) (fg_1198_57 hf) dX10_bearsGrudge_14 ?_
  refine j_bipush (v := 35) dX10_bearsGrudge_17 (by decide) ?_
  refine j_iconst (v := 4) dX10_bearsGrudge_19 (by decide) ?_
  refine j_iload_n 1 rfl dX10_bearsGrudge_20 ?_
  refine j_imul dX10_bearsGrudge_21 ?_
  refine j_iadd dX10_bearsGrudge_22 ?_
  refine j_iload_n 2 rfl dX10_bearsGrudge_23 ?_
  refine j_iadd dX10_bearsGrudge_24 ?_
  obtain ⟨b2, h⟩ := h
  refine j_ialdJ (j := ((35 + (4 * p1)) + p2).toNatClampNeg) (m_lt hf (by decide)) (fk_1238 hf) b2 rfl dX10_bearsGrudge_25 ?_
  refine j_icmp_le (tgt := 33) dX10_bearsGrudge_26 (by decide) (fun c => ?_) (fun c => ?_)
  · rw [if_pos c] at h
    refine j_iconst (v := 0) dX10_bearsGrudge_33 (by decide) ?_
    refine j_zret rfl (by decide) ?_ dX10_bearsGrudge_34
    rw [hP]
    exact ⟨0, rfl, rfl, h⟩
  · rw [if_neg c] at h
    refine j_iconst (v := 1) dX10_bearsGrudge_29 (by decide) ?_
    refine j_goto (tgt := 34) dX10_bearsGrudge_30 (by decide) ?_
    refine j_zret rfl (by decide) ?_ dX10_bearsGrudge_34
    rw [hP]
    exact ⟨1, rfl, rfl, h⟩
theorem myX10_mindsNow : jY yX10_mindsNow cX10_mindsNow 6 (some .int) 1 := ⟨q2022, q139, by decide +kernel, by decide +kernel, by decide⟩
def fX10_mindsNow_J79  (k8 : Int32 → Int32 → Int32 → Int32 → pA → Prop) (Q : Int32 → pA → Prop) (l1 : Int32) (l2 : Int32) (l3 : Int32) (l4 : Int32) (A : pA) : Prop :=
    k8 l1 l2 l3 (l4 + 1) A
theorem fX10_mindsNow_J79_ok {Γ : jG} {n : Nat} {K : Nat → pKd} {G : pG} {Lg : pL} (hf : mOK n K G) (Q : Int32 → pA → Prop) (P : jO → pS → Prop) (hP : P = (fun o u => ∃ (r : Int32) (A' : pA), o = .inl (some (.int r)) ∧ u = (n, K, A', Lg, G) ∧ Q r A')) (k8 : Int32 → Int32 → Int32 → Int32 → pA → Prop) (ok8 : ∀ (l1 : Int32) (l2 : Int32) (l3 : Int32) (l4 : Int32) (A : pA), k8 l1 l2 l3 l4 A → J Γ RX10 cX10_mindsNow 6 (some .int) "mindsNow" [] 4 0 0 8 [(0, .ref 1198), (1, .int l1), (2, .int l2), (3, .int l3), (4, .int l4)] [] (n, K, A, Lg, G) P) (l1 : Int32) (l2 : Int32) (l3 : Int32) (l4 : Int32) (A : pA) (h : fX10_mindsNow_J79  k8 Q l1 l2 l3 l4 A) : J Γ RX10 cX10_mindsNow 6 (some .int) "mindsNow" [] 4 0 0 79 [(0, .ref 1198), (1, .int l1), (2, .int l2), (3, .int l3), (4, .int l4)] [] (n, K, A, Lg, G) P := by
  unfold fX10_mindsNow_J79 at h
  refine j_iinc (v := l4 + 1) 4 rfl rfl (by decide) rfl dX10_mindsNow_79 ?_
  refine j_goto (tgt := 8) dX10_mindsNow_82 (by decide) ?_
  refine j_ls [1, 2, 3, 4, 0] rfl ?_
  exact ok8 l1 l2 l3 (l4 + 1) A h
def fX10_mindsNow_J73  (k8 : Int32 → Int32 → Int32 → Int32 → pA → Prop) (Q : Int32 → pA → Prop) (l1 : Int32) (l4 : Int32) (l5 : Int32) (A : pA) : Prop :=
    fX10_mindsNow_J79  k8 Q l1 l4 l5 l4 A
theorem fX10_mindsNow_J73_ok {Γ : jG} {n : Nat} {K : Nat → pKd} {G : pG} {Lg : pL} (hf : mOK n K G) (Q : Int32 → pA → Prop) (P : jO → pS → Prop) (hP : P = (fun o u => ∃ (r : Int32) (A' : pA), o = .inl (some (.int r)) ∧ u = (n, K, A', Lg, G) ∧ Q r A')) (k8 : Int32 → Int32 → Int32 → Int32 → pA → Prop) (ok8 : ∀ (l1 : Int32) (l2 : Int32) (l3 : Int32) (l4 : Int32) (A : pA), k8 l1 l2 l3 l4 A → J Γ RX10 cX10_mindsNow 6 (some .int) "mindsNow" [] 4 0 0 8 [(0, .ref 1198), (1, .int l1), (2, .int l2), (3, .int l3), (4, .int l4)] [] (n, K, A, Lg, G) P) (l1 : Int32) (l4 : Int32) (l5 : Int32) (A : pA) (h : fX10_mindsNow_J73  k8 Q l1 l4 l5 A) : J Γ RX10 cX10_mindsNow 6 (some .int) "mindsNow" [] 4 0 0 73 [(0, .ref 1198), (1, .int l1), (4, .int l4), (5, .int l5)] [] (n, K, A, Lg, G) P := by
  unfold fX10_mindsNow_J73 at h
  refine j_iload 2 rfl dX10_mindsNow_73 ?_
  refine j_istore_n (by decide) rfl dX10_mindsNow_75 ?_
  refine j_iload 4 rfl dX10_mindsNow_76 ?_
  refine j_istore_n (by decide) rfl dX10_mindsNow_78 ?_
  refine j_ls [2, 3, 1, 0, 4] rfl ?_
  exact fX10_mindsNow_J79_ok hf Q P hP k8 ok8 l1 l4 l5 l4 A h
def fX10_mindsNow_L8   (Q : Int32 → pA → Prop) : Nat → Int32 → Int32 → Int32 → Int32 → pA → Prop
  | 0, _, _, _, _, _ => False
  | n9 + 1, l1, l2, l3, l4, A =>
    (vp_in (A 1198 18) 2) ∧ ((if (A 1215 (A 1198 18).toNatClampNeg) ≤ l4 then Q l2 A else (vp_in (27 + l4) 77) ∧ ((if (A 1238 (27 + l4).toNatClampNeg) = 1 then fX10_mindsNow_J79  (fun x0 x1 x2 x3 x4 => fX10_mindsNow_L8   Q n9 x0 x1 x2 x3 x4) Q l1 l2 l3 l4 A else fX10_farTo A l1 l4 (fun r3 => (if r3 < 99 then fX10_wantsOf A l1 l4 (fun r4 A5 => (if l2 < 0 then fX10_mindsNow_J73  (fun x0 x1 x2 x3 x4 => fX10_mindsNow_L8   Q n9 x0 x1 x2 x3 x4) Q l1 l4 r4 A5 else (if l3 < r4 then fX10_mindsNow_J73  (fun x0 x1 x2 x3 x4 => fX10_mindsNow_L8   Q n9 x0 x1 x2 x3 x4) Q l1 l4 r4 A5 else fX10_mindsNow_J79  (fun x0 x1 x2 x3 x4 => fX10_mindsNow_L8   Q n9 x0 x1 x2 x3 x4) Q l1 l2 l3 l4 A5))) else fX10_mindsNow_J79  (fun x0 x1 x2 x3 x4 => fX10_mindsNow_L8   Q n9 x0 x1 x2 x3 x4) Q l1 l2 l3 l4 A))))))
theorem fX10_mindsNow_L8_ok {Γ : jG} {n : Nat} {K : Nat → pKd} {G : pG} {Lg : pL} (hf : mOK n K G) (Q : Int32 → pA → Prop) (P : jO → pS → Prop) (hP : P = (fun o u => ∃ (r : Int32) (A' : pA), o = .inl (some (.int r)) ∧ u = (n, K, A', Lg, G) ∧ Q r A'))    : ∀ (n9 : Nat) (l1 : Int32) (l2 : Int32) (l3 : Int32) (l4 : Int32) (A : pA), fX10_mindsNow_L8   Q n9 l1 l2 l3 l4 A → J Γ RX10 cX10_mindsNow 6 (some .int) "mindsNow" [] 4 0 0 8 [(0, .ref 1198), (1, .int l1), (2, .int l2), (3, .int l3), (4, .int l4)] [] (n, K, A, Lg, G) P := by
  intro n9
  induction n9 with
  | zero => intro l1 l2 l3 l4 A h; exact h.elim
  | succ n9 ih =>
    intro l1 l2 l3 l4 A h
    unfold fX10_mindsNow_L8 at h
    refine j_iload 4 rfl dX10_mindsNow_8 ?_
    refine j_aload_n 0 rfl dX10_mindsNow_10 ?_
    refine j_getfr fl_X10_67_9 rfl (m_lt hf (by decide)) (fk_1198 hf) (fg_1198_30 hf) dX10_mindsNow_11 ?_
    refine j_aload_n 0 rfl dX10_mindsNow_14 ?_
    refine j_getfi fl_X10_242_9 rfl (m_lt hf (by decide)) (fk_1198 hf) dX10_mindsNow_15 ?_
    obtain ⟨b1, h⟩ := h
    refine j_ialdJ (j := (A 1198 18).toNatClampNeg) (m_lt hf (by decide)) (fk_1215 hf) b1 rfl dX10_mindsNow_18 ?_
    refine j_icmp_ge (tgt := 85) dX10_mindsNow_19 (by decide) (fun c => ?_) (fun c => ?_)
    · rw [if_pos c] at h
      refine j_iload_n 2 rfl dX10_mindsNow_85 ?_
      refine j_iret rfl ?_ dX10_mindsNow_86
      rw [hP]
      exact ⟨l2, A, rfl, rfl, h⟩
    · rw [if_neg c] at h
      refine j_aload_n 0 rfl dX10_mindsNow_22 ?_
      refine j_getfr fl_X10_137_9 rfl (m_lt hf (by decide)) (fk_1198 hf) (fg_1198_57 hf) dX10_mindsNow_23 ?_
      refine j_bipush (v := 27) dX10_mindsNow_26 (by decide) ?_
      refine j_iload 4 rfl dX10_mindsNow_28 ?_
      refine j_iadd dX10_mindsNow_30 ?_
      obtain ⟨b2, h⟩ := h
      refine j_ialdJ (j := (27 + l4).toNatClampNeg) (m_lt hf (by decide)) (fk_1238 hf) b2 rfl dX10_mindsNow_31 ?_
      refine j_iconst (v := 1) dX10_mindsNow_32 (by decide) ?_
      refine j_icmp_eq (tgt := 79) dX10_mindsNow_33 (by decide) (fun c => ?_) (fun c => ?_)
      · rw [if_pos c] at h
        exact fX10_mindsNow_J79_ok hf Q P hP (fun x0 x1 x2 x3 x4 => fX10_mindsNow_L8   Q n9 x0 x1 x2 x3 x4) (fun x0 x1 x2 x3 x4 h9 => ih x0 x1 x2 x3 x4 h9) l1 l2 l3 l4 A h
      · rw [if_neg c] at h
        refine j_aload_n 0 rfl dX10_mindsNow_36 ?_
        refine j_iload_n 1 rfl dX10_mindsNow_37 ?_
        refine j_iload 4 rfl dX10_mindsNow_38 ?_
        refine j_callV (b := 1198) (As := [.int l1, .int l4]) (st := []) (C := RX10) (kc' := 0) (ks' := 0) (tX10_farTo hf l1 l4 _ h) myX10_farTo rfl q1944 q1946 qs95 (by decide) (fun s9 H9 hK9 hR9 h69 => jIs_in hK9 hR9 h69 (m_lt hf (by decide)) (fk_1198 hf) rfl) rfl (Nat.le_of_ble_eq_true rfl) rfl (by decide) (Nat.le_refl 0) (Nat.le_refl 0) dX10_mindsNow_40 (fun v9 u9 hq => ?_) (fun k9 u9 hq => by obtain ⟨_, e9, _⟩ := hq; cases e9)
        obtain ⟨r3, e9, rfl, h⟩ := hq
        obtain rfl := Sum.inl.inj e9
        show J Γ RX10 cX10_mindsNow 6 (some .int) "mindsNow" [] 4 0 0 43 [(0, .ref 1198), (1, .int l1), (2, .int l2), (3, .int l3), (4, .int l4)] [.int r3] (n, K, A, Lg, G) P
        refine j_bipush (v := 99) dX10_mindsNow_43 (by decide) ?_
        refine j_icmp_lt (tgt := 51) dX10_mindsNow_45 (by decide) (fun c => ?_) (fun c => ?_)
        · rw [if_pos c] at h
          refine j_aload_n 0 rfl dX10_mindsNow_51 ?_
          refine j_iload_n 1 rfl dX10_mindsNow_52 ?_
          refine j_iload 4 rfl dX10_mindsNow_53 ?_
          refine j_callV (b := 1198) (As := [.int l1, .int l4]) (st := []) (C := RX10) (kc' := 0) (ks' := 0) (tX10_wantsOf hf l1 l4 _ h) myX10_wantsOf rfl q1928 q1930 qs91 (by decide) (fun s9 H9 hK9 hR9 h69 => jIs_in hK9 hR9 h69 (m_lt hf (by decide)) (fk_1198 hf) rfl) rfl (Nat.le_of_ble_eq_true rfl) rfl (by decide) (Nat.le_refl 0) (Nat.le_refl 0) dX10_mindsNow_55 (fun v9 u9 hq => ?_) (fun k9 u9 hq => by obtain ⟨_, _, e9, _⟩ := hq; cases e9)
          obtain ⟨r4, A5, e9, rfl, h⟩ := hq
          obtain rfl := Sum.inl.inj e9
          show J Γ RX10 cX10_mindsNow 6 (some .int) "mindsNow" [] 4 0 0 58 [(0, .ref 1198), (1, .int l1), (2, .int l2), (3, .int l3), (4, .int l4)] [.int r4] (n, K, A5, Lg, G) P
          refine j_istore (by decide) rfl dX10_mindsNow_58 ?_
          refine j_iload_n 3 rfl dX10_mindsNow_60 ?_
          refine j_if_lt (tgt := 73) dX10_mindsNow_61 (by decide) (fun c => ?_) (fun c => ?_)
          · rw [if_pos c] at h
            refine j_ls [1, 2, 5, 0] rfl ?_
            exact fX10_mindsNow_J73_ok hf Q P hP (fun x0 x1 x2 x3 x4 => fX10_mindsNow_L8   Q n9 x0 x1 x2 x3 x4) (fun x0 x1 x2 x3 x4 h9 => ih x0 x1 x2 x3 x4 h9) l1 l4 r4 A5 h
          · rw [if_neg c] at h
            refine j_iload 0 rfl dX10_mindsNow_64 ?_
            refine j_iload_n 4 rfl dX10_mindsNow_66 ?_
            refine j_icmp_gt (tgt := 73) dX10_mindsNow_67 (by decide) (fun c => ?_) (fun c => ?_)
            · rw [if_pos c] at h
              refine j_ls [1, 2, 5, 0] rfl ?_
              exact fX10_mindsNow_J73_ok hf Q P hP (fun x0 x1 x2 x3 x4 => fX10_mindsNow_L8   Q n9 x0 x1 x2 x3 x4) (fun x0 x1 x2 x3 x4 h9 => ih x0 x1 x2 x3 x4 h9) l1 l4 r4 A5 h
            · rw [if_neg c] at h
              refine j_goto (tgt := 79) dX10_mindsNow_70 (by decide) ?_
              refine j_ls [1, 2, 3, 4, 5] rfl ?_
              exact fX10_mindsNow_J79_ok hf Q P hP (fun x0 x1 x2 x3 x4 => fX10_mindsNow_L8   Q n9 x0 x1 x2 x3 x4) (fun x0 x1 x2 x3 x4 h9 => ih x0 x1 x2 x3 x4 h9) l1 l2 l3 l4 A5 h
        · rw [if_neg c] at h
          refine j_goto (tgt := 79) dX10_mindsNow_48 (by decide) ?_
          exact fX10_mindsNow_J79_ok hf Q P hP (fun x0 x1 x2 x3 x4 => fX10_mindsNow_L8   Q n9 x0 x1 x2 x3 x4) (fun x0 x1 x2 x3 x4 h9 => ih x0 x1 x2 x3 x4 h9) l1 l2 l3 l4 A h
def fX10_mindsNow (A : pA) (p1 : Int32) (Q : Int32 → pA → Prop) : Prop :=
    ∃ m6, fX10_mindsNow_L8   Q m6 p1 (-2) 0 0 A
theorem tX10_mindsNow {Γ : jG} {n : Nat} {K : Nat → pKd} {G : pG} {Lg : pL} (hf : mOK n K G) {A : pA} (p1 : Int32) (Q : Int32 → pA → Prop) (h : fX10_mindsNow A p1 Q) : jMet Γ yX10_mindsNow cX10_mindsNow 6 (some .int) [] 4 0 0 [.ref 1198, .int p1] (n, K, A, Lg, G) (fun o u => ∃ (r : Int32) (A' : pA), o = .inl (some (.int r)) ∧ u = (n, K, A', Lg, G) ∧ Q r A') := by
  unfold fX10_mindsNow at h
  obtain ⟨P, hP⟩ : ∃ P : jO → pS → Prop, P = (fun o u => ∃ (r : Int32) (A' : pA), o = .inl (some (.int r)) ∧ u = (n, K, A', Lg, G) ∧ Q r A') := ⟨_, rfl⟩
  rw [← hP]
  refine jMet_of rfl rfl rfl (Nat.le_of_ble_eq_true rfl) ?_
  show J Γ RX10 cX10_mindsNow 6 (some .int) "mindsNow" [] 4 0 0 0 [(0, .ref 1198), (1, .int p1)] [] (n, K, A, Lg, G) P
  refine j_bipush (v := (-2)) dX10_mindsNow_0 (by decide) ?_
  refine j_istore_n (by decide) rfl dX10_mindsNow_2 ?_
  refine j_iconst (v := 0) dX10_mindsNow_3 (by decide) ?_
  refine j_istore_n (by decide) rfl dX10_mindsNow_4 ?_
  refine j_iconst (v := 0) dX10_mindsNow_5 (by decide) ?_
  refine j_istore (by decide) rfl dX10_mindsNow_6 ?_
  refine j_ls [3, 4, 2, 1, 0] rfl ?_
  obtain ⟨m6, h⟩ := h
  exact fX10_mindsNow_L8_ok hf Q P hP   m6 p1 (-2) 0 0 A h
theorem myX10_stepTo : jY yX10_stepTo cX10_stepTo 6 (some .int) 2 := ⟨q2006, q139, by decide +kernel, by decide +kernel, by decide⟩
def fX10_stepTo_J82 (A : pA) (k9 : Int32 → Int32 → Int32 → Int32 → Int32 → Prop) (Q : Int32 → Prop) (l1 : Int32) (l2 : Int32) (l3 : Int32) (l4 : Int32) (l5 : Int32) : Prop :=
    k9 l1 l2 l3 l4 (l5 + 1)
theorem fX10_stepTo_J82_ok {Γ : jG} {n : Nat} {K : Nat → pKd} {G : pG} {A : pA} {Lg : pL} (hf : mOK n K G) (Q : Int32 → Prop) (P : jO → pS → Prop) (hP : P = (fun o u => ∃ (r : Int32), o = .inl (some (.int r)) ∧ u = (n, K, A, Lg, G) ∧ Q r)) (k9 : Int32 → Int32 → Int32 → Int32 → Int32 → Prop) (ok9 : ∀ (l1 : Int32) (l2 : Int32) (l3 : Int32) (l4 : Int32) (l5 : Int32), k9 l1 l2 l3 l4 l5 → J Γ RX10 cX10_stepTo 6 (some .int) "stepTo" [] 1 0 0 9 [(0, .ref 1198), (1, .int l1), (2, .int l2), (3, .int l3), (4, .int l4), (5, .int l5)] [] (n, K, A, Lg, G) P) (l1 : Int32) (l2 : Int32) (l3 : Int32) (l4 : Int32) (l5 : Int32) (h : fX10_stepTo_J82 A k9 Q l1 l2 l3 l4 l5) : J Γ RX10 cX10_stepTo 6 (some .int) "stepTo" [] 1 0 0 82 [(0, .ref 1198), (1, .int l1), (2, .int l2), (3, .int l3), (4, .int l4), (5, .int l5)] [] (n, K, A, Lg, G) P := by
  unfold fX10_stepTo_J82 at h
  refine j_iinc (v := l5 + 1) 5 rfl rfl (by decide) rfl dX10_stepTo_82 ?_
  refine j_goto (tgt := 9) dX10_stepTo_85 (by decide) ?_
  refine j_ls [1, 2, 3, 4, 5, 0] rfl ?_
  exact ok9 l1 l2 l3 l4 (l5 + 1) h
def fX10_stepTo_L9 (A : pA)  (Q : Int32 → Prop) : Nat → Int32 → Int32 → Int32 → Int32 → Int32 → Prop
  | 0, _, _, _, _, _ => False
  | n9 + 1, l1, l2, l3, l4, l5 =>
    (vp_in (A 1198 18) 2) ∧ ((if (A 1208 (A 1198 18).toNatClampNeg) ≤ l5 then Q l3 else (vp_in ((7 * (A 1198 18)) + l1) 14) ∧ ((if (((A 1209 ((7 * (A 1198 18)) + l1).toNatClampNeg) >>> (l5 &&& 31)) &&& 1) = 0 then fX10_stepTo_J82 A (fun x0 x1 x2 x3 x4 => fX10_stepTo_L9 A  Q n9 x0 x1 x2 x3 x4) Q l1 l2 l3 l4 l5 else (vp_in ((7 * l5) + l2) 49) ∧ ((if (A 1236 ((7 * l5) + l2).toNatClampNeg) < l4 then (vp_in ((7 * l5) + l2) 49) ∧ (fX10_stepTo_J82 A (fun x0 x1 x2 x3 x4 => fX10_stepTo_L9 A  Q n9 x0 x1 x2 x3 x4) Q l1 l2 l5 (A 1236 ((7 * l5) + l2).toNatClampNeg) l5) else fX10_stepTo_J82 A (fun x0 x1 x2 x3 x4 => fX10_stepTo_L9 A  Q n9 x0 x1 x2 x3 x4) Q l1 l2 l3 l4 l5))))))
theorem fX10_stepTo_L9_ok {Γ : jG} {n : Nat} {K : Nat → pKd} {G : pG} {A : pA} {Lg : pL} (hf : mOK n K G) (Q : Int32 → Prop) (P : jO → pS → Prop) (hP : P = (fun o u => ∃ (r : Int32), o = .inl (some (.int r)) ∧ u = (n, K, A, Lg, G) ∧ Q r))    : ∀ (n9 : Nat) (l1 : Int32) (l2 : Int32) (l3 : Int32) (l4 : Int32) (l5 : Int32), fX10_stepTo_L9 A  Q n9 l1 l2 l3 l4 l5 → J Γ RX10 cX10_stepTo 6 (some .int) "stepTo" [] 1 0 0 9 [(0, .ref 1198), (1, .int l1), (2, .int l2), (3, .int l3), (4, .int l4), (5, .int l5)] [] (n, K, A, Lg, G) P := by
  intro n9
  induction n9 with
  | zero => intro l1 l2 l3 l4 l5 h; exact h.elim
  | succ n9 ih =>
    intro l1 l2 l3 l4 l5 h
    unfold fX10_stepTo_L9 at h
    refine j_iload 5 rfl dX10_stepTo_9 ?_
    refine j_aload_n 0 rfl dX10_stepTo_11 ?_
    refine j_getfr fl_X10_46_9 rfl (m_lt hf (by decide)) (fk_1198 hf) (fg_1198_23 hf) dX10_stepTo_12 ?_
    refine j_aload_n 0 rfl dX10_stepTo_15 ?_
    refine j_getfi fl_X10_242_9 rfl (m_lt hf (by decide)) (fk_1198 hf) dX10_stepTo_16 ?_
    obtain ⟨b1, h⟩ := h
    refine j_ialdJ (j := (A 1198 18).toNatClampNeg) (m_lt hf (by decide)) (fk_1208 hf) b1 rfl dX10_stepTo_19 ?_
    refine j_icmp_ge (tgt := 88) dX10_stepTo_20 (by decide) (fun c => ?_) (fun c => ?_)
    · rw [if_pos c] at h
      refine j_iload_n 3 rfl dX10_stepTo_88 ?_
      refine j_iret rfl ?_ dX10_stepTo_89
      rw [hP]
      exact ⟨l3, rfl, rfl, h⟩
    · rw [if_neg c] at h
      refine j_aload_n 0 rfl dX10_stepTo_23 ?_
      refine j_getfr fl_X10_49_9 rfl (m_lt hf (by decide)) (fk_1198 hf) (fg_1198_24 hf) dX10_stepTo_24 ?_
      refine j_bipush (v := 7) dX10_stepTo_27 (by decide) ?_
      refine j_aload_n 0 rfl dX10_stepTo_29 ?_
      refine j_getfi fl_X10_242_9 rfl (m_lt hf (by decide)) (fk_1198 hf) dX10_stepTo_30 ?_
      refine j_imul dX10_stepTo_33 ?_
      refine j_iload_n 1 rfl dX10_stepTo_34 ?_
      refine j_iadd dX10_stepTo_35 ?_
      obtain ⟨b2, h⟩ := h
      refine j_ialdJ (j := ((7 * (A 1198 18)) + l1).toNatClampNeg) (m_lt hf (by decide)) (fk_1209 hf) b2 rfl dX10_stepTo_36 ?_
      refine j_iload 5 rfl dX10_stepTo_37 ?_
      refine j_ishr dX10_stepTo_39 ?_
      refine j_iconst (v := 1) dX10_stepTo_40 (by decide) ?_
      refine j_iand dX10_stepTo_41 ?_
      refine j_if_eq (tgt := 82) dX10_stepTo_42 (by decide) (fun c => ?_) (fun c => ?_)
      · rw [if_pos c] at h
        exact fX10_stepTo_J82_ok hf Q P hP (fun x0 x1 x2 x3 x4 => fX10_stepTo_L9 A  Q n9 x0 x1 x2 x3 x4) (fun x0 x1 x2 x3 x4 h9 => ih x0 x1 x2 x3 x4 h9) l1 l2 l3 l4 l5 h
      · rw [if_neg c] at h
        refine j_aload_n 0 rfl dX10_stepTo_45 ?_
        refine j_getfr fl_X10_131_9 rfl (m_lt hf (by decide)) (fk_1198 hf) (fg_1198_55 hf) dX10_stepTo_46 ?_
        refine j_bipush (v := 7) dX10_stepTo_49 (by decide) ?_
        refine j_iload 5 rfl dX10_stepTo_51 ?_
        refine j_imul dX10_stepTo_53 ?_
        refine j_iload_n 2 rfl dX10_stepTo_54 ?_
        refine j_iadd dX10_stepTo_55 ?_
        obtain ⟨b3, h⟩ := h
        refine j_ialdJ (j := ((7 * l5) + l2).toNatClampNeg) (m_lt hf (by decide)) (fk_1236 hf) b3 rfl dX10_stepTo_56 ?_
        refine j_iload 4 rfl dX10_stepTo_57 ?_
        refine j_icmp_lt (tgt := 65) dX10_stepTo_59 (by decide) (fun c => ?_) (fun c => ?_)
        · rw [if_pos c] at h
          refine j_iload 5 rfl dX10_stepTo_65 ?_
          refine j_istore_n (by decide) rfl dX10_stepTo_67 ?_
          refine j_aload_n 1 rfl dX10_stepTo_68 ?_
          refine j_getfr fl_X10_131_9 rfl (m_lt hf (by decide)) (fk_1198 hf) (fg_1198_55 hf) dX10_stepTo_69 ?_
          refine j_bipush (v := 7) dX10_stepTo_72 (by decide) ?_
          refine j_iload 5 rfl dX10_stepTo_74 ?_
          refine j_imul dX10_stepTo_76 ?_
          refine j_iload_n 3 rfl dX10_stepTo_77 ?_
          refine j_iadd dX10_stepTo_78 ?_
          obtain ⟨b4, h⟩ := h
          refine j_ialdJ (j := ((7 * l5) + l2).toNatClampNeg) (m_lt hf (by decide)) (fk_1236 hf) b4 rfl dX10_stepTo_79 ?_
          refine j_istore (by decide) rfl dX10_stepTo_80 ?_
          refine j_ls [2, 3, 4, 1, 0, 5] rfl ?_
          exact fX10_stepTo_J82_ok hf Q P hP (fun x0 x1 x2 x3 x4 => fX10_stepTo_L9 A  Q n9 x0 x1 x2 x3 x4) (fun x0 x1 x2 x3 x4 h9 => ih x0 x1 x2 x3 x4 h9) l1 l2 l5 (A 1236 ((7 * l5) + l2).toNatClampNeg) l5 h
        · rw [if_neg c] at h
          refine j_goto (tgt := 82) dX10_stepTo_62 (by decide) ?_
          exact fX10_stepTo_J82_ok hf Q P hP (fun x0 x1 x2 x3 x4 => fX10_stepTo_L9 A  Q n9 x0 x1 x2 x3 x4) (fun x0 x1 x2 x3 x4 h9 => ih x0 x1 x2 x3 x4 h9) l1 l2 l3 l4 l5 h
def fX10_stepTo (A : pA) (p1 : Int32) (p2 : Int32) (Q : Int32 → Prop) : Prop :=
    ∃ m5, fX10_stepTo_L9 A  Q m5 p1 p2 p1 99 0
theorem tX10_stepTo {Γ : jG} {n : Nat} {K : Nat → pKd} {G : pG} {Lg : pL} (hf : mOK n K G) {A : pA} (p1 : Int32) (p2 : Int32) (Q : Int32 → Prop) (h : fX10_stepTo A p1 p2 Q) : jMet Γ yX10_stepTo cX10_stepTo 6 (some .int) [] 1 0 0 [.ref 1198, .int p1, .int p2] (n, K, A, Lg, G) (fun o u => ∃ (r : Int32), o = .inl (some (.int r)) ∧ u = (n, K, A, Lg, G) ∧ Q r) := by
  unfold fX10_stepTo at h
  obtain ⟨P, hP⟩ : ∃ P : jO → pS → Prop, P = (fun o u => ∃ (r : Int32), o = .inl (some (.int r)) ∧ u = (n, K, A, Lg, G) ∧ Q r) := ⟨_, rfl⟩
  rw [← hP]
  refine jMet_of rfl rfl rfl (Nat.le_of_ble_eq_true rfl) ?_
  show J Γ RX10 cX10_stepTo 6 (some .int) "stepTo" [] 1 0 0 0 [(0, .ref 1198), (1, .int p1), (2, .int p2)] [] (n, K, A, Lg, G) P
  refine j_iload_n 1 rfl dX10_stepTo_0 ?_
  refine j_istore_n (by decide) rfl dX10_stepTo_1 ?_
  refine j_bipush (v := 99) dX10_stepTo_2 (by decide) ?_
  refine j_istore (by decide) rfl dX10_stepTo_4 ?_
  refine j_iconst (v := 0) dX10_stepTo_6 (by decide) ?_
  refine j_istore (by decide) rfl dX10_stepTo_7 ?_
  refine j_ls [3, 4, 5, 2, 1, 0] rfl ?_
  obtain ⟨m5, h⟩ := h
  exact fX10_stepTo_L9_ok hf Q P hP   m5 p1 p2 p1 99 0 h
theorem myX10_dogGoes : jY yX10_dogGoes cX10_dogGoes 4 none 1 := ⟨q2018, q139, by decide +kernel, by decide +kernel, by decide⟩
def fX10_dogGoes (A : pA) (p1 : Int32) (Q : pA → Prop) : Prop :=
    fX10_mindsNow A p1 (fun r1 A2 => (if 0 ≤ r1 then (vp_in p1 77) ∧ ((vp_in (15 + r1) 77) ∧ ((if (A2 1238 (p1).toNatClampNeg) = (A2 1238 (15 + r1).toNatClampNeg) then fX10_bearsGrudge A2 p1 r1 (fun r5 => (if r5 = 0 then fX10_takesOf A2 p1 r1 (fun r15 A16 => (vp_in (23 + r1) 77) ∧ ((vp_in (23 + r1) 77) ∧ (∀ A19 : pA, A19 = pup A16 1238 (23 + r1).toNatClampNeg ((A16 1238 (23 + r1).toNatClampNeg) - r15) → (vp_in (5 + p1) 77) ∧ ((vp_in (5 + p1) 77) ∧ (∀ A22 : pA, A22 = pup A19 1238 (5 + p1).toNatClampNeg ((A19 1238 (5 + p1).toNatClampNeg) + r15) → (vp_in (10 + p1) 77) ∧ ((vp_in (10 + p1) 77) ∧ (∀ A25 : pA, A25 = pup A22 1238 (10 + p1).toNatClampNeg ((A22 1238 (10 + p1).toNatClampNeg) + r15) → Q A25))))))) else (vp_in (15 + r1) 77) ∧ (∀ A7 : pA, A7 = pup A2 1238 (15 + r1).toNatClampNeg 0 → (vp_in (19 + r1) 77) ∧ (∀ A9 : pA, A9 = pup A7 1238 (19 + r1).toNatClampNeg (-2) → (vp_in (27 + r1) 77) ∧ (∀ A11 : pA, A11 = pup A9 1238 (27 + r1).toNatClampNeg 1 → (vp_in (31 + r1) 77) ∧ ((vp_in (31 + r1) 77) ∧ (∀ A14 : pA, A14 = pup A11 1238 (31 + r1).toNatClampNeg ((A11 1238 (31 + r1).toNatClampNeg) + 1) → Q A14))))))) else (vp_in p1 77) ∧ ((vp_in (15 + r1) 77) ∧ (fX10_stepTo A2 (A2 1238 (p1).toNatClampNeg) (A2 1238 (15 + r1).toNatClampNeg) (fun r28 => (vp_in p1 77) ∧ (∀ A30 : pA, A30 = pup A2 1238 (p1).toNatClampNeg r28 → Q A30))))))) else Q A2))
theorem tX10_dogGoes {Γ : jG} {n : Nat} {K : Nat → pKd} {G : pG} {Lg : pL} (hf : mOK n K G) {A : pA} (p1 : Int32) (Q : pA → Prop) (h : fX10_dogGoes A p1 Q) : jMet Γ yX10_dogGoes cX10_dogGoes 4 none [] 5 0 0 [.ref 1198, .int p1] (n, K, A, Lg, G) (fun o u => ∃ (A' : pA), o = .inl none ∧ u = (n, K, A', Lg, G) ∧ Q A') := by
  unfold fX10_dogGoes at h
  obtain ⟨P, hP⟩ : ∃ P : jO → pS → Prop, P = (fun o u => ∃ (A' : pA), o = .inl none ∧ u = (n, K, A', Lg, G) ∧ Q A') := ⟨_, rfl⟩
  rw [← hP]
  refine jMet_of rfl rfl rfl (Nat.le_of_ble_eq_true rfl) ?_
  show J Γ RX10 cX10_dogGoes 4 none "dogGoes" [] 5 0 0 0 [(0, .ref 1198), (1, .int p1)] [] (n, K, A, Lg, G) P
  refine j_aload_n 0 rfl dX10_dogGoes_0 ?_
  refine j_iload_n 1 rfl dX10_dogGoes_1 ?_
  refine j_callV (b := 1198) (As := [.int p1]) (st := []) (C := RX10) (kc' := 0) (ks' := 0) (tX10_mindsNow hf p1 _ h) myX10_mindsNow rfl q2019 q2021 qs109 (by decide) (fun s9 H9 hK9 hR9 h69 => jIs_in hK9 hR9 h69 (m_lt hf (by decide)) (fk_1198 hf) rfl) rfl (Nat.le_of_ble_eq_true rfl) rfl (by decide) (Nat.le_refl 0) (Nat.le_refl 0) dX10_dogGoes_2 (fun v9 u9 hq => ?_) (fun k9 u9 hq => by obtain ⟨_, _, e9, _⟩ := hq; cases e9)
  obtain ⟨r1, A2, e9, rfl, h⟩ := hq
  obtain rfl := Sum.inl.inj e9
  show J Γ RX10 cX10_dogGoes 4 none "dogGoes" [] 5 0 0 5 [(0, .ref 1198), (1, .int p1)] [.int r1] (n, K, A2, Lg, G) P
  refine j_istore_n (by decide) rfl dX10_dogGoes_5 ?_
  refine j_iload_n 0 rfl dX10_dogGoes_6 ?_
  refine j_if_ge (tgt := 11) dX10_dogGoes_7 (by decide) (fun c => ?_) (fun c => ?_)
  · rw [if_pos c] at h
    refine j_aload_n 1 rfl dX10_dogGoes_11 ?_
    refine j_getfr fl_X10_137_9 rfl (m_lt hf (by decide)) (fk_1198 hf) (fg_1198_57 hf) dX10_dogGoes_12 ?_
    refine j_iload_n 2 rfl dX10_dogGoes_15 ?_
    obtain ⟨b3, h⟩ := h
    refine j_ialdJ (j := (p1).toNatClampNeg) (m_lt hf (by decide)) (fk_1238 hf) b3 rfl dX10_dogGoes_16 ?_
    refine j_aload_n 1 rfl dX10_dogGoes_17 ?_
    refine j_getfr fl_X10_137_9 rfl (m_lt hf (by decide)) (fk_1198 hf) (fg_1198_57 hf) dX10_dogGoes_18 ?_
    refine j_bipush (v := 15) dX10_dogGoes_21 (by decide) ?_
    refine j_iload_n 0 rfl dX10_dogGoes_23 ?_
    refine j_iadd dX10_dogGoes_24 ?_
    obtain ⟨b4, h⟩ := h
    refine j_ialdJ (j := (15 + r1).toNatClampNeg) (m_lt hf (by decide)) (fk_1238 hf) b4 rfl dX10_dogGoes_25 ?_
    refine j_icmp_eq (tgt := 55) dX10_dogGoes_26 (by decide) (fun c => ?_) (fun c => ?_)
    · rw [if_pos c] at h
      refine j_aload_n 1 rfl dX10_dogGoes_55 ?_
      refine j_iload_n 2 rfl dX10_dogGoes_56 ?_
      refine j_iload_n 0 rfl dX10_dogGoes_57 ?_
      refine j_callV (b := 1198) (As := [.int p1, .int r1]) (st := []) (C := RX10) (kc' := 0) (ks' := 0) (tX10_bearsGrudge hf p1 r1 _ h) myX10_bearsGrudge rfl q2023 q2025 qs110 (by decide) (fun s9 H9 hK9 hR9 h69 => jIs_in hK9 hR9 h69 (m_lt hf (by decide)) (fk_1198 hf) rfl) rfl (Nat.le_of_ble_eq_true rfl) rfl (by decide) (Nat.le_refl 0) (Nat.le_refl 0) dX10_dogGoes_58 (fun v9 u9 hq => ?_) (fun k9 u9 hq => by obtain ⟨_, e9, _⟩ := hq; cases e9)
      obtain ⟨r5, e9, rfl, h⟩ := hq
      obtain rfl := Sum.inl.inj e9
      show J Γ RX10 cX10_dogGoes 4 none "dogGoes" [] 5 0 0 61 [(2, .int r1), (0, .ref 1198), (1, .int p1)] [.int r5] (n, K, A2, Lg, G) P
      refine j_if_ne (tgt := 110) dX10_dogGoes_61 (by decide) (fun c => ?_) (fun c => ?_)
      · rw [if_neg c] at h
        refine j_aload_n 1 rfl dX10_dogGoes_110 ?_
        refine j_getfr fl_X10_137_9 rfl (m_lt hf (by decide)) (fk_1198 hf) (fg_1198_57 hf) dX10_dogGoes_111 ?_
        refine j_bipush (v := 15) dX10_dogGoes_114 (by decide) ?_
        refine j_iload_n 0 rfl dX10_dogGoes_116 ?_
        refine j_iadd dX10_dogGoes_117 ?_
        refine j_iconst (v := 0) dX10_dogGoes_118 (by decide) ?_
        obtain ⟨b6, h⟩ := h
        refine j_iastJ (j := (15 + r1).toNatClampNeg) (m_lt hf (by decide)) (fk_1238 hf) b6 rfl dX10_dogGoes_119 (fun A7 eA7 => ?_)
        replace h := h A7 eA7
        refine j_aload_n 1 rfl dX10_dogGoes_120 ?_
        refine j_getfr fl_X10_137_9 rfl (m_lt hf (by decide)) (fk_1198 hf) (fg_1198_57 hf) dX10_dogGoes_121 ?_
        refine j_bipush (v := 19) dX10_dogGoes_124 (by decide) ?_
        refine j_iload_n 0 rfl dX10_dogGoes_126 ?_
        refine j_iadd dX10_dogGoes_127 ?_
        refine j_bipush (v := (-2)) dX10_dogGoes_128 (by decide) ?_
        obtain ⟨b8, h⟩ := h
        refine j_iastJ (j := (19 + r1).toNatClampNeg) (m_lt hf (by decide)) (fk_1238 hf) b8 rfl dX10_dogGoes_130 (fun A9 eA9 => ?_)
        replace h := h A9 eA9
        refine j_aload_n 1 rfl dX10_dogGoes_131 ?_
        refine j_getfr fl_X10_137_9 rfl (m_lt hf (by decide)) (fk_1198 hf) (fg_1198_57 hf) dX10_dogGoes_132 ?_
        refine j_bipush (v := 27) dX10_dogGoes_135 (by decide) ?_
        refine j_iload_n 0 rfl dX10_dogGoes_137 ?_
        refine j_iadd dX10_dogGoes_138 ?_
        refine j_iconst (v := 1) dX10_dogGoes_139 (by decide) ?_
        obtain ⟨b10, h⟩ := h
        refine j_iastJ (j := (27 + r1).toNatClampNeg) (m_lt hf (by decide)) (fk_1238 hf) b10 rfl dX10_dogGoes_140 (fun A11 eA11 => ?_)
        replace h := h A11 eA11
        refine j_aload_n 1 rfl dX10_dogGoes_141 ?_
        refine j_getfr fl_X10_137_9 rfl (m_lt hf (by decide)) (fk_1198 hf) (fg_1198_57 hf) dX10_dogGoes_142 ?_
        refine j_bipush (v := 31) dX10_dogGoes_145 (by decide) ?_
        refine j_iload_n 0 rfl dX10_dogGoes_147 ?_
        refine j_iadd dX10_dogGoes_148 ?_
        refine j_dup2 rfl rfl dX10_dogGoes_149 ?_
        obtain ⟨b12, h⟩ := h
        refine j_ialdJ (j := (31 + r1).toNatClampNeg) (m_lt hf (by decide)) (fk_1238 hf) b12 rfl dX10_dogGoes_150 ?_
        refine j_iconst (v := 1) dX10_dogGoes_151 (by decide) ?_
        refine j_iadd dX10_dogGoes_152 ?_
        obtain ⟨b13, h⟩ := h
        refine j_iastJ (j := (31 + r1).toNatClampNeg) (m_lt hf (by decide)) (fk_1238 hf) b13 rfl dX10_dogGoes_153 (fun A14 eA14 => ?_)
        replace h := h A14 eA14
        refine j_vret rfl ?_ dX10_dogGoes_154
        rw [hP]
        exact ⟨A14, rfl, rfl, h⟩
      · rw [if_pos c] at h
        refine j_aload_n 1 rfl dX10_dogGoes_64 ?_
        refine j_iload_n 2 rfl dX10_dogGoes_65 ?_
        refine j_iload_n 0 rfl dX10_dogGoes_66 ?_
        refine j_callV (b := 1198) (As := [.int p1, .int r1]) (st := []) (C := RX10) (kc' := 0) (ks' := 0) (tX10_takesOf hf p1 r1 _ h) myX10_takesOf rfl q1956 q1958 qs98 (by decide) (fun s9 H9 hK9 hR9 h69 => jIs_in hK9 hR9 h69 (m_lt hf (by decide)) (fk_1198 hf) rfl) rfl (Nat.le_of_ble_eq_true rfl) rfl (by decide) (Nat.le_refl 0) (Nat.le_refl 0) dX10_dogGoes_67 (fun v9 u9 hq => ?_) (fun k9 u9 hq => by obtain ⟨_, _, e9, _⟩ := hq; cases e9)
        obtain ⟨r15, A16, e9, rfl, h⟩ := hq
        obtain rfl := Sum.inl.inj e9
        show J Γ RX10 cX10_dogGoes 4 none "dogGoes" [] 5 0 0 70 [(2, .int r1), (0, .ref 1198), (1, .int p1)] [.int r15] (n, K, A16, Lg, G) P
        refine j_istore_n (by decide) rfl dX10_dogGoes_70 ?_
        refine j_aload_n 2 rfl dX10_dogGoes_71 ?_
        refine j_getfr fl_X10_137_9 rfl (m_lt hf (by decide)) (fk_1198 hf) (fg_1198_57 hf) dX10_dogGoes_72 ?_
        refine j_bipush (v := 23) dX10_dogGoes_75 (by decide) ?_
        refine j_iload_n 1 rfl dX10_dogGoes_77 ?_
        refine j_iadd dX10_dogGoes_78 ?_
        refine j_dup2 rfl rfl dX10_dogGoes_79 ?_
        obtain ⟨b17, h⟩ := h
        refine j_ialdJ (j := (23 + r1).toNatClampNeg) (m_lt hf (by decide)) (fk_1238 hf) b17 rfl dX10_dogGoes_80 ?_
        refine j_iload_n 0 rfl dX10_dogGoes_81 ?_
        refine j_isub dX10_dogGoes_82 ?_
        obtain ⟨b18, h⟩ := h
        refine j_iastJ (j := (23 + r1).toNatClampNeg) (m_lt hf (by decide)) (fk_1238 hf) b18 rfl dX10_dogGoes_83 (fun A19 eA19 => ?_)
        replace h := h A19 eA19
        refine j_aload_n 2 rfl dX10_dogGoes_84 ?_
        refine j_getfr fl_X10_137_9 rfl (m_lt hf (by decide)) (fk_1198 hf) (fg_1198_57 hf) dX10_dogGoes_85 ?_
        refine j_iconst (v := 5) dX10_dogGoes_88 (by decide) ?_
        refine j_iload_n 3 rfl dX10_dogGoes_89 ?_
        refine j_iadd dX10_dogGoes_90 ?_
        refine j_dup2 rfl rfl dX10_dogGoes_91 ?_
        obtain ⟨b20, h⟩ := h
        refine j_ialdJ (j := (5 + p1).toNatClampNeg) (m_lt hf (by decide)) (fk_1238 hf) b20 rfl dX10_dogGoes_92 ?_
        refine j_iload_n 0 rfl dX10_dogGoes_93 ?_
        refine j_iadd dX10_dogGoes_94 ?_
        obtain ⟨b21, h⟩ := h
        refine j_iastJ (j := (5 + p1).toNatClampNeg) (m_lt hf (by decide)) (fk_1238 hf) b21 rfl dX10_dogGoes_95 (fun A22 eA22 => ?_)
        replace h := h A22 eA22
        refine j_aload_n 2 rfl dX10_dogGoes_96 ?_
        refine j_getfr fl_X10_137_9 rfl (m_lt hf (by decide)) (fk_1198 hf) (fg_1198_57 hf) dX10_dogGoes_97 ?_
        refine j_bipush (v := 10) dX10_dogGoes_100 (by decide) ?_
        refine j_iload_n 3 rfl dX10_dogGoes_102 ?_
        refine j_iadd dX10_dogGoes_103 ?_
        refine j_dup2 rfl rfl dX10_dogGoes_104 ?_
        obtain ⟨b23, h⟩ := h
        refine j_ialdJ (j := (10 + p1).toNatClampNeg) (m_lt hf (by decide)) (fk_1238 hf) b23 rfl dX10_dogGoes_105 ?_
        refine j_iload_n 0 rfl dX10_dogGoes_106 ?_
        refine j_iadd dX10_dogGoes_107 ?_
        obtain ⟨b24, h⟩ := h
        refine j_iastJ (j := (10 + p1).toNatClampNeg) (m_lt hf (by decide)) (fk_1238 hf) b24 rfl dX10_dogGoes_108 (fun A25 eA25 => ?_)
        replace h := h A25 eA25
        refine j_vret rfl ?_ dX10_dogGoes_109
        rw [hP]
        exact ⟨A25, rfl, rfl, h⟩
    · rw [if_neg c] at h
      refine j_aload_n 1 rfl dX10_dogGoes_29 ?_
      refine j_getfr fl_X10_137_9 rfl (m_lt hf (by decide)) (fk_1198 hf) (fg_1198_57 hf) dX10_dogGoes_30 ?_
      refine j_iload_n 2 rfl dX10_dogGoes_33 ?_
      refine j_aload_n 1 rfl dX10_dogGoes_34 ?_
      refine j_aload_n 1 rfl dX10_dogGoes_35 ?_
      refine j_getfr fl_X10_137_9 rfl (m_lt hf (by decide)) (fk_1198 hf) (fg_1198_57 hf) dX10_dogGoes_36 ?_
      refine j_iload_n 2 rfl dX10_dogGoes_39 ?_
      obtain ⟨b26, h⟩ := h
      refine j_ialdJ (j := (p1).toNatClampNeg) (m_lt hf (by decide)) (fk_1238 hf) b26 rfl dX10_dogGoes_40 ?_
      refine j_aload_n 1 rfl dX10_dogGoes_41 ?_
      refine j_getfr fl_X10_137_9 rfl (m_lt hf (by decide)) (fk_1198 hf) (fg_1198_57 hf) dX10_dogGoes_42 ?_
      refine j_bipush (v := 15) dX10_dogGoes_45 (by decide) ?_
      refine j_iload_n 0 rfl dX10_dogGoes_47 ?_
      refine j_iadd dX10_dogGoes_48 ?_
      obtain ⟨b27, h⟩ := h
      refine j_ialdJ (j := (15 + r1).toNatClampNeg) (m_lt hf (by decide)) (fk_1238 hf) b27 rfl dX10_dogGoes_49 ?_
      refine j_callV (b := 1198) (As := [.int (A2 1238 (p1).toNatClampNeg), .int (A2 1238 (15 + r1).toNatClampNeg)]) (st := [.int p1, .ref 1238]) (C := RX10) (kc' := 0) (ks' := 0) (tX10_stepTo hf (A2 1238 (p1).toNatClampNeg) (A2 1238 (15 + r1).toNatClampNeg) _ h) myX10_stepTo rfl q2003 q2005 qs105 (by decide) (fun s9 H9 hK9 hR9 h69 => jIs_in hK9 hR9 h69 (m_lt hf (by decide)) (fk_1198 hf) rfl) rfl (Nat.le_of_ble_eq_true rfl) rfl (by decide) (Nat.le_refl 0) (Nat.le_refl 0) dX10_dogGoes_50 (fun v9 u9 hq => ?_) (fun k9 u9 hq => by obtain ⟨_, e9, _⟩ := hq; cases e9)
      obtain ⟨r28, e9, rfl, h⟩ := hq
      obtain rfl := Sum.inl.inj e9
      show J Γ RX10 cX10_dogGoes 4 none "dogGoes" [] 5 0 0 53 [(2, .int r1), (0, .ref 1198), (1, .int p1)] [.int r28, .int p1, .ref 1238] (n, K, A2, Lg, G) P
      obtain ⟨b29, h⟩ := h
      refine j_iastJ (j := (p1).toNatClampNeg) (m_lt hf (by decide)) (fk_1238 hf) b29 rfl dX10_dogGoes_53 (fun A30 eA30 => ?_)
      replace h := h A30 eA30
      refine j_vret rfl ?_ dX10_dogGoes_54
      rw [hP]
      exact ⟨A30, rfl, rfl, h⟩
  · rw [if_neg c] at h
    refine j_vret rfl ?_ dX10_dogGoes_10
    rw [hP]
    exact ⟨A2, rfl, rfl, h⟩
theorem myX10_dogsRest : jY yX10_dogsRest cX10_dogsRest 2 none 0 := ⟨q2014, q139, by decide +kernel, by decide +kernel, by decide⟩
def fX10_dogsRest_L51   (Q : pA → Prop) : Nat → Int32 → pA → Prop
  | 0, _, _ => False
  | n9 + 1, l1, A =>
    (vp_in (A 1198 18) 2) ∧ ((if (A 1215 (A 1198 18).toNatClampNeg) ≤ l1 then Q A else (vp_in (27 + l1) 77) ∧ (∀ A3 : pA, A3 = pup A 1238 (27 + l1).toNatClampNeg 0 → fX10_dogsRest_L51   Q n9 (l1 + 1) A3)))
theorem fX10_dogsRest_L51_ok {Γ : jG} {n : Nat} {K : Nat → pKd} {G : pG} {Lg : pL} (hf : mOK n K G) (Q : pA → Prop) (P : jO → pS → Prop) (hP : P = (fun o u => ∃ (A' : pA), o = .inl none ∧ u = (n, K, A', Lg, G) ∧ Q A'))    : ∀ (n9 : Nat) (l1 : Int32) (A : pA), fX10_dogsRest_L51   Q n9 l1 A → J Γ RX10 cX10_dogsRest 2 none "dogsRest" [] 1 0 0 51 [(0, .ref 1198), (1, .int l1)] [] (n, K, A, Lg, G) P := by
  intro n9
  induction n9 with
  | zero => intro l1 A h; exact h.elim
  | succ n9 ih =>
    intro l1 A h
    unfold fX10_dogsRest_L51 at h
    refine j_iload_n 1 rfl dX10_dogsRest_51 ?_
    refine j_aload_n 0 rfl dX10_dogsRest_52 ?_
    refine j_getfr fl_X10_67_9 rfl (m_lt hf (by decide)) (fk_1198 hf) (fg_1198_30 hf) dX10_dogsRest_53 ?_
    refine j_aload_n 0 rfl dX10_dogsRest_56 ?_
    refine j_getfi fl_X10_242_9 rfl (m_lt hf (by decide)) (fk_1198 hf) dX10_dogsRest_57 ?_
    obtain ⟨b1, h⟩ := h
    refine j_ialdJ (j := (A 1198 18).toNatClampNeg) (m_lt hf (by decide)) (fk_1215 hf) b1 rfl dX10_dogsRest_60 ?_
    refine j_icmp_ge (tgt := 80) dX10_dogsRest_61 (by decide) (fun c => ?_) (fun c => ?_)
    · rw [if_pos c] at h
      refine j_vret rfl ?_ dX10_dogsRest_80
      rw [hP]
      exact ⟨A, rfl, rfl, h⟩
    · rw [if_neg c] at h
      refine j_aload_n 0 rfl dX10_dogsRest_64 ?_
      refine j_getfr fl_X10_137_9 rfl (m_lt hf (by decide)) (fk_1198 hf) (fg_1198_57 hf) dX10_dogsRest_65 ?_
      refine j_bipush (v := 27) dX10_dogsRest_68 (by decide) ?_
      refine j_iload_n 1 rfl dX10_dogsRest_70 ?_
      refine j_iadd dX10_dogsRest_71 ?_
      refine j_iconst (v := 0) dX10_dogsRest_72 (by decide) ?_
      obtain ⟨b2, h⟩ := h
      refine j_iastJ (j := (27 + l1).toNatClampNeg) (m_lt hf (by decide)) (fk_1238 hf) b2 rfl dX10_dogsRest_73 (fun A3 eA3 => ?_)
      replace h := h A3 eA3
      refine j_iinc (v := l1 + 1) 1 rfl rfl (by decide) rfl dX10_dogsRest_74 ?_
      refine j_goto (tgt := 51) dX10_dogsRest_77 (by decide) ?_
      refine j_ls [1, 0] rfl ?_
      exact ih (l1 + 1) A3 h
def fX10_dogsRest_L2   (Q : pA → Prop) : Nat → Int32 → pA → Prop
  | 0, _, _ => False
  | n9 + 1, l1, A =>
    (vp_in (A 1198 18) 2) ∧ ((if (A 1211 (A 1198 18).toNatClampNeg) ≤ l1 then ∃ m5, fX10_dogsRest_L51   Q m5 0 A else (vp_in ((5 * (A 1198 18)) + l1) 10) ∧ ((vp_in l1 77) ∧ (∀ A8 : pA, A8 = pup A 1238 (l1).toNatClampNeg (A 1212 ((5 * (A 1198 18)) + l1).toNatClampNeg) → (vp_in (5 + l1) 77) ∧ (∀ A10 : pA, A10 = pup A8 1238 (5 + l1).toNatClampNeg 0 → fX10_dogsRest_L2   Q n9 (l1 + 1) A10)))))
theorem fX10_dogsRest_L2_ok {Γ : jG} {n : Nat} {K : Nat → pKd} {G : pG} {Lg : pL} (hf : mOK n K G) (Q : pA → Prop) (P : jO → pS → Prop) (hP : P = (fun o u => ∃ (A' : pA), o = .inl none ∧ u = (n, K, A', Lg, G) ∧ Q A'))    : ∀ (n9 : Nat) (l1 : Int32) (A : pA), fX10_dogsRest_L2   Q n9 l1 A → J Γ RX10 cX10_dogsRest 2 none "dogsRest" [] 1 0 0 2 [(0, .ref 1198), (1, .int l1)] [] (n, K, A, Lg, G) P := by
  intro n9
  induction n9 with
  | zero => intro l1 A h; exact h.elim
  | succ n9 ih =>
    intro l1 A h
    unfold fX10_dogsRest_L2 at h
    refine j_iload_n 1 rfl dX10_dogsRest_2 ?_
    refine j_aload_n 0 rfl dX10_dogsRest_3 ?_
    refine j_getfr fl_X10_55_9 rfl (m_lt hf (by decide)) (fk_1198 hf) (fg_1198_26 hf) dX10_dogsRest_4 ?_
    refine j_aload_n 0 rfl dX10_dogsRest_7 ?_
    refine j_getfi fl_X10_242_9 rfl (m_lt hf (by decide)) (fk_1198 hf) dX10_dogsRest_8 ?_
    obtain ⟨b4, h⟩ := h
    refine j_ialdJ (j := (A 1198 18).toNatClampNeg) (m_lt hf (by decide)) (fk_1211 hf) b4 rfl dX10_dogsRest_11 ?_
    refine j_icmp_ge (tgt := 49) dX10_dogsRest_12 (by decide) (fun c => ?_) (fun c => ?_)
    · rw [if_pos c] at h
      refine j_iconst (v := 0) dX10_dogsRest_49 (by decide) ?_
      refine j_istore_n (by decide) rfl dX10_dogsRest_50 ?_
      refine j_ls [1, 0] rfl ?_
      obtain ⟨m5, h⟩ := h
      exact fX10_dogsRest_L51_ok hf Q P hP   m5 0 A h
    · rw [if_neg c] at h
      refine j_aload_n 0 rfl dX10_dogsRest_15 ?_
      refine j_getfr fl_X10_137_9 rfl (m_lt hf (by decide)) (fk_1198 hf) (fg_1198_57 hf) dX10_dogsRest_16 ?_
      refine j_iload_n 1 rfl dX10_dogsRest_19 ?_
      refine j_aload_n 0 rfl dX10_dogsRest_20 ?_
      refine j_getfr fl_X10_58_9 rfl (m_lt hf (by decide)) (fk_1198 hf) (fg_1198_27 hf) dX10_dogsRest_21 ?_
      refine j_iconst (v := 5) dX10_dogsRest_24 (by decide) ?_
      refine j_aload_n 0 rfl dX10_dogsRest_25 ?_
      refine j_getfi fl_X10_242_9 rfl (m_lt hf (by decide)) (fk_1198 hf) dX10_dogsRest_26 ?_
      refine j_imul dX10_dogsRest_29 ?_
      refine j_iload_n 1 rfl dX10_dogsRest_30 ?_
      refine j_iadd dX10_dogsRest_31 ?_
      obtain ⟨b6, h⟩ := h
      refine j_ialdJ (j := ((5 * (A 1198 18)) + l1).toNatClampNeg) (m_lt hf (by decide)) (fk_1212 hf) b6 rfl dX10_dogsRest_32 ?_
      obtain ⟨b7, h⟩ := h
      refine j_iastJ (j := (l1).toNatClampNeg) (m_lt hf (by decide)) (fk_1238 hf) b7 rfl dX10_dogsRest_33 (fun A8 eA8 => ?_)
      replace h := h A8 eA8
      refine j_aload_n 0 rfl dX10_dogsRest_34 ?_
      refine j_getfr fl_X10_137_9 rfl (m_lt hf (by decide)) (fk_1198 hf) (fg_1198_57 hf) dX10_dogsRest_35 ?_
      refine j_iconst (v := 5) dX10_dogsRest_38 (by decide) ?_
      refine j_iload_n 1 rfl dX10_dogsRest_39 ?_
      refine j_iadd dX10_dogsRest_40 ?_
      refine j_iconst (v := 0) dX10_dogsRest_41 (by decide) ?_
      obtain ⟨b9, h⟩ := h
      refine j_iastJ (j := (5 + l1).toNatClampNeg) (m_lt hf (by decide)) (fk_1238 hf) b9 rfl dX10_dogsRest_42 (fun A10 eA10 => ?_)
      replace h := h A10 eA10
      refine j_iinc (v := l1 + 1) 1 rfl rfl (by decide) rfl dX10_dogsRest_43 ?_
      refine j_goto (tgt := 2) dX10_dogsRest_46 (by decide) ?_
      refine j_ls [1, 0] rfl ?_
      exact ih (l1 + 1) A10 h
def fX10_dogsRest (A : pA) (Q : pA → Prop) : Prop :=
    ∃ m11, fX10_dogsRest_L2   Q m11 0 A
theorem tX10_dogsRest {Γ : jG} {n : Nat} {K : Nat → pKd} {G : pG} {Lg : pL} (hf : mOK n K G) {A : pA}  (Q : pA → Prop) (h : fX10_dogsRest A Q) : jMet Γ yX10_dogsRest cX10_dogsRest 2 none [] 1 0 0 [.ref 1198] (n, K, A, Lg, G) (fun o u => ∃ (A' : pA), o = .inl none ∧ u = (n, K, A', Lg, G) ∧ Q A') := by
  unfold fX10_dogsRest at h
  obtain ⟨P, hP⟩ : ∃ P : jO → pS → Prop, P = (fun o u => ∃ (A' : pA), o = .inl none ∧ u = (n, K, A', Lg, G) ∧ Q A') := ⟨_, rfl⟩
  rw [← hP]
  refine jMet_of rfl rfl rfl (Nat.le_of_ble_eq_true rfl) ?_
  show J Γ RX10 cX10_dogsRest 2 none "dogsRest" [] 1 0 0 0 [(0, .ref 1198)] [] (n, K, A, Lg, G) P
  refine j_iconst (v := 0) dX10_dogsRest_0 (by decide) ?_
  refine j_istore_n (by decide) rfl dX10_dogsRest_1 ?_
  refine j_ls [1, 0] rfl ?_
  obtain ⟨m11, h⟩ := h
  exact fX10_dogsRest_L2_ok hf Q P hP   m11 0 A h
theorem myX10_fades : jY yX10_fades cX10_fades 5 none 2 := ⟨q2030, q139, by decide +kernel, by decide +kernel, by decide⟩
def fX10_fades (A : pA) (p1 : Int32) (p2 : Int32) (Q : pA → Prop) : Prop :=
    fX10_fadesOf A p1 p2 (fun r1 A2 => (vp_in (35 + ((4 * p1) + p2)) 77) ∧ (fX10_within A2 ((A2 1238 (35 + ((4 * p1) + p2)).toNatClampNeg) - r1) 0 999 (fun r4 => (vp_in (35 + ((4 * p1) + p2)) 77) ∧ (∀ A6 : pA, A6 = pup A2 1238 (35 + ((4 * p1) + p2)).toNatClampNeg r4 → (vp_in (55 + ((4 * p1) + p2)) 77) ∧ (fX10_within A6 ((A6 1238 (55 + ((4 * p1) + p2)).toNatClampNeg) - r1) 0 999 (fun r8 => (vp_in (55 + ((4 * p1) + p2)) 77) ∧ (∀ A10 : pA, A10 = pup A6 1238 (55 + ((4 * p1) + p2)).toNatClampNeg r8 → Q A10)))))))
theorem tX10_fades {Γ : jG} {n : Nat} {K : Nat → pKd} {G : pG} {Lg : pL} (hf : mOK n K G) {A : pA} (p1 : Int32) (p2 : Int32) (Q : pA → Prop) (h : fX10_fades A p1 p2 Q) : jMet Γ yX10_fades cX10_fades 5 none [] 4 0 0 [.ref 1198, .int p1, .int p2] (n, K, A, Lg, G) (fun o u => ∃ (A' : pA), o = .inl none ∧ u = (n, K, A', Lg, G) ∧ Q A') := by
  unfold fX10_fades at h
  obtain ⟨P, hP⟩ : ∃ P : jO → pS → Prop, P = (fun o u => ∃ (A' : pA), o = .inl none ∧ u = (n, K, A', Lg, G) ∧ Q A') := ⟨_, rfl⟩
  rw [← hP]
  refine jMet_of rfl rfl rfl (Nat.le_of_ble_eq_true rfl) ?_
  show J Γ RX10 cX10_fades 5 none "fades" [] 4 0 0 0 [(0, .ref 1198), (1, .int p1), (2, .int p2)] [] (n, K, A, Lg, G) P
  refine j_aload_n 0 rfl dX10_fades_0 ?_
  refine j_iload_n 1 rfl dX10_fades_1 ?_
  refine j_iload_n 2 rfl dX10_fades_2 ?_
  refine j_callV (b := 1198) (As := [.int p1, .int p2]) (st := []) (C := RX10) (kc' := 0) (ks' := 0) (tX10_fadesOf hf p1 p2 _ h) myX10_fadesOf rfl q1963 q1965 qs99 (by decide) (fun s9 H9 hK9 hR9 h69 => jIs_in hK9 hR9 h69 (m_lt hf (by decide)) (fk_1198 hf) rfl) rfl (Nat.le_of_ble_eq_true rfl) rfl (by decide) (Nat.le_refl 0) (Nat.le_refl 0) dX10_fades_3 (fun v9 u9 hq => ?_) (fun k9 u9 hq => by obtain ⟨_, _, e9, _⟩ := hq; cases e9)
  obtain ⟨r1, A2, e9, rfl, h⟩ := hq
  obtain rfl := Sum.inl.inj e9
  show J Γ RX10 cX10_fades 5 none "fades" [] 4 0 0 6 [(0, .ref 1198), (1, .int p1), (2, .int p2)] [.int r1] (n, K, A2, Lg, G) P
  refine j_istore_n (by decide) rfl dX10_fades_6 ?_
  refine j_iconst (v := 4) dX10_fades_7 (by decide) ?_
  refine j_iload_n 2 rfl dX10_fades_8 ?_
  refine j_imul dX10_fades_9 ?_
  refine j_iload_n 3 rfl dX10_fades_10 ?_
  refine j_iadd dX10_fades_11 ?_
  refine j_istore (by decide) rfl dX10_fades_12 ?_
  refine j_aload_n 2 rfl dX10_fades_14 ?_
  refine j_getfr fl_X10_137_9 rfl (m_lt hf (by decide)) (fk_1198 hf) (fg_1198_57 hf) dX10_fades_15 ?_
  refine j_bipush (v := 35) dX10_fades_18 (by decide) ?_
  refine j_iload 0 rfl dX10_fades_20 ?_
  refine j_iadd dX10_fades_22 ?_
  refine j_aload_n 2 rfl dX10_fades_23 ?_
  refine j_getfr fl_X10_137_9 rfl (m_lt hf (by decide)) (fk_1198 hf) (fg_1198_57 hf) dX10_fades_24 ?_
  refine j_bipush (v := 35) dX10_fades_27 (by decide) ?_
  refine j_iload 0 rfl dX10_fades_29 ?_
  refine j_iadd dX10_fades_31 ?_
  obtain ⟨b3, h⟩ := h
  refine j_ialdJ (j := (35 + ((4 * p1) + p2)).toNatClampNeg) (m_lt hf (by decide)) (fk_1238 hf) b3 rfl dX10_fades_32 ?_
  refine j_iload_n 1 rfl dX10_fades_33 ?_
  refine j_isub dX10_fades_34 ?_
  refine j_iconst (v := 0) dX10_fades_35 (by decide) ?_
  refine j_sipush (v := 999) dX10_fades_36 (by decide) ?_
  refine j_callS (As := [.int ((A2 1238 (35 + ((4 * p1) + p2)).toNatClampNeg) - r1), .int 0, .int 999]) (st := [.int (35 + ((4 * p1) + p2)), .ref 1238]) (kc' := 0) (ks' := 0) (tX10_within hf ((A2 1238 (35 + ((4 * p1) + p2)).toNatClampNeg) - r1) 0 999 _ h) myX10_within q1960 q1961 rfl (Nat.le_of_ble_eq_true rfl) rfl (by decide) (Nat.le_refl 0) (Nat.le_refl 0) dX10_fades_39 (fun v9 u9 hq => ?_) (fun k9 u9 hq => by obtain ⟨_, e9, _⟩ := hq; cases e9)
  obtain ⟨r4, e9, rfl, h⟩ := hq
  obtain rfl := Sum.inl.inj e9
  show J Γ RX10 cX10_fades 5 none "fades" [] 4 0 0 42 [(4, .int ((4 * p1) + p2)), (3, .int r1), (0, .ref 1198), (1, .int p1), (2, .int p2)] [.int r4, .int (35 + ((4 * p1) + p2)), .ref 1238] (n, K, A2, Lg, G) P
  obtain ⟨b5, h⟩ := h
  refine j_iastJ (j := (35 + ((4 * p1) + p2)).toNatClampNeg) (m_lt hf (by decide)) (fk_1238 hf) b5 rfl dX10_fades_42 (fun A6 eA6 => ?_)
  replace h := h A6 eA6
  refine j_aload_n 2 rfl dX10_fades_43 ?_
  refine j_getfr fl_X10_137_9 rfl (m_lt hf (by decide)) (fk_1198 hf) (fg_1198_57 hf) dX10_fades_44 ?_
  refine j_bipush (v := 55) dX10_fades_47 (by decide) ?_
  refine j_iload 0 rfl dX10_fades_49 ?_
  refine j_iadd dX10_fades_51 ?_
  refine j_aload_n 2 rfl dX10_fades_52 ?_
  refine j_getfr fl_X10_137_9 rfl (m_lt hf (by decide)) (fk_1198 hf) (fg_1198_57 hf) dX10_fades_53 ?_
  refine j_bipush (v := 55) dX10_fades_56 (by decide) ?_
  refine j_iload 0 rfl dX10_fades_58 ?_
  refine j_iadd dX10_fades_60 ?_
  obtain ⟨b7, h⟩ := h
  refine j_ialdJ (j := (55 + ((4 * p1) + p2)).toNatClampNeg) (m_lt hf (by decide)) (fk_1238 hf) b7 rfl dX10_fades_61 ?_
  refine j_iload_n 1 rfl dX10_fades_62 ?_
  refine j_isub dX10_fades_63 ?_
  refine j_iconst (v := 0) dX10_fades_64 (by decide) ?_
  refine j_sipush (v := 999) dX10_fades_65 (by decide) ?_
  refine j_callS (As := [.int ((A6 1238 (55 + ((4 * p1) + p2)).toNatClampNeg) - r1), .int 0, .int 999]) (st := [.int (55 + ((4 * p1) + p2)), .ref 1238]) (kc' := 0) (ks' := 0) (tX10_within hf ((A6 1238 (55 + ((4 * p1) + p2)).toNatClampNeg) - r1) 0 999 _ h) myX10_within q1960 q1961 rfl (Nat.le_of_ble_eq_true rfl) rfl (by decide) (Nat.le_refl 0) (Nat.le_refl 0) dX10_fades_68 (fun v9 u9 hq => ?_) (fun k9 u9 hq => by obtain ⟨_, e9, _⟩ := hq; cases e9)
  obtain ⟨r8, e9, rfl, h⟩ := hq
  obtain rfl := Sum.inl.inj e9
  show J Γ RX10 cX10_fades 5 none "fades" [] 4 0 0 71 [(4, .int ((4 * p1) + p2)), (3, .int r1), (0, .ref 1198), (1, .int p1), (2, .int p2)] [.int r8, .int (55 + ((4 * p1) + p2)), .ref 1238] (n, K, A6, Lg, G) P
  obtain ⟨b9, h⟩ := h
  refine j_iastJ (j := (55 + ((4 * p1) + p2)).toNatClampNeg) (m_lt hf (by decide)) (fk_1238 hf) b9 rfl dX10_fades_71 (fun A10 eA10 => ?_)
  replace h := h A10 eA10
  refine j_vret rfl ?_ dX10_fades_72
  rw [hP]
  exact ⟨A10, rfl, rfl, h⟩
theorem myX10_isHour : jY yX10_isHour cX10_isHour 1 (some .boolean) 0 := ⟨q2010, q139, by decide +kernel, by decide +kernel, by decide⟩
def fX10_isHour (A : pA) (Q : Int32 → Prop) : Prop :=
    fX10_minuteNow A (fun r1 => (vp_in (A 1198 18) 2) ∧ ((vp_in (A 1198 18) 2) ∧ (fX10_in A r1 (A 1221 (A 1198 18).toNatClampNeg) ((A 1222 (A 1198 18).toNatClampNeg) - 1) (fun r4 => (narrow .boolean (.int r4) = .int r4) ∧ (Q r4)))))
theorem tX10_isHour {Γ : jG} {n : Nat} {K : Nat → pKd} {G : pG} {Lg : pL} (hf : mOK n K G) {A : pA}  (Q : Int32 → Prop) (h : fX10_isHour A Q) : jMet Γ yX10_isHour cX10_isHour 1 (some .boolean) [] 2 0 0 [.ref 1198] (n, K, A, Lg, G) (fun o u => ∃ (r : Int32), o = .inl (some (.int r)) ∧ u = (n, K, A, Lg, G) ∧ Q r) := by
  unfold fX10_isHour at h
  obtain ⟨P, hP⟩ : ∃ P : jO → pS → Prop, P = (fun o u => ∃ (r : Int32), o = .inl (some (.int r)) ∧ u = (n, K, A, Lg, G) ∧ Q r) := ⟨_, rfl⟩
  rw [← hP]
  refine jMet_of rfl rfl rfl (Nat.le_of_ble_eq_true rfl) ?_
  show J Γ RX10 cX10_isHour 1 (some .boolean) "isHour" [] 2 0 0 0 [(0, .ref 1198)] [] (n, K, A, Lg, G) P
  refine j_aload_n 0 rfl dX10_isHour_0 ?_
  refine j_callV (b := 1198) (As := []) (st := []) (C := RX10) (kc' := 0) (ks' := 0) (tX10_minuteNow hf  _ h) myX10_minuteNow rfl q1936 q1938 qs93 (by decide) (fun s9 H9 hK9 hR9 h69 => jIs_in hK9 hR9 h69 (m_lt hf (by decide)) (fk_1198 hf) rfl) rfl (Nat.le_of_ble_eq_true rfl) rfl (by decide) (Nat.le_refl 0) (Nat.le_refl 0) dX10_isHour_1 (fun v9 u9 hq => ?_) (fun k9 u9 hq => by obtain ⟨_, e9, _⟩ := hq; cases e9)
  obtain ⟨r1, e9, rfl, h⟩ := hq
  obtain rfl := Sum.inl.inj e9
  show J Γ RX10 cX10_isHour 1 (some .boolean) "isHour" [] 2 0 0 4 [(0, .ref 1198)] [.int r1] (n, K, A, Lg, G) P
  refine j_aload_n 0 rfl dX10_isHour_4 ?_
  refine j_getfr fl_X10_85_9 rfl (m_lt hf (by decide)) (fk_1198 hf) (fg_1198_36 hf) dX10_isHour_5 ?_
  refine j_aload_n 0 rfl dX10_isHour_8 ?_
  refine j_getfi fl_X10_242_9 rfl (m_lt hf (by decide)) (fk_1198 hf) dX10_isHour_9 ?_
  obtain ⟨b2, h⟩ := h
  refine j_ialdJ (j := (A 1198 18).toNatClampNeg) (m_lt hf (by decide)) (fk_1221 hf) b2 rfl dX10_isHour_12 ?_
  refine j_aload_n 0 rfl dX10_isHour_13 ?_
  refine j_getfr fl_X10_88_9 rfl (m_lt hf (by decide)) (fk_1198 hf) (fg_1198_37 hf) dX10_isHour_14 ?_
  refine j_aload_n 0 rfl dX10_isHour_17 ?_
  refine j_getfi fl_X10_242_9 rfl (m_lt hf (by decide)) (fk_1198 hf) dX10_isHour_18 ?_
  obtain ⟨b3, h⟩ := h
  refine j_ialdJ (j := (A 1198 18).toNatClampNeg) (m_lt hf (by decide)) (fk_1222 hf) b3 rfl dX10_isHour_21 ?_
  refine j_iconst (v := 1) dX10_isHour_22 (by decide) ?_
  refine j_isub dX10_isHour_23 ?_
  refine j_callS (As := [.int r1, .int (A 1221 (A 1198 18).toNatClampNeg), .int ((A 1222 (A 1198 18).toNatClampNeg) - 1)]) (st := []) (kc' := 0) (ks' := 0) (tX10_in hf r1 (A 1221 (A 1198 18).toNatClampNeg) ((A 1222 (A 1198 18).toNatClampNeg) - 1) _ h) myX10_in q1892 q1893 rfl (Nat.le_of_ble_eq_true rfl) rfl (by decide) (Nat.le_refl 0) (Nat.le_refl 0) dX10_isHour_24 (fun v9 u9 hq => ?_) (fun k9 u9 hq => by obtain ⟨_, e9, _⟩ := hq; cases e9)
  obtain ⟨r4, e9, rfl, h⟩ := hq
  obtain rfl := Sum.inl.inj e9
  show J Γ RX10 cX10_isHour 1 (some .boolean) "isHour" [] 2 0 0 27 [(0, .ref 1198)] [.int r4] (n, K, A, Lg, G) P
  obtain ⟨b5, h⟩ := h
  refine j_zret rfl b5 ?_ dX10_isHour_27
  rw [hP]
  exact ⟨r4, rfl, rfl, h⟩
theorem myX10_personGoes : jY yX10_personGoes cX10_personGoes 4 none 1 := ⟨q2002, q139, by decide +kernel, by decide +kernel, by decide⟩
def fX10_personGoes_J146  (k76 : Int32 → Int32 → pA → Prop) (Q : pA → Prop) (l1 : Int32) (l3 : Int32) (A : pA) : Prop :=
    k76 l1 (l3 + 1) A
theorem fX10_personGoes_J146_ok {Γ : jG} {n : Nat} {K : Nat → pKd} {G : pG} {Lg : pL} (hf : mOK n K G) (Q : pA → Prop) (P : jO → pS → Prop) (hP : P = (fun o u => ∃ (A' : pA), o = .inl none ∧ u = (n, K, A', Lg, G) ∧ Q A')) (k76 : Int32 → Int32 → pA → Prop) (ok76 : ∀ (l1 : Int32) (l3 : Int32) (A : pA), k76 l1 l3 A → J Γ RX10 cX10_personGoes 4 none "personGoes" [] 2 0 0 76 [(0, .ref 1198), (1, .int l1), (3, .int l3)] [] (n, K, A, Lg, G) P) (l1 : Int32) (l3 : Int32) (A : pA) (h : fX10_personGoes_J146  k76 Q l1 l3 A) : J Γ RX10 cX10_personGoes 4 none "personGoes" [] 2 0 0 146 [(0, .ref 1198), (1, .int l1), (3, .int l3)] [] (n, K, A, Lg, G) P := by
  unfold fX10_personGoes_J146 at h
  refine j_iinc (v := l3 + 1) 2 rfl rfl (by decide) rfl dX10_personGoes_146 ?_
  refine j_goto (tgt := 76) dX10_personGoes_149 (by decide) ?_
  refine j_ls [1, 2, 0] rfl ?_
  exact ok76 l1 (l3 + 1) A h
def fX10_personGoes_L76   (Q : pA → Prop) : Nat → Int32 → Int32 → pA → Prop
  | 0, _, _, _ => False
  | n9 + 1, l1, l3, A =>
    (vp_in (A 1198 18) 2) ∧ ((if (A 1218 (A 1198 18).toNatClampNeg) ≤ l3 then Q A else (vp_in ((8 * (A 1198 18)) + l3) 16) ∧ ((if (A 1219 ((8 * (A 1198 18)) + l3).toNatClampNeg) = l1 then (vp_in ((8 * (A 1198 18)) + l3) 16) ∧ ((vp_in (15 + l1) 77) ∧ ((if (A 1220 ((8 * (A 1198 18)) + l3).toNatClampNeg) = (A 1238 (15 + l1).toNatClampNeg) then ∀ A5 : pA, A5 = pup A 1238 75 ((A 1238 75) ||| ((1 : Int32) <<< (l3 &&& 31))) → fX10_personGoes_J146  (fun x0 x1 x2 => fX10_personGoes_L76   Q n9 x0 x1 x2) Q l1 l3 A5 else fX10_personGoes_J146  (fun x0 x1 x2 => fX10_personGoes_L76   Q n9 x0 x1 x2) Q l1 l3 A))) else fX10_personGoes_J146  (fun x0 x1 x2 => fX10_personGoes_L76   Q n9 x0 x1 x2) Q l1 l3 A))))
theorem fX10_personGoes_L76_ok {Γ : jG} {n : Nat} {K : Nat → pKd} {G : pG} {Lg : pL} (hf : mOK n K G) (Q : pA → Prop) (P : jO → pS → Prop) (hP : P = (fun o u => ∃ (A' : pA), o = .inl none ∧ u = (n, K, A', Lg, G) ∧ Q A'))    : ∀ (n9 : Nat) (l1 : Int32) (l3 : Int32) (A : pA), fX10_personGoes_L76   Q n9 l1 l3 A → J Γ RX10 cX10_personGoes 4 none "personGoes" [] 2 0 0 76 [(0, .ref 1198), (1, .int l1), (3, .int l3)] [] (n, K, A, Lg, G) P := by
  intro n9
  induction n9 with
  | zero => intro l1 l3 A h; exact h.elim
  | succ n9 ih =>
    intro l1 l3 A h
    unfold fX10_personGoes_L76 at h
    refine j_iload_n 2 rfl dX10_personGoes_76 ?_
    refine j_aload_n 0 rfl dX10_personGoes_77 ?_
    refine j_getfr fl_X10_76_9 rfl (m_lt hf (by decide)) (fk_1198 hf) (fg_1198_33 hf) dX10_personGoes_78 ?_
    refine j_aload_n 0 rfl dX10_personGoes_81 ?_
    refine j_getfi fl_X10_242_9 rfl (m_lt hf (by decide)) (fk_1198 hf) dX10_personGoes_82 ?_
    obtain ⟨b1, h⟩ := h
    refine j_ialdJ (j := (A 1198 18).toNatClampNeg) (m_lt hf (by decide)) (fk_1218 hf) b1 rfl dX10_personGoes_85 ?_
    refine j_icmp_ge (tgt := 152) dX10_personGoes_86 (by decide) (fun c => ?_) (fun c => ?_)
    · rw [if_pos c] at h
      refine j_vret rfl ?_ dX10_personGoes_152
      rw [hP]
      exact ⟨A, rfl, rfl, h⟩
    · rw [if_neg c] at h
      refine j_aload_n 0 rfl dX10_personGoes_89 ?_
      refine j_getfr fl_X10_79_9 rfl (m_lt hf (by decide)) (fk_1198 hf) (fg_1198_34 hf) dX10_personGoes_90 ?_
      refine j_bipush (v := 8) dX10_personGoes_93 (by decide) ?_
      refine j_aload_n 0 rfl dX10_personGoes_95 ?_
      refine j_getfi fl_X10_242_9 rfl (m_lt hf (by decide)) (fk_1198 hf) dX10_personGoes_96 ?_
      refine j_imul dX10_personGoes_99 ?_
      refine j_iload_n 2 rfl dX10_personGoes_100 ?_
      refine j_iadd dX10_personGoes_101 ?_
      obtain ⟨b2, h⟩ := h
      refine j_ialdJ (j := ((8 * (A 1198 18)) + l3).toNatClampNeg) (m_lt hf (by decide)) (fk_1219 hf) b2 rfl dX10_personGoes_102 ?_
      refine j_iload_n 1 rfl dX10_personGoes_103 ?_
      refine j_icmp_ne (tgt := 146) dX10_personGoes_104 (by decide) (fun c => ?_) (fun c => ?_)
      · rw [if_neg c] at h
        exact fX10_personGoes_J146_ok hf Q P hP (fun x0 x1 x2 => fX10_personGoes_L76   Q n9 x0 x1 x2) (fun x0 x1 x2 h9 => ih x0 x1 x2 h9) l1 l3 A h
      · rw [if_pos c] at h
        refine j_aload_n 0 rfl dX10_personGoes_107 ?_
        refine j_getfr fl_X10_82_9 rfl (m_lt hf (by decide)) (fk_1198 hf) (fg_1198_35 hf) dX10_personGoes_108 ?_
        refine j_bipush (v := 8) dX10_personGoes_111 (by decide) ?_
        refine j_aload_n 0 rfl dX10_personGoes_113 ?_
        refine j_getfi fl_X10_242_9 rfl (m_lt hf (by decide)) (fk_1198 hf) dX10_personGoes_114 ?_
        refine j_imul dX10_personGoes_117 ?_
        refine j_iload_n 2 rfl dX10_personGoes_118 ?_
        refine j_iadd dX10_personGoes_119 ?_
        obtain ⟨b3, h⟩ := h
        refine j_ialdJ (j := ((8 * (A 1198 18)) + l3).toNatClampNeg) (m_lt hf (by decide)) (fk_1220 hf) b3 rfl dX10_personGoes_120 ?_
        refine j_aload_n 0 rfl dX10_personGoes_121 ?_
        refine j_getfr fl_X10_137_9 rfl (m_lt hf (by decide)) (fk_1198 hf) (fg_1198_57 hf) dX10_personGoes_122 ?_
        refine j_bipush (v := 15) dX10_personGoes_125 (by decide) ?_
        refine j_iload_n 1 rfl dX10_personGoes_127 ?_
        refine j_iadd dX10_personGoes_128 ?_
        obtain ⟨b4, h⟩ := h
        refine j_ialdJ (j := (15 + l1).toNatClampNeg) (m_lt hf (by decide)) (fk_1238 hf) b4 rfl dX10_personGoes_129 ?_
        refine j_icmp_ne (tgt := 146) dX10_personGoes_130 (by decide) (fun c => ?_) (fun c => ?_)
        · rw [if_neg c] at h
          exact fX10_personGoes_J146_ok hf Q P hP (fun x0 x1 x2 => fX10_personGoes_L76   Q n9 x0 x1 x2) (fun x0 x1 x2 h9 => ih x0 x1 x2 h9) l1 l3 A h
        · rw [if_pos c] at h
          refine j_aload_n 0 rfl dX10_personGoes_133 ?_
          refine j_getfr fl_X10_137_9 rfl (m_lt hf (by decide)) (fk_1198 hf) (fg_1198_57 hf) dX10_personGoes_134 ?_
          refine j_bipush (v := 75) dX10_personGoes_137 (by decide) ?_
          refine j_dup2 rfl rfl dX10_personGoes_139 ?_
          refine j_ialdJ (j := 75) (m_lt hf (by decide)) (fk_1238 hf) (by unfold vp_in; decide) rfl dX10_personGoes_140 ?_
          refine j_iconst (v := 1) dX10_personGoes_141 (by decide) ?_
          refine j_iload_n 2 rfl dX10_personGoes_142 ?_
          refine j_ishl dX10_personGoes_143 ?_
          refine j_ior dX10_personGoes_144 ?_
          refine j_iastJ (j := 75) (m_lt hf (by decide)) (fk_1238 hf) (by unfold vp_in; decide) rfl dX10_personGoes_145 (fun A5 eA5 => ?_)
          replace h := h A5 eA5
          exact fX10_personGoes_J146_ok hf Q P hP (fun x0 x1 x2 => fX10_personGoes_L76   Q n9 x0 x1 x2) (fun x0 x1 x2 h9 => ih x0 x1 x2 h9) l1 l3 A5 h
def fX10_personGoes_J74   (Q : pA → Prop) (l1 : Int32) (A : pA) : Prop :=
    ∃ m6, fX10_personGoes_L76   Q m6 l1 0 A
theorem fX10_personGoes_J74_ok {Γ : jG} {n : Nat} {K : Nat → pKd} {G : pG} {Lg : pL} (hf : mOK n K G) (Q : pA → Prop) (P : jO → pS → Prop) (hP : P = (fun o u => ∃ (A' : pA), o = .inl none ∧ u = (n, K, A', Lg, G) ∧ Q A'))   (l1 : Int32) (A : pA) (h : fX10_personGoes_J74   Q l1 A) : J Γ RX10 cX10_personGoes 4 none "personGoes" [] 2 0 0 74 [(0, .ref 1198), (1, .int l1)] [] (n, K, A, Lg, G) P := by
  unfold fX10_personGoes_J74 at h
  refine j_iconst (v := 0) dX10_personGoes_74 (by decide) ?_
  refine j_istore_n (by decide) rfl dX10_personGoes_75 ?_
  refine j_ls [1, 2, 0] rfl ?_
  obtain ⟨m6, h⟩ := h
  exact fX10_personGoes_L76_ok hf Q P hP   m6 l1 0 A h
def fX10_personGoes (A : pA) (p1 : Int32) (Q : pA → Prop) : Prop :=
    (vp_in (19 + p1) 77) ∧ ((if (A 1238 (19 + p1).toNatClampNeg) < 0 then fX10_personGoes_J74   Q p1 A else (vp_in (15 + p1) 77) ∧ ((if (A 1238 (19 + p1).toNatClampNeg) = (A 1238 (15 + p1).toNatClampNeg) then fX10_personGoes_J74   Q p1 A else (vp_in (15 + p1) 77) ∧ ((vp_in ((7 * (A 1238 (15 + p1).toNatClampNeg)) + (A 1238 (19 + p1).toNatClampNeg)) 49) ∧ ((if 99 ≤ (A 1236 ((7 * (A 1238 (15 + p1).toNatClampNeg)) + (A 1238 (19 + p1).toNatClampNeg)).toNatClampNeg) then fX10_personGoes_J74   Q p1 A else (vp_in (15 + p1) 77) ∧ (fX10_stepTo A (A 1238 (15 + p1).toNatClampNeg) (A 1238 (19 + p1).toNatClampNeg) (fun r12 => (vp_in (15 + p1) 77) ∧ (∀ A14 : pA, A14 = pup A 1238 (15 + p1).toNatClampNeg r12 → fX10_personGoes_J74   Q p1 A14))))))))))
theorem tX10_personGoes {Γ : jG} {n : Nat} {K : Nat → pKd} {G : pG} {Lg : pL} (hf : mOK n K G) {A : pA} (p1 : Int32) (Q : pA → Prop) (h : fX10_personGoes A p1 Q) : jMet Γ yX10_personGoes cX10_personGoes 4 none [] 2 0 0 [.ref 1198, .int p1] (n, K, A, Lg, G) (fun o u => ∃ (A' : pA), o = .inl none ∧ u = (n, K, A', Lg, G) ∧ Q A') := by
  unfold fX10_personGoes at h
  obtain ⟨P, hP⟩ : ∃ P : jO → pS → Prop, P = (fun o u => ∃ (A' : pA), o = .inl none ∧ u = (n, K, A', Lg, G) ∧ Q A') := ⟨_, rfl⟩
  rw [← hP]
  refine jMet_of rfl rfl rfl (Nat.le_of_ble_eq_true rfl) ?_
  show J Γ RX10 cX10_personGoes 4 none "personGoes" [] 2 0 0 0 [(0, .ref 1198), (1, .int p1)] [] (n, K, A, Lg, G) P
  refine j_aload_n 0 rfl dX10_personGoes_0 ?_
  refine j_getfr fl_X10_137_9 rfl (m_lt hf (by decide)) (fk_1198 hf) (fg_1198_57 hf) dX10_personGoes_1 ?_
  refine j_bipush (v := 19) dX10_personGoes_4 (by decide) ?_
  refine j_iload_n 1 rfl dX10_personGoes_6 ?_
  refine j_iadd dX10_personGoes_7 ?_
  obtain ⟨b7, h⟩ := h
  refine j_ialdJ (j := (19 + p1).toNatClampNeg) (m_lt hf (by decide)) (fk_1238 hf) b7 rfl dX10_personGoes_8 ?_
  refine j_istore_n (by decide) rfl dX10_personGoes_9 ?_
  refine j_iload_n 0 rfl dX10_personGoes_10 ?_
  refine j_if_lt (tgt := 74) dX10_personGoes_11 (by decide) (fun c => ?_) (fun c => ?_)
  · rw [if_pos c] at h
    refine j_ls [1, 2] rfl ?_
    exact fX10_personGoes_J74_ok hf Q P hP   p1 A h
  · rw [if_neg c] at h
    refine j_iload_n 0 rfl dX10_personGoes_14 ?_
    refine j_aload_n 1 rfl dX10_personGoes_15 ?_
    refine j_getfr fl_X10_137_9 rfl (m_lt hf (by decide)) (fk_1198 hf) (fg_1198_57 hf) dX10_personGoes_16 ?_
    refine j_bipush (v := 15) dX10_personGoes_19 (by decide) ?_
    refine j_iload_n 2 rfl dX10_personGoes_21 ?_
    refine j_iadd dX10_personGoes_22 ?_
    obtain ⟨b8, h⟩ := h
    refine j_ialdJ (j := (15 + p1).toNatClampNeg) (m_lt hf (by decide)) (fk_1238 hf) b8 rfl dX10_personGoes_23 ?_
    refine j_icmp_eq (tgt := 74) dX10_personGoes_24 (by decide) (fun c => ?_) (fun c => ?_)
    · rw [if_pos c] at h
      refine j_ls [1, 2] rfl ?_
      exact fX10_personGoes_J74_ok hf Q P hP   p1 A h
    · rw [if_neg c] at h
      refine j_aload_n 1 rfl dX10_personGoes_27 ?_
      refine j_getfr fl_X10_131_9 rfl (m_lt hf (by decide)) (fk_1198 hf) (fg_1198_55 hf) dX10_personGoes_28 ?_
      refine j_bipush (v := 7) dX10_personGoes_31 (by decide) ?_
      refine j_aload_n 1 rfl dX10_personGoes_33 ?_
      refine j_getfr fl_X10_137_9 rfl (m_lt hf (by decide)) (fk_1198 hf) (fg_1198_57 hf) dX10_personGoes_34 ?_
      refine j_bipush (v := 15) dX10_personGoes_37 (by decide) ?_
      refine j_iload_n 2 rfl dX10_personGoes_39 ?_
      refine j_iadd dX10_personGoes_40 ?_
      obtain ⟨b9, h⟩ := h
      refine j_ialdJ (j := (15 + p1).toNatClampNeg) (m_lt hf (by decide)) (fk_1238 hf) b9 rfl dX10_personGoes_41 ?_
      refine j_imul dX10_personGoes_42 ?_
      refine j_iload_n 0 rfl dX10_personGoes_43 ?_
      refine j_iadd dX10_personGoes_44 ?_
      obtain ⟨b10, h⟩ := h
      refine j_ialdJ (j := ((7 * (A 1238 (15 + p1).toNatClampNeg)) + (A 1238 (19 + p1).toNatClampNeg)).toNatClampNeg) (m_lt hf (by decide)) (fk_1236 hf) b10 rfl dX10_personGoes_45 ?_
      refine j_bipush (v := 99) dX10_personGoes_46 (by decide) ?_
      refine j_icmp_ge (tgt := 74) dX10_personGoes_48 (by decide) (fun c => ?_) (fun c => ?_)
      · rw [if_pos c] at h
        refine j_ls [1, 2] rfl ?_
        exact fX10_personGoes_J74_ok hf Q P hP   p1 A h
      · rw [if_neg c] at h
        refine j_aload_n 1 rfl dX10_personGoes_51 ?_
        refine j_getfr fl_X10_137_9 rfl (m_lt hf (by decide)) (fk_1198 hf) (fg_1198_57 hf) dX10_personGoes_52 ?_
        refine j_bipush (v := 15) dX10_personGoes_55 (by decide) ?_
        refine j_iload_n 2 rfl dX10_personGoes_57 ?_
        refine j_iadd dX10_personGoes_58 ?_
        refine j_aload_n 1 rfl dX10_personGoes_59 ?_
        refine j_aload_n 1 rfl dX10_personGoes_60 ?_
        refine j_getfr fl_X10_137_9 rfl (m_lt hf (by decide)) (fk_1198 hf) (fg_1198_57 hf) dX10_personGoes_61 ?_
        refine j_bipush (v := 15) dX10_personGoes_64 (by decide) ?_
        refine j_iload_n 2 rfl dX10_personGoes_66 ?_
        refine j_iadd dX10_personGoes_67 ?_
        obtain ⟨b11, h⟩ := h
        refine j_ialdJ (j := (15 + p1).toNatClampNeg) (m_lt hf (by decide)) (fk_1238 hf) b11 rfl dX10_personGoes_68 ?_
        refine j_iload_n 0 rfl dX10_personGoes_69 ?_
        refine j_callV (b := 1198) (As := [.int (A 1238 (15 + p1).toNatClampNeg), .int (A 1238 (19 + p1).toNatClampNeg)]) (st := [.int (15 + p1), .ref 1238]) (C := RX10) (kc' := 0) (ks' := 0) (tX10_stepTo hf (A 1238 (15 + p1).toNatClampNeg) (A 1238 (19 + p1).toNatClampNeg) _ h) myX10_stepTo rfl q2003 q2005 qs105 (by decide) (fun s9 H9 hK9 hR9 h69 => jIs_in hK9 hR9 h69 (m_lt hf (by decide)) (fk_1198 hf) rfl) rfl (Nat.le_of_ble_eq_true rfl) rfl (by decide) (Nat.le_refl 0) (Nat.le_refl 0) dX10_personGoes_70 (fun v9 u9 hq => ?_) (fun k9 u9 hq => by obtain ⟨_, e9, _⟩ := hq; cases e9)
        obtain ⟨r12, e9, rfl, h⟩ := hq
        obtain rfl := Sum.inl.inj e9
        show J Γ RX10 cX10_personGoes 4 none "personGoes" [] 2 0 0 73 [(2, .int (A 1238 (19 + p1).toNatClampNeg)), (0, .ref 1198), (1, .int p1)] [.int r12, .int (15 + p1), .ref 1238] (n, K, A, Lg, G) P
        obtain ⟨b13, h⟩ := h
        refine j_iastJ (j := (15 + p1).toNatClampNeg) (m_lt hf (by decide)) (fk_1238 hf) b13 rfl dX10_personGoes_73 (fun A14 eA14 => ?_)
        replace h := h A14 eA14
        refine j_ls [1, 2] rfl ?_
        exact fX10_personGoes_J74_ok hf Q P hP   p1 A14 h
theorem myX10_minuteGoes : jY yX10_minuteGoes cX10_minuteGoes 3 none 0 := ⟨q1998, q139, by decide +kernel, by decide +kernel, by decide⟩
def fX10_minuteGoes_J32  (k2 : Int32 → pA → Prop) (Q : pA → Prop) (l1 : Int32) (A : pA) : Prop :=
    k2 (l1 + 1) A
theorem fX10_minuteGoes_J32_ok {Γ : jG} {n : Nat} {K : Nat → pKd} {G : pG} {Lg : pL} (hf : mOK n K G) (Q : pA → Prop) (P : jO → pS → Prop) (hP : P = (fun o u => ∃ (A' : pA), o = .inl none ∧ u = (n, K, A', Lg, G) ∧ Q A')) (k2 : Int32 → pA → Prop) (ok2 : ∀ (l1 : Int32) (A : pA), k2 l1 A → J Γ RX10 cX10_minuteGoes 3 none "minuteGoes" [] 6 0 0 2 [(0, .ref 1198), (1, .int l1)] [] (n, K, A, Lg, G) P) (l1 : Int32) (A : pA) (h : fX10_minuteGoes_J32  k2 Q l1 A) : J Γ RX10 cX10_minuteGoes 3 none "minuteGoes" [] 6 0 0 32 [(0, .ref 1198), (1, .int l1)] [] (n, K, A, Lg, G) P := by
  unfold fX10_minuteGoes_J32 at h
  refine j_iinc (v := l1 + 1) 1 rfl rfl (by decide) rfl dX10_minuteGoes_32 ?_
  refine j_goto (tgt := 2) dX10_minuteGoes_35 (by decide) ?_
  refine j_ls [1, 0] rfl ?_
  exact ok2 (l1 + 1) A h
def fX10_minuteGoes_L114  (k99 : Int32 → pA → Prop) (Q : pA → Prop) : Nat → Int32 → Int32 → pA → Prop
  | 0, _, _, _ => False
  | n9 + 1, l1, l2, A =>
    (vp_in (A 1198 18) 2) ∧ ((if (A 1215 (A 1198 18).toNatClampNeg) ≤ l2 then k99 (l1 + 1) A else fX10_fades A l1 l2 (fun A2 => fX10_minuteGoes_L114  k99 Q n9 l1 (l2 + 1) A2)))
theorem fX10_minuteGoes_L114_ok {Γ : jG} {n : Nat} {K : Nat → pKd} {G : pG} {Lg : pL} (hf : mOK n K G) (Q : pA → Prop) (P : jO → pS → Prop) (hP : P = (fun o u => ∃ (A' : pA), o = .inl none ∧ u = (n, K, A', Lg, G) ∧ Q A'))  (k99 : Int32 → pA → Prop) (ok99 : ∀ (l1 : Int32) (A : pA), k99 l1 A → J Γ RX10 cX10_minuteGoes 3 none "minuteGoes" [] 6 0 0 99 [(0, .ref 1198), (1, .int l1)] [] (n, K, A, Lg, G) P) : ∀ (n9 : Nat) (l1 : Int32) (l2 : Int32) (A : pA), fX10_minuteGoes_L114  k99 Q n9 l1 l2 A → J Γ RX10 cX10_minuteGoes 3 none "minuteGoes" [] 6 0 0 114 [(0, .ref 1198), (1, .int l1), (2, .int l2)] [] (n, K, A, Lg, G) P := by
  intro n9
  induction n9 with
  | zero => intro l1 l2 A h; exact h.elim
  | succ n9 ih =>
    intro l1 l2 A h
    unfold fX10_minuteGoes_L114 at h
    refine j_iload_n 2 rfl dX10_minuteGoes_114 ?_
    refine j_aload_n 0 rfl dX10_minuteGoes_115 ?_
    refine j_getfr fl_X10_67_9 rfl (m_lt hf (by decide)) (fk_1198 hf) (fg_1198_30 hf) dX10_minuteGoes_116 ?_
    refine j_aload_n 0 rfl dX10_minuteGoes_119 ?_
    refine j_getfi fl_X10_242_9 rfl (m_lt hf (by decide)) (fk_1198 hf) dX10_minuteGoes_120 ?_
    obtain ⟨b1, h⟩ := h
    refine j_ialdJ (j := (A 1198 18).toNatClampNeg) (m_lt hf (by decide)) (fk_1215 hf) b1 rfl dX10_minuteGoes_123 ?_
    refine j_icmp_ge (tgt := 139) dX10_minuteGoes_124 (by decide) (fun c => ?_) (fun c => ?_)
    · rw [if_pos c] at h
      refine j_iinc (v := l1 + 1) 1 rfl rfl (by decide) rfl dX10_minuteGoes_139 ?_
      refine j_goto (tgt := 99) dX10_minuteGoes_142 (by decide) ?_
      refine j_ls [1, 0] rfl ?_
      exact ok99 (l1 + 1) A h
    · rw [if_neg c] at h
      refine j_aload_n 0 rfl dX10_minuteGoes_127 ?_
      refine j_iload_n 1 rfl dX10_minuteGoes_128 ?_
      refine j_iload_n 2 rfl dX10_minuteGoes_129 ?_
      refine j_callV (b := 1198) (As := [.int l1, .int l2]) (st := []) (C := RX10) (kc' := 0) (ks' := 0) (tX10_fades hf l1 l2 _ h) myX10_fades rfl q2027 q2029 qs111 (by decide) (fun s9 H9 hK9 hR9 h69 => jIs_in hK9 hR9 h69 (m_lt hf (by decide)) (fk_1198 hf) rfl) rfl (Nat.le_of_ble_eq_true rfl) rfl (by decide) (Nat.le_refl 0) (Nat.le_refl 0) dX10_minuteGoes_130 (fun v9 u9 hq => ?_) (fun k9 u9 hq => by obtain ⟨_, e9, _⟩ := hq; cases e9)
      obtain ⟨A2, e9, rfl, h⟩ := hq
      obtain rfl := Sum.inl.inj e9
      show J Γ RX10 cX10_minuteGoes 3 none "minuteGoes" [] 6 0 0 133 [(0, .ref 1198), (1, .int l1), (2, .int l2)] [] (n, K, A2, Lg, G) P
      refine j_iinc (v := l2 + 1) 2 rfl rfl (by decide) rfl dX10_minuteGoes_133 ?_
      refine j_goto (tgt := 114) dX10_minuteGoes_136 (by decide) ?_
      refine j_ls [1, 2, 0] rfl ?_
      exact ih l1 (l2 + 1) A2 h
def fX10_minuteGoes_L99   (Q : pA → Prop) : Nat → Int32 → pA → Prop
  | 0, _, _ => False
  | n9 + 1, l1, A =>
    (vp_in (A 1198 18) 2) ∧ ((if (A 1211 (A 1198 18).toNatClampNeg) ≤ l1 then Q A else ∃ m4, fX10_minuteGoes_L114  (fun x0 x1 => fX10_minuteGoes_L99   Q n9 x0 x1) Q m4 l1 0 A))
theorem fX10_minuteGoes_L99_ok {Γ : jG} {n : Nat} {K : Nat → pKd} {G : pG} {Lg : pL} (hf : mOK n K G) (Q : pA → Prop) (P : jO → pS → Prop) (hP : P = (fun o u => ∃ (A' : pA), o = .inl none ∧ u = (n, K, A', Lg, G) ∧ Q A'))    : ∀ (n9 : Nat) (l1 : Int32) (A : pA), fX10_minuteGoes_L99   Q n9 l1 A → J Γ RX10 cX10_minuteGoes 3 none "minuteGoes" [] 6 0 0 99 [(0, .ref 1198), (1, .int l1)] [] (n, K, A, Lg, G) P := by
  intro n9
  induction n9 with
  | zero => intro l1 A h; exact h.elim
  | succ n9 ih =>
    intro l1 A h
    unfold fX10_minuteGoes_L99 at h
    refine j_iload_n 1 rfl dX10_minuteGoes_99 ?_
    refine j_aload_n 0 rfl dX10_minuteGoes_100 ?_
    refine j_getfr fl_X10_55_9 rfl (m_lt hf (by decide)) (fk_1198 hf) (fg_1198_26 hf) dX10_minuteGoes_101 ?_
    refine j_aload_n 0 rfl dX10_minuteGoes_104 ?_
    refine j_getfi fl_X10_242_9 rfl (m_lt hf (by decide)) (fk_1198 hf) dX10_minuteGoes_105 ?_
    obtain ⟨b3, h⟩ := h
    refine j_ialdJ (j := (A 1198 18).toNatClampNeg) (m_lt hf (by decide)) (fk_1211 hf) b3 rfl dX10_minuteGoes_108 ?_
    refine j_icmp_ge (tgt := 145) dX10_minuteGoes_109 (by decide) (fun c => ?_) (fun c => ?_)
    · rw [if_pos c] at h
      refine j_vret rfl ?_ dX10_minuteGoes_145
      rw [hP]
      exact ⟨A, rfl, rfl, h⟩
    · rw [if_neg c] at h
      refine j_iconst (v := 0) dX10_minuteGoes_112 (by decide) ?_
      refine j_istore_n (by decide) rfl dX10_minuteGoes_113 ?_
      refine j_ls [1, 2, 0] rfl ?_
      obtain ⟨m4, h⟩ := h
      exact fX10_minuteGoes_L114_ok hf Q P hP (fun x0 x1 => fX10_minuteGoes_L99   Q n9 x0 x1) (fun x0 x1 h9 => ih x0 x1 h9) m4 l1 0 A h
def fX10_minuteGoes_J78   (Q : pA → Prop) (A : pA) : Prop :=
    ∀ A5 : pA, A5 = pup A 1238 76 ((A 1238 76) + 1) → fX10_minuteNow A5 (fun r6 => (if r6 ≤ 0 then ∃ m7, fX10_minuteGoes_L99   Q m7 0 A5 else Q A5))
theorem fX10_minuteGoes_J78_ok {Γ : jG} {n : Nat} {K : Nat → pKd} {G : pG} {Lg : pL} (hf : mOK n K G) (Q : pA → Prop) (P : jO → pS → Prop) (hP : P = (fun o u => ∃ (A' : pA), o = .inl none ∧ u = (n, K, A', Lg, G) ∧ Q A'))   (A : pA) (h : fX10_minuteGoes_J78   Q A) : J Γ RX10 cX10_minuteGoes 3 none "minuteGoes" [] 6 0 0 78 [(0, .ref 1198)] [] (n, K, A, Lg, G) P := by
  unfold fX10_minuteGoes_J78 at h
  refine j_aload_n 0 rfl dX10_minuteGoes_78 ?_
  refine j_getfr fl_X10_137_9 rfl (m_lt hf (by decide)) (fk_1198 hf) (fg_1198_57 hf) dX10_minuteGoes_79 ?_
  refine j_bipush (v := 76) dX10_minuteGoes_82 (by decide) ?_
  refine j_dup2 rfl rfl dX10_minuteGoes_84 ?_
  refine j_ialdJ (j := 76) (m_lt hf (by decide)) (fk_1238 hf) (by unfold vp_in; decide) rfl dX10_minuteGoes_85 ?_
  refine j_iconst (v := 1) dX10_minuteGoes_86 (by decide) ?_
  refine j_iadd dX10_minuteGoes_87 ?_
  refine j_iastJ (j := 76) (m_lt hf (by decide)) (fk_1238 hf) (by unfold vp_in; decide) rfl dX10_minuteGoes_88 (fun A5 eA5 => ?_)
  replace h := h A5 eA5
  refine j_aload_n 0 rfl dX10_minuteGoes_89 ?_
  refine j_callV (b := 1198) (As := []) (st := []) (C := RX10) (kc' := 0) (ks' := 0) (tX10_minuteNow hf  _ h) myX10_minuteNow rfl q1936 q1938 qs93 (by decide) (fun s9 H9 hK9 hR9 h69 => jIs_in hK9 hR9 h69 (m_lt hf (by decide)) (fk_1198 hf) rfl) rfl (Nat.le_of_ble_eq_true rfl) rfl (by decide) (Nat.le_refl 0) (Nat.le_refl 0) dX10_minuteGoes_90 (fun v9 u9 hq => ?_) (fun k9 u9 hq => by obtain ⟨_, e9, _⟩ := hq; cases e9)
  obtain ⟨r6, e9, rfl, h⟩ := hq
  obtain rfl := Sum.inl.inj e9
  show J Γ RX10 cX10_minuteGoes 3 none "minuteGoes" [] 6 0 0 93 [(0, .ref 1198)] [.int r6] (n, K, A5, Lg, G) P
  refine j_if_le (tgt := 97) dX10_minuteGoes_93 (by decide) (fun c => ?_) (fun c => ?_)
  · rw [if_pos c] at h
    refine j_iconst (v := 0) dX10_minuteGoes_97 (by decide) ?_
    refine j_istore_n (by decide) rfl dX10_minuteGoes_98 ?_
    refine j_ls [1, 0] rfl ?_
    obtain ⟨m7, h⟩ := h
    exact fX10_minuteGoes_L99_ok hf Q P hP   m7 0 A5 h
  · rw [if_neg c] at h
    refine j_vret rfl ?_ dX10_minuteGoes_96
    rw [hP]
    exact ⟨A5, rfl, rfl, h⟩
def fX10_minuteGoes_L54   (Q : pA → Prop) : Nat → Int32 → pA → Prop
  | 0, _, _ => False
  | n9 + 1, l1, A =>
    (vp_in (A 1198 18) 2) ∧ ((if (A 1211 (A 1198 18).toNatClampNeg) ≤ l1 then fX10_minuteGoes_J78   Q A else fX10_dogGoes A l1 (fun A9 => fX10_minuteGoes_L54   Q n9 (l1 + 1) A9)))
theorem fX10_minuteGoes_L54_ok {Γ : jG} {n : Nat} {K : Nat → pKd} {G : pG} {Lg : pL} (hf : mOK n K G) (Q : pA → Prop) (P : jO → pS → Prop) (hP : P = (fun o u => ∃ (A' : pA), o = .inl none ∧ u = (n, K, A', Lg, G) ∧ Q A'))    : ∀ (n9 : Nat) (l1 : Int32) (A : pA), fX10_minuteGoes_L54   Q n9 l1 A → J Γ RX10 cX10_minuteGoes 3 none "minuteGoes" [] 6 0 0 54 [(0, .ref 1198), (1, .int l1)] [] (n, K, A, Lg, G) P := by
  intro n9
  induction n9 with
  | zero => intro l1 A h; exact h.elim
  | succ n9 ih =>
    intro l1 A h
    unfold fX10_minuteGoes_L54 at h
    refine j_iload_n 1 rfl dX10_minuteGoes_54 ?_
    refine j_aload_n 0 rfl dX10_minuteGoes_55 ?_
    refine j_getfr fl_X10_55_9 rfl (m_lt hf (by decide)) (fk_1198 hf) (fg_1198_26 hf) dX10_minuteGoes_56 ?_
    refine j_aload_n 0 rfl dX10_minuteGoes_59 ?_
    refine j_getfi fl_X10_242_9 rfl (m_lt hf (by decide)) (fk_1198 hf) dX10_minuteGoes_60 ?_
    obtain ⟨b8, h⟩ := h
    refine j_ialdJ (j := (A 1198 18).toNatClampNeg) (m_lt hf (by decide)) (fk_1211 hf) b8 rfl dX10_minuteGoes_63 ?_
    refine j_icmp_ge (tgt := 78) dX10_minuteGoes_64 (by decide) (fun c => ?_) (fun c => ?_)
    · rw [if_pos c] at h
      refine j_ls [0] rfl ?_
      exact fX10_minuteGoes_J78_ok hf Q P hP   A h
    · rw [if_neg c] at h
      refine j_aload_n 0 rfl dX10_minuteGoes_67 ?_
      refine j_iload_n 1 rfl dX10_minuteGoes_68 ?_
      refine j_callV (b := 1198) (As := [.int l1]) (st := []) (C := RX10) (kc' := 0) (ks' := 0) (tX10_dogGoes hf l1 _ h) myX10_dogGoes rfl q2015 q2017 qs108 (by decide) (fun s9 H9 hK9 hR9 h69 => jIs_in hK9 hR9 h69 (m_lt hf (by decide)) (fk_1198 hf) rfl) rfl (Nat.le_of_ble_eq_true rfl) rfl (by decide) (Nat.le_refl 0) (Nat.le_refl 0) dX10_minuteGoes_69 (fun v9 u9 hq => ?_) (fun k9 u9 hq => by obtain ⟨_, e9, _⟩ := hq; cases e9)
      obtain ⟨A9, e9, rfl, h⟩ := hq
      obtain rfl := Sum.inl.inj e9
      show J Γ RX10 cX10_minuteGoes 3 none "minuteGoes" [] 6 0 0 72 [(0, .ref 1198), (1, .int l1)] [] (n, K, A9, Lg, G) P
      refine j_iinc (v := l1 + 1) 1 rfl rfl (by decide) rfl dX10_minuteGoes_72 ?_
      refine j_goto (tgt := 54) dX10_minuteGoes_75 (by decide) ?_
      refine j_ls [1, 0] rfl ?_
      exact ih (l1 + 1) A9 h
def fX10_minuteGoes_L2   (Q : pA → Prop) : Nat → Int32 → pA → Prop
  | 0, _, _ => False
  | n9 + 1, l1, A =>
    (vp_in (A 1198 18) 2) ∧ ((if (A 1215 (A 1198 18).toNatClampNeg) ≤ l1 then fX10_isHour A (fun r11 => (if r11 = 0 then fX10_dogsRest A (fun A13 => fX10_minuteGoes_J78   Q A13) else ∃ m12, fX10_minuteGoes_L54   Q m12 0 A)) else (vp_in (27 + l1) 77) ∧ ((if (A 1238 (27 + l1).toNatClampNeg) = 0 then fX10_personGoes A l1 (fun A15 => fX10_minuteGoes_J32  (fun x0 x1 => fX10_minuteGoes_L2   Q n9 x0 x1) Q l1 A15) else fX10_minuteGoes_J32  (fun x0 x1 => fX10_minuteGoes_L2   Q n9 x0 x1) Q l1 A))))
theorem fX10_minuteGoes_L2_ok {Γ : jG} {n : Nat} {K : Nat → pKd} {G : pG} {Lg : pL} (hf : mOK n K G) (Q : pA → Prop) (P : jO → pS → Prop) (hP : P = (fun o u => ∃ (A' : pA), o = .inl none ∧ u = (n, K, A', Lg, G) ∧ Q A'))    : ∀ (n9 : Nat) (l1 : Int32) (A : pA), fX10_minuteGoes_L2   Q n9 l1 A → J Γ RX10 cX10_minuteGoes 3 none "minuteGoes" [] 6 0 0 2 [(0, .ref 1198), (1, .int l1)] [] (n, K, A, Lg, G) P := by
  intro n9
  induction n9 with
  | zero => intro l1 A h; exact h.elim
  | succ n9 ih =>
    intro l1 A h
    unfold fX10_minuteGoes_L2 at h
    refine j_iload_n 1 rfl dX10_minuteGoes_2 ?_
    refine j_aload_n 0 rfl dX10_minuteGoes_3 ?_
    refine j_getfr fl_X10_67_9 rfl (m_lt hf (by decide)) (fk_1198 hf) (fg_1198_30 hf) dX10_minuteGoes_4 ?_
    refine j_aload_n 0 rfl dX10_minuteGoes_7 ?_
    refine j_getfi fl_X10_242_9 rfl (m_lt hf (by decide)) (fk_1198 hf) dX10_minuteGoes_8 ?_
    obtain ⟨b10, h⟩ := h
    refine j_ialdJ (j := (A 1198 18).toNatClampNeg) (m_lt hf (by decide)) (fk_1215 hf) b10 rfl dX10_minuteGoes_11 ?_
    refine j_icmp_ge (tgt := 38) dX10_minuteGoes_12 (by decide) (fun c => ?_) (fun c => ?_)
    · rw [if_pos c] at h
      refine j_aload_n 0 rfl dX10_minuteGoes_38 ?_
      refine j_callV (b := 1198) (As := []) (st := []) (C := RX10) (kc' := 0) (ks' := 0) (tX10_isHour hf  _ h) myX10_isHour rfl q2007 q2009 qs106 (by decide) (fun s9 H9 hK9 hR9 h69 => jIs_in hK9 hR9 h69 (m_lt hf (by decide)) (fk_1198 hf) rfl) rfl (Nat.le_of_ble_eq_true rfl) rfl (by decide) (Nat.le_refl 0) (Nat.le_refl 0) dX10_minuteGoes_39 (fun v9 u9 hq => ?_) (fun k9 u9 hq => by obtain ⟨_, e9, _⟩ := hq; cases e9)
      obtain ⟨r11, e9, rfl, h⟩ := hq
      obtain rfl := Sum.inl.inj e9
      show J Γ RX10 cX10_minuteGoes 3 none "minuteGoes" [] 6 0 0 42 [(0, .ref 1198), (1, .int l1)] [.int r11] (n, K, A, Lg, G) P
      refine j_if_ne (tgt := 52) dX10_minuteGoes_42 (by decide) (fun c => ?_) (fun c => ?_)
      · rw [if_neg c] at h
        refine j_iconst (v := 0) dX10_minuteGoes_52 (by decide) ?_
        refine j_istore_n (by decide) rfl dX10_minuteGoes_53 ?_
        refine j_ls [1, 0] rfl ?_
        obtain ⟨m12, h⟩ := h
        exact fX10_minuteGoes_L54_ok hf Q P hP   m12 0 A h
      · rw [if_pos c] at h
        refine j_aload_n 0 rfl dX10_minuteGoes_45 ?_
        refine j_callV (b := 1198) (As := []) (st := []) (C := RX10) (kc' := 0) (ks' := 0) (tX10_dogsRest hf  _ h) myX10_dogsRest rfl q2011 q2013 qs107 (by decide) (fun s9 H9 hK9 hR9 h69 => jIs_in hK9 hR9 h69 (m_lt hf (by decide)) (fk_1198 hf) rfl) rfl (Nat.le_of_ble_eq_true rfl) rfl (by decide) (Nat.le_refl 0) (Nat.le_refl 0) dX10_minuteGoes_46 (fun v9 u9 hq => ?_) (fun k9 u9 hq => by obtain ⟨_, e9, _⟩ := hq; cases e9)
        obtain ⟨A13, e9, rfl, h⟩ := hq
        obtain rfl := Sum.inl.inj e9
        show J Γ RX10 cX10_minuteGoes 3 none "minuteGoes" [] 6 0 0 49 [(0, .ref 1198), (1, .int l1)] [] (n, K, A13, Lg, G) P
        refine j_goto (tgt := 78) dX10_minuteGoes_49 (by decide) ?_
        refine j_ls [0] rfl ?_
        exact fX10_minuteGoes_J78_ok hf Q P hP   A13 h
    · rw [if_neg c] at h
      refine j_aload_n 0 rfl dX10_minuteGoes_15 ?_
      refine j_getfr fl_X10_137_9 rfl (m_lt hf (by decide)) (fk_1198 hf) (fg_1198_57 hf) dX10_minuteGoes_16 ?_
      refine j_bipush (v := 27) dX10_minuteGoes_19 (by decide) ?_
      refine j_iload_n 1 rfl dX10_minuteGoes_21 ?_
      refine j_iadd dX10_minuteGoes_22 ?_
      obtain ⟨b14, h⟩ := h
      refine j_ialdJ (j := (27 + l1).toNatClampNeg) (m_lt hf (by decide)) (fk_1238 hf) b14 rfl dX10_minuteGoes_23 ?_
      refine j_if_ne (tgt := 32) dX10_minuteGoes_24 (by decide) (fun c => ?_) (fun c => ?_)
      · rw [if_neg c] at h
        exact fX10_minuteGoes_J32_ok hf Q P hP (fun x0 x1 => fX10_minuteGoes_L2   Q n9 x0 x1) (fun x0 x1 h9 => ih x0 x1 h9) l1 A h
      · rw [if_pos c] at h
        refine j_aload_n 0 rfl dX10_minuteGoes_27 ?_
        refine j_iload_n 1 rfl dX10_minuteGoes_28 ?_
        refine j_callV (b := 1198) (As := [.int l1]) (st := []) (C := RX10) (kc' := 0) (ks' := 0) (tX10_personGoes hf l1 _ h) myX10_personGoes rfl q1999 q2001 qs104 (by decide) (fun s9 H9 hK9 hR9 h69 => jIs_in hK9 hR9 h69 (m_lt hf (by decide)) (fk_1198 hf) rfl) rfl (Nat.le_of_ble_eq_true rfl) rfl (by decide) (Nat.le_refl 0) (Nat.le_refl 0) dX10_minuteGoes_29 (fun v9 u9 hq => ?_) (fun k9 u9 hq => by obtain ⟨_, e9, _⟩ := hq; cases e9)
        obtain ⟨A15, e9, rfl, h⟩ := hq
        obtain rfl := Sum.inl.inj e9
        show J Γ RX10 cX10_minuteGoes 3 none "minuteGoes" [] 6 0 0 32 [(0, .ref 1198), (1, .int l1)] [] (n, K, A15, Lg, G) P
        exact fX10_minuteGoes_J32_ok hf Q P hP (fun x0 x1 => fX10_minuteGoes_L2   Q n9 x0 x1) (fun x0 x1 h9 => ih x0 x1 h9) l1 A15 h
def fX10_minuteGoes (A : pA) (Q : pA → Prop) : Prop :=
    ∃ m16, fX10_minuteGoes_L2   Q m16 0 A
theorem tX10_minuteGoes {Γ : jG} {n : Nat} {K : Nat → pKd} {G : pG} {Lg : pL} (hf : mOK n K G) {A : pA}  (Q : pA → Prop) (h : fX10_minuteGoes A Q) : jMet Γ yX10_minuteGoes cX10_minuteGoes 3 none [] 6 0 0 [.ref 1198] (n, K, A, Lg, G) (fun o u => ∃ (A' : pA), o = .inl none ∧ u = (n, K, A', Lg, G) ∧ Q A') := by
  unfold fX10_minuteGoes at h
  obtain ⟨P, hP⟩ : ∃ P : jO → pS → Prop, P = (fun o u => ∃ (A' : pA), o = .inl none ∧ u = (n, K, A', Lg, G) ∧ Q A') := ⟨_, rfl⟩
  rw [← hP]
  refine jMet_of rfl rfl rfl (Nat.le_of_ble_eq_true rfl) ?_
  show J Γ RX10 cX10_minuteGoes 3 none "minuteGoes" [] 6 0 0 0 [(0, .ref 1198)] [] (n, K, A, Lg, G) P
  refine j_iconst (v := 0) dX10_minuteGoes_0 (by decide) ?_
  refine j_istore_n (by decide) rfl dX10_minuteGoes_1 ?_
  refine j_ls [1, 0] rfl ?_
  obtain ⟨m16, h⟩ := h
  exact fX10_minuteGoes_L2_ok hf Q P hP   m16 0 A h
theorem myX10_goes : jY yX10_goes cX10_goes 3 none 1 := ⟨q1994, q139, by decide +kernel, by decide +kernel, by decide⟩
def fX10_goes_L2   (Q : pA → Prop) : Nat → Int32 → Int32 → pA → Prop
  | 0, _, _, _ => False
  | n9 + 1, l1, l2, A =>
    (if l1 ≤ l2 then Q A else fX10_minuteGoes A (fun A1 => fX10_goes_L2   Q n9 l1 (l2 + 1) A1))
theorem fX10_goes_L2_ok {Γ : jG} {n : Nat} {K : Nat → pKd} {G : pG} {Lg : pL} (hf : mOK n K G) (Q : pA → Prop) (P : jO → pS → Prop) (hP : P = (fun o u => ∃ (A' : pA), o = .inl none ∧ u = (n, K, A', Lg, G) ∧ Q A'))    : ∀ (n9 : Nat) (l1 : Int32) (l2 : Int32) (A : pA), fX10_goes_L2   Q n9 l1 l2 A → J Γ RX10 cX10_goes 3 none "goes" [] 7 0 0 2 [(0, .ref 1198), (1, .int l1), (2, .int l2)] [] (n, K, A, Lg, G) P := by
  intro n9
  induction n9 with
  | zero => intro l1 l2 A h; exact h.elim
  | succ n9 ih =>
    intro l1 l2 A h
    unfold fX10_goes_L2 at h
    refine j_iload_n 2 rfl dX10_goes_2 ?_
    refine j_iload_n 1 rfl dX10_goes_3 ?_
    refine j_icmp_ge (tgt := 17) dX10_goes_4 (by decide) (fun c => ?_) (fun c => ?_)
    · rw [if_pos c] at h
      refine j_vret rfl ?_ dX10_goes_17
      rw [hP]
      exact ⟨A, rfl, rfl, h⟩
    · rw [if_neg c] at h
      refine j_aload_n 0 rfl dX10_goes_7 ?_
      refine j_callV (b := 1198) (As := []) (st := []) (C := RX10) (kc' := 0) (ks' := 0) (tX10_minuteGoes hf  _ h) myX10_minuteGoes rfl q1995 q1997 qs103 (by decide) (fun s9 H9 hK9 hR9 h69 => jIs_in hK9 hR9 h69 (m_lt hf (by decide)) (fk_1198 hf) rfl) rfl (Nat.le_of_ble_eq_true rfl) rfl (by decide) (Nat.le_refl 0) (Nat.le_refl 0) dX10_goes_8 (fun v9 u9 hq => ?_) (fun k9 u9 hq => by obtain ⟨_, e9, _⟩ := hq; cases e9)
      obtain ⟨A1, e9, rfl, h⟩ := hq
      obtain rfl := Sum.inl.inj e9
      show J Γ RX10 cX10_goes 3 none "goes" [] 7 0 0 11 [(0, .ref 1198), (1, .int l1), (2, .int l2)] [] (n, K, A1, Lg, G) P
      refine j_iinc (v := l2 + 1) 2 rfl rfl (by decide) rfl dX10_goes_11 ?_
      refine j_goto (tgt := 2) dX10_goes_14 (by decide) ?_
      refine j_ls [1, 2, 0] rfl ?_
      exact ih l1 (l2 + 1) A1 h
def fX10_goes (A : pA) (p1 : Int32) (Q : pA → Prop) : Prop :=
    ∃ m2, fX10_goes_L2   Q m2 p1 0 A
theorem tX10_goes {Γ : jG} {n : Nat} {K : Nat → pKd} {G : pG} {Lg : pL} (hf : mOK n K G) {A : pA} (p1 : Int32) (Q : pA → Prop) (h : fX10_goes A p1 Q) : jMet Γ yX10_goes cX10_goes 3 none [] 7 0 0 [.ref 1198, .int p1] (n, K, A, Lg, G) (fun o u => ∃ (A' : pA), o = .inl none ∧ u = (n, K, A', Lg, G) ∧ Q A') := by
  unfold fX10_goes at h
  obtain ⟨P, hP⟩ : ∃ P : jO → pS → Prop, P = (fun o u => ∃ (A' : pA), o = .inl none ∧ u = (n, K, A', Lg, G) ∧ Q A') := ⟨_, rfl⟩
  rw [← hP]
  refine jMet_of rfl rfl rfl (Nat.le_of_ble_eq_true rfl) ?_
  show J Γ RX10 cX10_goes 3 none "goes" [] 7 0 0 0 [(0, .ref 1198), (1, .int p1)] [] (n, K, A, Lg, G) P
  refine j_iconst (v := 0) dX10_goes_0 (by decide) ?_
  refine j_istore_n (by decide) rfl dX10_goes_1 ?_
  refine j_ls [1, 2, 0] rfl ?_
  obtain ⟨m2, h⟩ := h
  exact fX10_goes_L2_ok hf Q P hP   m2 p1 0 A h
theorem myX10_minutes : jY yX10_minutes cX10_minutes 2 (some .int) 1 := ⟨q1990, q139, by decide +kernel, by decide +kernel, by decide⟩
def fX10_minutes (A : pA) (p1 : Int32) (Q : Int32 → pA → Prop) : Prop :=
    fX10_in A p1 0 1440 (fun r1 => (if r1 = 0 then Q (-1) A else (if p1 = 0 then Q (A 1237 76) A else fX10_copies A (fun A2 => fX10_goes A2 p1 (fun A3 => fX10_records A3 (fun A4 => Q (A4 1237 76) A4))))))
theorem tX10_minutes {Γ : jG} {n : Nat} {K : Nat → pKd} {G : pG} {Lg : pL} (hf : mOK n K G) {A : pA} (p1 : Int32) (Q : Int32 → pA → Prop) (h : fX10_minutes A p1 Q) : jMet Γ yX10_minutes cX10_minutes 2 (some .int) [] 8 0 0 [.ref 1198, .int p1] (n, K, A, Lg, G) (fun o u => ∃ (r : Int32) (A' : pA), o = .inl (some (.int r)) ∧ u = (n, K, A', Lg, G) ∧ Q r A') := by
  unfold fX10_minutes at h
  obtain ⟨P, hP⟩ : ∃ P : jO → pS → Prop, P = (fun o u => ∃ (r : Int32) (A' : pA), o = .inl (some (.int r)) ∧ u = (n, K, A', Lg, G) ∧ Q r A') := ⟨_, rfl⟩
  rw [← hP]
  refine jMet_of rfl rfl rfl (Nat.le_of_ble_eq_true rfl) ?_
  show J Γ RX10 cX10_minutes 2 (some .int) "minutes" [] 8 0 0 0 [(0, .ref 1198), (1, .int p1)] [] (n, K, A, Lg, G) P
  refine j_iload_n 1 rfl dX10_minutes_0 ?_
  refine j_iconst (v := 0) dX10_minutes_1 (by decide) ?_
  refine j_sipush (v := 1440) dX10_minutes_2 (by decide) ?_
  refine j_callS (As := [.int p1, .int 0, .int 1440]) (st := []) (kc' := 0) (ks' := 0) (tX10_in hf p1 0 1440 _ h) myX10_in q1892 q1893 rfl (Nat.le_of_ble_eq_true rfl) rfl (by decide) (Nat.le_refl 0) (Nat.le_refl 0) dX10_minutes_5 (fun v9 u9 hq => ?_) (fun k9 u9 hq => by obtain ⟨_, e9, _⟩ := hq; cases e9)
  obtain ⟨r1, e9, rfl, h⟩ := hq
  obtain rfl := Sum.inl.inj e9
  show J Γ RX10 cX10_minutes 2 (some .int) "minutes" [] 8 0 0 8 [(0, .ref 1198), (1, .int p1)] [.int r1] (n, K, A, Lg, G) P
  refine j_if_ne (tgt := 13) dX10_minutes_8 (by decide) (fun c => ?_) (fun c => ?_)
  · rw [if_neg c] at h
    refine j_iload_n 1 rfl dX10_minutes_13 ?_
    refine j_if_ne (tgt := 25) dX10_minutes_14 (by decide) (fun c => ?_) (fun c => ?_)
    · rw [if_neg c] at h
      refine j_aload_n 0 rfl dX10_minutes_25 ?_
      refine j_callV (b := 1198) (As := []) (st := []) (C := RX10) (kc' := 0) (ks' := 0) (tX10_copies hf  _ h) myX10_copies rfl q1895 q1897 qs86 (by decide) (fun s9 H9 hK9 hR9 h69 => jIs_in hK9 hR9 h69 (m_lt hf (by decide)) (fk_1198 hf) rfl) rfl (Nat.le_of_ble_eq_true rfl) rfl (by decide) (Nat.le_refl 0) (Nat.le_refl 0) dX10_minutes_26 (fun v9 u9 hq => ?_) (fun k9 u9 hq => by obtain ⟨_, e9, _⟩ := hq; cases e9)
      obtain ⟨A2, e9, rfl, h⟩ := hq
      obtain rfl := Sum.inl.inj e9
      show J Γ RX10 cX10_minutes 2 (some .int) "minutes" [] 8 0 0 29 [(0, .ref 1198), (1, .int p1)] [] (n, K, A2, Lg, G) P
      refine j_aload_n 0 rfl dX10_minutes_29 ?_
      refine j_iload_n 1 rfl dX10_minutes_30 ?_
      refine j_callV (b := 1198) (As := [.int p1]) (st := []) (C := RX10) (kc' := 0) (ks' := 0) (tX10_goes hf p1 _ h) myX10_goes rfl q1991 q1993 qs102 (by decide) (fun s9 H9 hK9 hR9 h69 => jIs_in hK9 hR9 h69 (m_lt hf (by decide)) (fk_1198 hf) rfl) rfl (Nat.le_of_ble_eq_true rfl) rfl (by decide) (Nat.le_refl 0) (Nat.le_refl 0) dX10_minutes_31 (fun v9 u9 hq => ?_) (fun k9 u9 hq => by obtain ⟨_, e9, _⟩ := hq; cases e9)
      obtain ⟨A3, e9, rfl, h⟩ := hq
      obtain rfl := Sum.inl.inj e9
      show J Γ RX10 cX10_minutes 2 (some .int) "minutes" [] 8 0 0 34 [(0, .ref 1198), (1, .int p1)] [] (n, K, A3, Lg, G) P
      refine j_aload_n 0 rfl dX10_minutes_34 ?_
      refine j_callV (b := 1198) (As := []) (st := []) (C := RX10) (kc' := 0) (ks' := 0) (tX10_records hf  _ h) myX10_records rfl q1971 q1973 qs100 (by decide) (fun s9 H9 hK9 hR9 h69 => jIs_in hK9 hR9 h69 (m_lt hf (by decide)) (fk_1198 hf) rfl) rfl (Nat.le_of_ble_eq_true rfl) rfl (by decide) (Nat.le_refl 0) (Nat.le_refl 0) dX10_minutes_35 (fun v9 u9 hq => ?_) (fun k9 u9 hq => by obtain ⟨_, e9, _⟩ := hq; cases e9)
      obtain ⟨A4, e9, rfl, h⟩ := hq
      obtain rfl := Sum.inl.inj e9
      show J Γ RX10 cX10_minutes 2 (some .int) "minutes" [] 8 0 0 38 [(0, .ref 1198), (1, .int p1)] [] (n, K, A4, Lg, G) P
      refine j_aload_n 0 rfl dX10_minutes_38 ?_
      refine j_getfr fl_X10_134_9 rfl (m_lt hf (by decide)) (fk_1198 hf) (fg_1198_56 hf) dX10_minutes_39 ?_
      refine j_bipush (v := 76) dX10_minutes_42 (by decide) ?_
      refine j_ialdJ (j := 76) (m_lt hf (by decide)) (fk_1237 hf) (by unfold vp_in; decide) rfl dX10_minutes_44 ?_
      refine j_iret rfl ?_ dX10_minutes_45
      rw [hP]
      exact ⟨A4 1237 76, A4, rfl, rfl, h⟩
    · rw [if_pos c] at h
      refine j_aload_n 0 rfl dX10_minutes_17 ?_
      refine j_getfr fl_X10_134_9 rfl (m_lt hf (by decide)) (fk_1198 hf) (fg_1198_56 hf) dX10_minutes_18 ?_
      refine j_bipush (v := 76) dX10_minutes_21 (by decide) ?_
      refine j_ialdJ (j := 76) (m_lt hf (by decide)) (fk_1237 hf) (by unfold vp_in; decide) rfl dX10_minutes_23 ?_
      refine j_iret rfl ?_ dX10_minutes_24
      rw [hP]
      exact ⟨A 1237 76, A, rfl, rfl, h⟩
  · rw [if_pos c] at h
    refine j_iconst (v := (-1)) dX10_minutes_11 (by decide) ?_
    refine j_iret rfl ?_ dX10_minutes_12
    rw [hP]
    exact ⟨(-1), A, rfl, rfl, h⟩
theorem myX10_undo : jY yX10_undo cX10_undo 2 (some .boolean) 0 := ⟨q2034, q139, by decide +kernel, by decide +kernel, by decide⟩
def fX10_undo_L21   (Q : Int32 → pA → Prop) : Nat → Int32 → pA → Prop
  | 0, _, _ => False
  | n9 + 1, l1, A =>
    (if 77 ≤ l1 then Q 1 A else (vp_in ((77 * (A 1198 58)) + l1) 3080) ∧ ((vp_in l1 77) ∧ (∀ A3 : pA, A3 = pup A 1237 (l1).toNatClampNeg (A 1239 ((77 * (A 1198 58)) + l1).toNatClampNeg) → fX10_undo_L21   Q n9 (l1 + 1) A3)))
theorem fX10_undo_L21_ok {Γ : jG} {n : Nat} {K : Nat → pKd} {G : pG} {Lg : pL} (hf : mOK n K G) (Q : Int32 → pA → Prop) (P : jO → pS → Prop) (hP : P = (fun o u => ∃ (r : Int32) (A' : pA), o = .inl (some (.int r)) ∧ u = (n, K, A', Lg, G) ∧ Q r A'))    : ∀ (n9 : Nat) (l1 : Int32) (A : pA), fX10_undo_L21   Q n9 l1 A → J Γ RX10 cX10_undo 2 (some .boolean) "undo" [] 1 0 0 21 [(0, .ref 1198), (1, .int l1)] [] (n, K, A, Lg, G) P := by
  intro n9
  induction n9 with
  | zero => intro l1 A h; exact h.elim
  | succ n9 ih =>
    intro l1 A h
    unfold fX10_undo_L21 at h
    refine j_iload_n 1 rfl dX10_undo_21 ?_
    refine j_bipush (v := 77) dX10_undo_22 (by decide) ?_
    refine j_icmp_ge (tgt := 53) dX10_undo_24 (by decide) (fun c => ?_) (fun c => ?_)
    · rw [if_pos c] at h
      refine j_iconst (v := 1) dX10_undo_53 (by decide) ?_
      refine j_zret rfl (by decide) ?_ dX10_undo_54
      rw [hP]
      exact ⟨1, A, rfl, rfl, h⟩
    · rw [if_neg c] at h
      refine j_aload_n 0 rfl dX10_undo_27 ?_
      refine j_getfr fl_X10_134_9 rfl (m_lt hf (by decide)) (fk_1198 hf) (fg_1198_56 hf) dX10_undo_28 ?_
      refine j_iload_n 1 rfl dX10_undo_31 ?_
      refine j_aload_n 0 rfl dX10_undo_32 ?_
      refine j_getfr fl_X10_140_9 rfl (m_lt hf (by decide)) (fk_1198 hf) (fg_1198_59 hf) dX10_undo_33 ?_
      refine j_bipush (v := 77) dX10_undo_36 (by decide) ?_
      refine j_aload_n 0 rfl dX10_undo_38 ?_
      refine j_getfi fl_X10_263_9 rfl (m_lt hf (by decide)) (fk_1198 hf) dX10_undo_39 ?_
      refine j_imul dX10_undo_42 ?_
      refine j_iload_n 1 rfl dX10_undo_43 ?_
      refine j_iadd dX10_undo_44 ?_
      obtain ⟨b1, h⟩ := h
      refine j_ialdJ (j := ((77 * (A 1198 58)) + l1).toNatClampNeg) (m_lt hf (by decide)) (fk_1239 hf) b1 rfl dX10_undo_45 ?_
      obtain ⟨b2, h⟩ := h
      refine j_iastJ (j := (l1).toNatClampNeg) (m_lt hf (by decide)) (fk_1237 hf) b2 rfl dX10_undo_46 (fun A3 eA3 => ?_)
      replace h := h A3 eA3
      refine j_iinc (v := l1 + 1) 1 rfl rfl (by decide) rfl dX10_undo_47 ?_
      refine j_goto (tgt := 21) dX10_undo_50 (by decide) ?_
      refine j_ls [1, 0] rfl ?_
      exact ih (l1 + 1) A3 h
def fX10_undo (A : pA) (Q : Int32 → pA → Prop) : Prop :=
    (if (A 1198 58) = 0 then Q 0 A else ∀ A4 : pA, A4 = pup A 1198 58 ((A 1198 58) - 1) → ∃ m5, fX10_undo_L21   Q m5 0 A4)
theorem tX10_undo {Γ : jG} {n : Nat} {K : Nat → pKd} {G : pG} {Lg : pL} (hf : mOK n K G) {A : pA}  (Q : Int32 → pA → Prop) (h : fX10_undo A Q) : jMet Γ yX10_undo cX10_undo 2 (some .boolean) [] 1 0 0 [.ref 1198] (n, K, A, Lg, G) (fun o u => ∃ (r : Int32) (A' : pA), o = .inl (some (.int r)) ∧ u = (n, K, A', Lg, G) ∧ Q r A') := by
  unfold fX10_undo at h
  obtain ⟨P, hP⟩ : ∃ P : jO → pS → Prop, P = (fun o u => ∃ (r : Int32) (A' : pA), o = .inl (some (.int r)) ∧ u = (n, K, A', Lg, G) ∧ Q r A') := ⟨_, rfl⟩
  rw [← hP]
  refine jMet_of rfl rfl rfl (Nat.le_of_ble_eq_true rfl) ?_
  show J Γ RX10 cX10_undo 2 (some .boolean) "undo" [] 1 0 0 0 [(0, .ref 1198)] [] (n, K, A, Lg, G) P
  refine j_aload_n 0 rfl dX10_undo_0 ?_
  refine j_getfi fl_X10_263_9 rfl (m_lt hf (by decide)) (fk_1198 hf) dX10_undo_1 ?_
  refine j_if_ne (tgt := 9) dX10_undo_4 (by decide) (fun c => ?_) (fun c => ?_)
  · rw [if_neg c] at h
    refine j_aload_n 0 rfl dX10_undo_9 ?_
    refine j_dup rfl dX10_undo_10 ?_
    refine j_getfi fl_X10_263_9 rfl (m_lt hf (by decide)) (fk_1198 hf) dX10_undo_11 ?_
    refine j_iconst (v := 1) dX10_undo_14 (by decide) ?_
    refine j_isub dX10_undo_15 ?_
    refine j_putfiE (fp_X10_263_9 _) rfl rfl rfl (m_lt hf (by decide)) (fk_1198 hf) dX10_undo_16 (fun A4 eA4 => ?_)
    replace h := h A4 eA4
    refine j_iconst (v := 0) dX10_undo_19 (by decide) ?_
    refine j_istore_n (by decide) rfl dX10_undo_20 ?_
    refine j_ls [1, 0] rfl ?_
    obtain ⟨m5, h⟩ := h
    exact fX10_undo_L21_ok hf Q P hP   m5 0 A4 h
  · rw [if_pos c] at h
    refine j_iconst (v := 0) dX10_undo_7 (by decide) ?_
    refine j_zret rfl (by decide) ?_ dX10_undo_8
    rw [hP]
    exact ⟨0, A, rfl, rfl, h⟩
theorem myX10_far : jY yX10_far cX10_far 3 (some .int) 2 := ⟨q2038, q139, by decide +kernel, by decide +kernel, by decide⟩
def fX10_far (A : pA) (p1 : Int32) (p2 : Int32) (Q : Int32 → Prop) : Prop :=
    fX10_isPlace A p1 (fun r1 => (if r1 = 0 then Q (-1) else fX10_isPlace A p2 (fun r2 => (if r2 = 0 then Q (-1) else (vp_in ((7 * p1) + p2) 49) ∧ ((if (A 1236 ((7 * p1) + p2).toNatClampNeg) < 99 then (vp_in ((7 * p1) + p2) 49) ∧ (Q (A 1236 ((7 * p1) + p2).toNatClampNeg)) else Q (-2)))))))
theorem tX10_far {Γ : jG} {n : Nat} {K : Nat → pKd} {G : pG} {Lg : pL} (hf : mOK n K G) {A : pA} (p1 : Int32) (p2 : Int32) (Q : Int32 → Prop) (h : fX10_far A p1 p2 Q) : jMet Γ yX10_far cX10_far 3 (some .int) [] 3 0 0 [.ref 1198, .int p1, .int p2] (n, K, A, Lg, G) (fun o u => ∃ (r : Int32), o = .inl (some (.int r)) ∧ u = (n, K, A, Lg, G) ∧ Q r) := by
  unfold fX10_far at h
  obtain ⟨P, hP⟩ : ∃ P : jO → pS → Prop, P = (fun o u => ∃ (r : Int32), o = .inl (some (.int r)) ∧ u = (n, K, A, Lg, G) ∧ Q r) := ⟨_, rfl⟩
  rw [← hP]
  refine jMet_of rfl rfl rfl (Nat.le_of_ble_eq_true rfl) ?_
  show J Γ RX10 cX10_far 3 (some .int) "far" [] 3 0 0 0 [(0, .ref 1198), (1, .int p1), (2, .int p2)] [] (n, K, A, Lg, G) P
  refine j_aload_n 0 rfl dX10_far_0 ?_
  refine j_iload_n 1 rfl dX10_far_1 ?_
  refine j_callV (b := 1198) (As := [.int p1]) (st := []) (C := RX10) (kc' := 0) (ks' := 0) (tX10_isPlace hf p1 _ h) myX10_isPlace rfl q1888 q1890 qs85 (by decide) (fun s9 H9 hK9 hR9 h69 => jIs_in hK9 hR9 h69 (m_lt hf (by decide)) (fk_1198 hf) rfl) rfl (Nat.le_of_ble_eq_true rfl) rfl (by decide) (Nat.le_refl 0) (Nat.le_refl 0) dX10_far_2 (fun v9 u9 hq => ?_) (fun k9 u9 hq => by obtain ⟨_, e9, _⟩ := hq; cases e9)
  obtain ⟨r1, e9, rfl, h⟩ := hq
  obtain rfl := Sum.inl.inj e9
  show J Γ RX10 cX10_far 3 (some .int) "far" [] 3 0 0 5 [(0, .ref 1198), (1, .int p1), (2, .int p2)] [.int r1] (n, K, A, Lg, G) P
  refine j_if_eq (tgt := 16) dX10_far_5 (by decide) (fun c => ?_) (fun c => ?_)
  · rw [if_pos c] at h
    refine j_iconst (v := (-1)) dX10_far_16 (by decide) ?_
    refine j_iret rfl ?_ dX10_far_17
    rw [hP]
    exact ⟨(-1), rfl, rfl, h⟩
  · rw [if_neg c] at h
    refine j_aload_n 0 rfl dX10_far_8 ?_
    refine j_iload_n 2 rfl dX10_far_9 ?_
    refine j_callV (b := 1198) (As := [.int p2]) (st := []) (C := RX10) (kc' := 0) (ks' := 0) (tX10_isPlace hf p2 _ h) myX10_isPlace rfl q1888 q1890 qs85 (by decide) (fun s9 H9 hK9 hR9 h69 => jIs_in hK9 hR9 h69 (m_lt hf (by decide)) (fk_1198 hf) rfl) rfl (Nat.le_of_ble_eq_true rfl) rfl (by decide) (Nat.le_refl 0) (Nat.le_refl 0) dX10_far_10 (fun v9 u9 hq => ?_) (fun k9 u9 hq => by obtain ⟨_, e9, _⟩ := hq; cases e9)
    obtain ⟨r2, e9, rfl, h⟩ := hq
    obtain rfl := Sum.inl.inj e9
    show J Γ RX10 cX10_far 3 (some .int) "far" [] 3 0 0 13 [(0, .ref 1198), (1, .int p1), (2, .int p2)] [.int r2] (n, K, A, Lg, G) P
    refine j_if_ne (tgt := 18) dX10_far_13 (by decide) (fun c => ?_) (fun c => ?_)
    · rw [if_neg c] at h
      refine j_aload_n 0 rfl dX10_far_18 ?_
      refine j_getfr fl_X10_131_9 rfl (m_lt hf (by decide)) (fk_1198 hf) (fg_1198_55 hf) dX10_far_19 ?_
      refine j_bipush (v := 7) dX10_far_22 (by decide) ?_
      refine j_iload_n 1 rfl dX10_far_24 ?_
      refine j_imul dX10_far_25 ?_
      refine j_iload_n 2 rfl dX10_far_26 ?_
      refine j_iadd dX10_far_27 ?_
      obtain ⟨b3, h⟩ := h
      refine j_ialdJ (j := ((7 * p1) + p2).toNatClampNeg) (m_lt hf (by decide)) (fk_1236 hf) b3 rfl dX10_far_28 ?_
      refine j_bipush (v := 99) dX10_far_29 (by decide) ?_
      refine j_icmp_lt (tgt := 39) dX10_far_31 (by decide) (fun c => ?_) (fun c => ?_)
      · rw [if_pos c] at h
        refine j_aload_n 0 rfl dX10_far_39 ?_
        refine j_getfr fl_X10_131_9 rfl (m_lt hf (by decide)) (fk_1198 hf) (fg_1198_55 hf) dX10_far_40 ?_
        refine j_bipush (v := 7) dX10_far_43 (by decide) ?_
        refine j_iload_n 1 rfl dX10_far_45 ?_
        refine j_imul dX10_far_46 ?_
        refine j_iload_n 2 rfl dX10_far_47 ?_
        refine j_iadd dX10_far_48 ?_
        obtain ⟨b4, h⟩ := h
        refine j_ialdJ (j := ((7 * p1) + p2).toNatClampNeg) (m_lt hf (by decide)) (fk_1236 hf) b4 rfl dX10_far_49 ?_
        refine j_iret rfl ?_ dX10_far_50
        rw [hP]
        exact ⟨A 1236 ((7 * p1) + p2).toNatClampNeg, rfl, rfl, h⟩
      · rw [if_neg c] at h
        refine j_bipush (v := (-2)) dX10_far_34 (by decide) ?_
        refine j_goto (tgt := 50) dX10_far_36 (by decide) ?_
        refine j_iret rfl ?_ dX10_far_50
        rw [hP]
        exact ⟨(-2), rfl, rfl, h⟩
    · rw [if_pos c] at h
      refine j_iconst (v := (-1)) dX10_far_16 (by decide) ?_
      refine j_iret rfl ?_ dX10_far_17
      rw [hP]
      exact ⟨(-1), rfl, rfl, h⟩
theorem myX10_tillNext : jY yX10_tillNext cX10_tillNext 2 (some .int) 0 := ⟨q2046, q139, by decide +kernel, by decide +kernel, by decide⟩
def fX10_tillNext (A : pA) (Q : Int32 → Prop) : Prop :=
    (vp_in (A 1198 18) 2) ∧ (fX10_minuteNow A (fun r2 => (if ((((A 1221 (A 1198 18).toNatClampNeg) - r2) + 1440) - (((A 1221 (A 1198 18).toNatClampNeg) - r2) + 1440) / 1440 * 1440) = 0 then Q 1440 else Q ((((A 1221 (A 1198 18).toNatClampNeg) - r2) + 1440) - (((A 1221 (A 1198 18).toNatClampNeg) - r2) + 1440) / 1440 * 1440))))
theorem tX10_tillNext {Γ : jG} {n : Nat} {K : Nat → pKd} {G : pG} {Lg : pL} (hf : mOK n K G) {A : pA}  (Q : Int32 → Prop) (h : fX10_tillNext A Q) : jMet Γ yX10_tillNext cX10_tillNext 2 (some .int) [] 2 0 0 [.ref 1198] (n, K, A, Lg, G) (fun o u => ∃ (r : Int32), o = .inl (some (.int r)) ∧ u = (n, K, A, Lg, G) ∧ Q r) := by
  unfold fX10_tillNext at h
  obtain ⟨P, hP⟩ : ∃ P : jO → pS → Prop, P = (fun o u => ∃ (r : Int32), o = .inl (some (.int r)) ∧ u = (n, K, A, Lg, G) ∧ Q r) := ⟨_, rfl⟩
  rw [← hP]
  refine jMet_of rfl rfl rfl (Nat.le_of_ble_eq_true rfl) ?_
  show J Γ RX10 cX10_tillNext 2 (some .int) "tillNext" [] 2 0 0 0 [(0, .ref 1198)] [] (n, K, A, Lg, G) P
  refine j_aload_n 0 rfl dX10_tillNext_0 ?_
  refine j_getfr fl_X10_85_9 rfl (m_lt hf (by decide)) (fk_1198 hf) (fg_1198_36 hf) dX10_tillNext_1 ?_
  refine j_aload_n 0 rfl dX10_tillNext_4 ?_
  refine j_getfi fl_X10_242_9 rfl (m_lt hf (by decide)) (fk_1198 hf) dX10_tillNext_5 ?_
  obtain ⟨b1, h⟩ := h
  refine j_ialdJ (j := (A 1198 18).toNatClampNeg) (m_lt hf (by decide)) (fk_1221 hf) b1 rfl dX10_tillNext_8 ?_
  refine j_aload_n 0 rfl dX10_tillNext_9 ?_
  refine j_callV (b := 1198) (As := []) (st := [.int (A 1221 (A 1198 18).toNatClampNeg)]) (C := RX10) (kc' := 0) (ks' := 0) (tX10_minuteNow hf  _ h) myX10_minuteNow rfl q1936 q1938 qs93 (by decide) (fun s9 H9 hK9 hR9 h69 => jIs_in hK9 hR9 h69 (m_lt hf (by decide)) (fk_1198 hf) rfl) rfl (Nat.le_of_ble_eq_true rfl) rfl (by decide) (Nat.le_refl 0) (Nat.le_refl 0) dX10_tillNext_10 (fun v9 u9 hq => ?_) (fun k9 u9 hq => by obtain ⟨_, e9, _⟩ := hq; cases e9)
  obtain ⟨r2, e9, rfl, h⟩ := hq
  obtain rfl := Sum.inl.inj e9
  show J Γ RX10 cX10_tillNext 2 (some .int) "tillNext" [] 2 0 0 13 [(0, .ref 1198)] [.int r2, .int (A 1221 (A 1198 18).toNatClampNeg)] (n, K, A, Lg, G) P
  refine j_isub dX10_tillNext_13 ?_
  refine j_sipush (v := 1440) dX10_tillNext_14 (by decide) ?_
  refine j_iadd dX10_tillNext_17 ?_
  refine j_sipush (v := 1440) dX10_tillNext_18 (by decide) ?_
  refine j_irem (by decide) dX10_tillNext_21 ?_
  refine j_istore_n (by decide) rfl dX10_tillNext_22 ?_
  refine j_iload_n 0 rfl dX10_tillNext_23 ?_
  refine j_if_ne (tgt := 33) dX10_tillNext_24 (by decide) (fun c => ?_) (fun c => ?_)
  · rw [if_neg c] at h
    refine j_iload_n 0 rfl dX10_tillNext_33 ?_
    refine j_iret rfl ?_ dX10_tillNext_34
    rw [hP]
    exact ⟨(((A 1221 (A 1198 18).toNatClampNeg) - r2) + 1440) - (((A 1221 (A 1198 18).toNatClampNeg) - r2) + 1440) / 1440 * 1440, rfl, rfl, h⟩
  · rw [if_pos c] at h
    refine j_sipush (v := 1440) dX10_tillNext_27 (by decide) ?_
    refine j_goto (tgt := 34) dX10_tillNext_30 (by decide) ?_
    refine j_iret rfl ?_ dX10_tillNext_34
    rw [hP]
    exact ⟨1440, rfl, rfl, h⟩
theorem myX10_till : jY yX10_till cX10_till 1 (some .int) 0 := ⟨q2042, q139, by decide +kernel, by decide +kernel, by decide⟩
def fX10_till (A : pA) (Q : Int32 → pA → Prop) : Prop :=
    fX10_copies A (fun A1 => fX10_tillNext A1 (fun r2 => Q r2 A1))
theorem tX10_till {Γ : jG} {n : Nat} {K : Nat → pKd} {G : pG} {Lg : pL} (hf : mOK n K G) {A : pA}  (Q : Int32 → pA → Prop) (h : fX10_till A Q) : jMet Γ yX10_till cX10_till 1 (some .int) [] 3 0 0 [.ref 1198] (n, K, A, Lg, G) (fun o u => ∃ (r : Int32) (A' : pA), o = .inl (some (.int r)) ∧ u = (n, K, A', Lg, G) ∧ Q r A') := by
  unfold fX10_till at h
  obtain ⟨P, hP⟩ : ∃ P : jO → pS → Prop, P = (fun o u => ∃ (r : Int32) (A' : pA), o = .inl (some (.int r)) ∧ u = (n, K, A', Lg, G) ∧ Q r A') := ⟨_, rfl⟩
  rw [← hP]
  refine jMet_of rfl rfl rfl (Nat.le_of_ble_eq_true rfl) ?_
  show J Γ RX10 cX10_till 1 (some .int) "till" [] 3 0 0 0 [(0, .ref 1198)] [] (n, K, A, Lg, G) P
  refine j_aload_n 0 rfl dX10_till_0 ?_
  refine j_callV (b := 1198) (As := []) (st := []) (C := RX10) (kc' := 0) (ks' := 0) (tX10_copies hf  _ h) myX10_copies rfl q1895 q1897 qs86 (by decide) (fun s9 H9 hK9 hR9 h69 => jIs_in hK9 hR9 h69 (m_lt hf (by decide)) (fk_1198 hf) rfl) rfl (Nat.le_of_ble_eq_true rfl) rfl (by decide) (Nat.le_refl 0) (Nat.le_refl 0) dX10_till_1 (fun v9 u9 hq => ?_) (fun k9 u9 hq => by obtain ⟨_, e9, _⟩ := hq; cases e9)
  obtain ⟨A1, e9, rfl, h⟩ := hq
  obtain rfl := Sum.inl.inj e9
  show J Γ RX10 cX10_till 1 (some .int) "till" [] 3 0 0 4 [(0, .ref 1198)] [] (n, K, A1, Lg, G) P
  refine j_aload_n 0 rfl dX10_till_4 ?_
  refine j_callV (b := 1198) (As := []) (st := []) (C := RX10) (kc' := 0) (ks' := 0) (tX10_tillNext hf  _ h) myX10_tillNext rfl q2043 q2045 qs112 (by decide) (fun s9 H9 hK9 hR9 h69 => jIs_in hK9 hR9 h69 (m_lt hf (by decide)) (fk_1198 hf) rfl) rfl (Nat.le_of_ble_eq_true rfl) rfl (by decide) (Nat.le_refl 0) (Nat.le_refl 0) dX10_till_5 (fun v9 u9 hq => ?_) (fun k9 u9 hq => by obtain ⟨_, e9, _⟩ := hq; cases e9)
  obtain ⟨r2, e9, rfl, h⟩ := hq
  obtain rfl := Sum.inl.inj e9
  show J Γ RX10 cX10_till 1 (some .int) "till" [] 3 0 0 8 [(0, .ref 1198)] [.int r2] (n, K, A1, Lg, G) P
  refine j_iret rfl ?_ dX10_till_8
  rw [hP]
  exact ⟨r2, A1, rfl, rfl, h⟩
