set_option maxRecDepth 100000
set_option maxHeartbeats 4000000
theorem myX10_count : jY yX10_count cX10_count 2 (some .int) 1 := ⟨q2157, q139, by decide +kernel, by decide +kernel, by decide⟩
def fX10_count_J262   (Q : Int32 → pA → Prop) (s0 : Int32) (s1 : Int32) (A : pA) : Prop :=
    Q (s1 + s0) A
theorem fX10_count_J262_ok {Γ : jG} {n : Nat} {K : Nat → pKd} {G : pG} {Lg : pL} (hf : mOK n K G) (Q : Int32 → pA → Prop) (P : jO → pS → Prop) (hP : P = (fun o u => ∃ (r : Int32) (A' : pA), o = .inl (some (.int r)) ∧ u = (n, K, A', Lg, G) ∧ Q r A'))   (s0 : Int32) (s1 : Int32) (A : pA) (h : fX10_count_J262   Q s0 s1 A) : J Γ RX10 cX10_count 2 (some .int) "count" [] 3 0 0 262 [] [.int s0, .int s1] (n, K, A, Lg, G) P := by
  unfold fX10_count_J262 at h
  refine j_iadd dX10_count_262 ?_
  refine j_iret rfl ?_ dX10_count_263
  rw [hP]
  exact ⟨s1 + s0, A, rfl, rfl, h⟩
def fX10_count_J247   (Q : Int32 → pA → Prop) (s0 : Int32) (s1 : Int32) (A : pA) : Prop :=
    (if (A 1244 2) = 0 then fX10_count_J262   Q 0 (s1 + s0) A else fX10_count_J262   Q 1 (s1 + s0) A)
theorem fX10_count_J247_ok {Γ : jG} {n : Nat} {K : Nat → pKd} {G : pG} {Lg : pL} (hf : mOK n K G) (Q : Int32 → pA → Prop) (P : jO → pS → Prop) (hP : P = (fun o u => ∃ (r : Int32) (A' : pA), o = .inl (some (.int r)) ∧ u = (n, K, A', Lg, G) ∧ Q r A'))   (s0 : Int32) (s1 : Int32) (A : pA) (h : fX10_count_J247   Q s0 s1 A) : J Γ RX10 cX10_count 2 (some .int) "count" [] 3 0 0 247 [(0, .ref 1198)] [.int s0, .int s1] (n, K, A, Lg, G) P := by
  unfold fX10_count_J247 at h
  refine j_iadd dX10_count_247 ?_
  refine j_aload_n 0 rfl dX10_count_248 ?_
  refine j_getfr fl_X10_155_9 rfl (m_lt hf (by decide)) (fk_1198 hf) (fg_1198_65 hf) dX10_count_249 ?_
  refine j_iconst (v := 2) dX10_count_252 (by decide) ?_
  refine j_zaldJ (j := 2) (m_lt hf (by decide)) (fk_1244 hf) (by unfold vp_in; decide) rfl dX10_count_253 ?_
  refine j_if_eq (tgt := 261) dX10_count_254 (by decide) (fun c => ?_) (fun c => ?_)
  · rw [if_pos c] at h
    refine j_iconst (v := 0) dX10_count_261 (by decide) ?_
    refine j_ls [] rfl ?_
    exact fX10_count_J262_ok hf Q P hP   0 (s1 + s0) A h
  · rw [if_neg c] at h
    refine j_iconst (v := 1) dX10_count_257 (by decide) ?_
    refine j_goto (tgt := 262) dX10_count_258 (by decide) ?_
    refine j_ls [] rfl ?_
    exact fX10_count_J262_ok hf Q P hP   1 (s1 + s0) A h
def fX10_count_J233   (Q : Int32 → pA → Prop) (s0 : Int32) (A : pA) : Prop :=
    (if (A 1244 1) = 0 then fX10_count_J247   Q 0 s0 A else fX10_count_J247   Q 1 s0 A)
theorem fX10_count_J233_ok {Γ : jG} {n : Nat} {K : Nat → pKd} {G : pG} {Lg : pL} (hf : mOK n K G) (Q : Int32 → pA → Prop) (P : jO → pS → Prop) (hP : P = (fun o u => ∃ (r : Int32) (A' : pA), o = .inl (some (.int r)) ∧ u = (n, K, A', Lg, G) ∧ Q r A'))   (s0 : Int32) (A : pA) (h : fX10_count_J233   Q s0 A) : J Γ RX10 cX10_count 2 (some .int) "count" [] 3 0 0 233 [(0, .ref 1198)] [.int s0] (n, K, A, Lg, G) P := by
  unfold fX10_count_J233 at h
  refine j_aload_n 0 rfl dX10_count_233 ?_
  refine j_getfr fl_X10_155_9 rfl (m_lt hf (by decide)) (fk_1198 hf) (fg_1198_65 hf) dX10_count_234 ?_
  refine j_iconst (v := 1) dX10_count_237 (by decide) ?_
  refine j_zaldJ (j := 1) (m_lt hf (by decide)) (fk_1244 hf) (by unfold vp_in; decide) rfl dX10_count_238 ?_
  refine j_if_eq (tgt := 246) dX10_count_239 (by decide) (fun c => ?_) (fun c => ?_)
  · rw [if_pos c] at h
    refine j_iconst (v := 0) dX10_count_246 (by decide) ?_
    exact fX10_count_J247_ok hf Q P hP   0 s0 A h
  · rw [if_neg c] at h
    refine j_iconst (v := 1) dX10_count_242 (by decide) ?_
    refine j_goto (tgt := 247) dX10_count_243 (by decide) ?_
    exact fX10_count_J247_ok hf Q P hP   1 s0 A h
def fX10_count (A : pA) (p1 : Int32) (Q : Int32 → pA → Prop) : Prop :=
    fX10_copies A (fun A1 => (if p1 = 0 then (vp_in (A1 1198 18) 2) ∧ (Q (A1 1208 (A1 1198 18).toNatClampNeg) A1) else (if p1 = 1 then (vp_in (A1 1198 18) 2) ∧ (Q (A1 1210 (A1 1198 18).toNatClampNeg) A1) else (if p1 = 2 then (vp_in (A1 1198 18) 2) ∧ (Q (A1 1211 (A1 1198 18).toNatClampNeg) A1) else (if p1 = 3 then (vp_in (A1 1198 18) 2) ∧ (Q (A1 1215 (A1 1198 18).toNatClampNeg) A1) else (if p1 = 4 then (vp_in (A1 1198 18) 2) ∧ (Q (A1 1218 (A1 1198 18).toNatClampNeg) A1) else (if p1 = 5 then fX10_minuteNow A1 (fun r13 => Q r13 A1) else (if p1 = 6 then fX10_isHour A1 (fun r15 => (if r15 = 0 then Q 0 A1 else Q 1 A1)) else (if p1 = 7 then Q (A1 1238 76) A1 else (if p1 = 8 then (vp_in (A1 1198 18) 2) ∧ (fX10_bitsOf A1 27 (A1 1215 (A1 1198 18).toNatClampNeg) 1 (fun r19 => Q r19 A1)) else (if p1 = 9 then Q (A1 1238 75) A1 else (if p1 = 10 then fX10_sumNow A1 5 5 (fun r22 => Q r22 A1) else (if p1 = 11 then Q (A1 1198 2) A1 else (if p1 = 12 then Q (A1 1198 58) A1 else (if p1 = 13 then Q (A1 1198 61) A1 else (if p1 = 14 then (if (A1 1244 0) = 0 then fX10_count_J233   Q 0 A1 else fX10_count_J233   Q 1 A1) else (if p1 = 15 then fX10_sumNow A1 31 4 (fun r28 => Q r28 A1) else (if p1 = 16 then fX10_sumNow A1 23 4 (fun r30 => Q r30 A1) else (if p1 = 17 then fX10_sumNow A1 10 5 (fun r32 => Q r32 A1) else (if p1 = 18 then fX10_sumNow A1 55 20 (fun r34 => Q r34 A1) else (Q (-1) A1)))))))))))))))))))))
theorem tX10_count {Γ : jG} {n : Nat} {K : Nat → pKd} {G : pG} {Lg : pL} (hf : mOK n K G) {A : pA} (p1 : Int32) (Q : Int32 → pA → Prop) (h : fX10_count A p1 Q) : jMet Γ yX10_count cX10_count 2 (some .int) [] 3 0 0 [.ref 1198, .int p1] (n, K, A, Lg, G) (fun o u => ∃ (r : Int32) (A' : pA), o = .inl (some (.int r)) ∧ u = (n, K, A', Lg, G) ∧ Q r A') := by
  unfold fX10_count at h
  obtain ⟨P, hP⟩ : ∃ P : jO → pS → Prop, P = (fun o u => ∃ (r : Int32) (A' : pA), o = .inl (some (.int r)) ∧ u = (n, K, A', Lg, G) ∧ Q r A') := ⟨_, rfl⟩
  rw [← hP]
  refine jMet_of rfl rfl rfl (Nat.le_of_ble_eq_true rfl) ?_
  show J Γ RX10 cX10_count 2 (some .int) "count" [] 3 0 0 0 [(0, .ref 1198), (1, .int p1)] [] (n, K, A, Lg, G) P
  refine j_aload_n 0 rfl dX10_count_0 ?_
  refine j_callV (b := 1198) (As := []) (st := []) (C := RX10) (kc' := 0) (ks' := 0) (tX10_copies hf  _ h) myX10_copies rfl q1895 q1897 qs86 (by decide) (fun s9 H9 hK9 hR9 h69 => jIs_in hK9 hR9 h69 (m_lt hf (by decide)) (fk_1198 hf) rfl) rfl (Nat.le_of_ble_eq_true rfl) rfl (by decide) (Nat.le_refl 0) (Nat.le_refl 0) dX10_count_1 (fun v9 u9 hq => ?_) (fun k9 u9 hq => by obtain ⟨_, e9, _⟩ := hq; cases e9)
  obtain ⟨A1, e9, rfl, h⟩ := hq
  obtain rfl := Sum.inl.inj e9
  show J Γ RX10 cX10_count 2 (some .int) "count" [] 3 0 0 4 [(0, .ref 1198), (1, .int p1)] [] (n, K, A1, Lg, G) P
  refine j_iload_n 1 rfl dX10_count_4 ?_
  by_cases c2 : p1 = 0
  · rw [if_pos c2] at h
    have c2T : (p1 : Int32).toInt = 0 := by rw [c2]; rfl
    refine j_tableIn (off := 91) (tgt := 96) (by rw [c2T]; decide) (by rw [c2T]; decide) (by rw [c2T]; rfl) dX10_count_5 (by decide) ?_
    refine j_aload_n 0 rfl dX10_count_96 ?_
    refine j_getfr fl_X10_46_9 rfl (m_lt hf (by decide)) (fk_1198 hf) (fg_1198_23 hf) dX10_count_97 ?_
    refine j_aload_n 0 rfl dX10_count_100 ?_
    refine j_getfi fl_X10_242_9 rfl (m_lt hf (by decide)) (fk_1198 hf) dX10_count_101 ?_
    obtain ⟨b3, h⟩ := h
    refine j_ialdJ (j := (A1 1198 18).toNatClampNeg) (m_lt hf (by decide)) (fk_1208 hf) b3 rfl dX10_count_104 ?_
    refine j_iret rfl ?_ dX10_count_105
    rw [hP]
    exact ⟨A1 1208 (A1 1198 18).toNatClampNeg, A1, rfl, rfl, h⟩
  rw [if_neg c2] at h
  by_cases c4 : p1 = 1
  · rw [if_pos c4] at h
    have c4T : (p1 : Int32).toInt = 1 := by rw [c4]; rfl
    refine j_tableIn (off := 101) (tgt := 106) (by rw [c4T]; decide) (by rw [c4T]; decide) (by rw [c4T]; rfl) dX10_count_5 (by decide) ?_
    refine j_aload_n 0 rfl dX10_count_106 ?_
    refine j_getfr fl_X10_52_9 rfl (m_lt hf (by decide)) (fk_1198 hf) (fg_1198_25 hf) dX10_count_107 ?_
    refine j_aload_n 0 rfl dX10_count_110 ?_
    refine j_getfi fl_X10_242_9 rfl (m_lt hf (by decide)) (fk_1198 hf) dX10_count_111 ?_
    obtain ⟨b5, h⟩ := h
    refine j_ialdJ (j := (A1 1198 18).toNatClampNeg) (m_lt hf (by decide)) (fk_1210 hf) b5 rfl dX10_count_114 ?_
    refine j_iret rfl ?_ dX10_count_115
    rw [hP]
    exact ⟨A1 1210 (A1 1198 18).toNatClampNeg, A1, rfl, rfl, h⟩
  rw [if_neg c4] at h
  by_cases c6 : p1 = 2
  · rw [if_pos c6] at h
    have c6T : (p1 : Int32).toInt = 2 := by rw [c6]; rfl
    refine j_tableIn (off := 111) (tgt := 116) (by rw [c6T]; decide) (by rw [c6T]; decide) (by rw [c6T]; rfl) dX10_count_5 (by decide) ?_
    refine j_aload_n 0 rfl dX10_count_116 ?_
    refine j_getfr fl_X10_55_9 rfl (m_lt hf (by decide)) (fk_1198 hf) (fg_1198_26 hf) dX10_count_117 ?_
    refine j_aload_n 0 rfl dX10_count_120 ?_
    refine j_getfi fl_X10_242_9 rfl (m_lt hf (by decide)) (fk_1198 hf) dX10_count_121 ?_
    obtain ⟨b7, h⟩ := h
    refine j_ialdJ (j := (A1 1198 18).toNatClampNeg) (m_lt hf (by decide)) (fk_1211 hf) b7 rfl dX10_count_124 ?_
    refine j_iret rfl ?_ dX10_count_125
    rw [hP]
    exact ⟨A1 1211 (A1 1198 18).toNatClampNeg, A1, rfl, rfl, h⟩
  rw [if_neg c6] at h
  by_cases c8 : p1 = 3
  · rw [if_pos c8] at h
    have c8T : (p1 : Int32).toInt = 3 := by rw [c8]; rfl
    refine j_tableIn (off := 121) (tgt := 126) (by rw [c8T]; decide) (by rw [c8T]; decide) (by rw [c8T]; rfl) dX10_count_5 (by decide) ?_
    refine j_aload_n 0 rfl dX10_count_126 ?_
    refine j_getfr fl_X10_67_9 rfl (m_lt hf (by decide)) (fk_1198 hf) (fg_1198_30 hf) dX10_count_127 ?_
    refine j_aload_n 0 rfl dX10_count_130 ?_
    refine j_getfi fl_X10_242_9 rfl (m_lt hf (by decide)) (fk_1198 hf) dX10_count_131 ?_
    obtain ⟨b9, h⟩ := h
    refine j_ialdJ (j := (A1 1198 18).toNatClampNeg) (m_lt hf (by decide)) (fk_1215 hf) b9 rfl dX10_count_134 ?_
    refine j_iret rfl ?_ dX10_count_135
    rw [hP]
    exact ⟨A1 1215 (A1 1198 18).toNatClampNeg, A1, rfl, rfl, h⟩
  rw [if_neg c8] at h
  by_cases c10 : p1 = 4
  · rw [if_pos c10] at h
    have c10T : (p1 : Int32).toInt = 4 := by rw [c10]; rfl
    refine j_tableIn (off := 131) (tgt := 136) (by rw [c10T]; decide) (by rw [c10T]; decide) (by rw [c10T]; rfl) dX10_count_5 (by decide) ?_
    refine j_aload_n 0 rfl dX10_count_136 ?_
    refine j_getfr fl_X10_76_9 rfl (m_lt hf (by decide)) (fk_1198 hf) (fg_1198_33 hf) dX10_count_137 ?_
    refine j_aload_n 0 rfl dX10_count_140 ?_
    refine j_getfi fl_X10_242_9 rfl (m_lt hf (by decide)) (fk_1198 hf) dX10_count_141 ?_
    obtain ⟨b11, h⟩ := h
    refine j_ialdJ (j := (A1 1198 18).toNatClampNeg) (m_lt hf (by decide)) (fk_1218 hf) b11 rfl dX10_count_144 ?_
    refine j_iret rfl ?_ dX10_count_145
    rw [hP]
    exact ⟨A1 1218 (A1 1198 18).toNatClampNeg, A1, rfl, rfl, h⟩
  rw [if_neg c10] at h
  by_cases c12 : p1 = 5
  · rw [if_pos c12] at h
    have c12T : (p1 : Int32).toInt = 5 := by rw [c12]; rfl
    refine j_tableIn (off := 141) (tgt := 146) (by rw [c12T]; decide) (by rw [c12T]; decide) (by rw [c12T]; rfl) dX10_count_5 (by decide) ?_
    refine j_aload_n 0 rfl dX10_count_146 ?_
    refine j_callV (b := 1198) (As := []) (st := []) (C := RX10) (kc' := 0) (ks' := 0) (tX10_minuteNow hf  _ h) myX10_minuteNow rfl q1936 q1938 qs93 (by decide) (fun s9 H9 hK9 hR9 h69 => jIs_in hK9 hR9 h69 (m_lt hf (by decide)) (fk_1198 hf) rfl) rfl (Nat.le_of_ble_eq_true rfl) rfl (by decide) (Nat.le_refl 0) (Nat.le_refl 0) dX10_count_147 (fun v9 u9 hq => ?_) (fun k9 u9 hq => by obtain ⟨_, e9, _⟩ := hq; cases e9)
    obtain ⟨r13, e9, rfl, h⟩ := hq
    obtain rfl := Sum.inl.inj e9
    show J Γ RX10 cX10_count 2 (some .int) "count" [] 3 0 0 150 [(0, .ref 1198), (1, .int p1)] [.int r13] (n, K, A1, Lg, G) P
    refine j_iret rfl ?_ dX10_count_150
    rw [hP]
    exact ⟨r13, A1, rfl, rfl, h⟩
  rw [if_neg c12] at h
  by_cases c14 : p1 = 6
  · rw [if_pos c14] at h
    have c14T : (p1 : Int32).toInt = 6 := by rw [c14]; rfl
    refine j_tableIn (off := 146) (tgt := 151) (by rw [c14T]; decide) (by rw [c14T]; decide) (by rw [c14T]; rfl) dX10_count_5 (by decide) ?_
    refine j_aload_n 0 rfl dX10_count_151 ?_
    refine j_callV (b := 1198) (As := []) (st := []) (C := RX10) (kc' := 0) (ks' := 0) (tX10_isHour hf  _ h) myX10_isHour rfl q2007 q2009 qs106 (by decide) (fun s9 H9 hK9 hR9 h69 => jIs_in hK9 hR9 h69 (m_lt hf (by decide)) (fk_1198 hf) rfl) rfl (Nat.le_of_ble_eq_true rfl) rfl (by decide) (Nat.le_refl 0) (Nat.le_refl 0) dX10_count_152 (fun v9 u9 hq => ?_) (fun k9 u9 hq => by obtain ⟨_, e9, _⟩ := hq; cases e9)
    obtain ⟨r15, e9, rfl, h⟩ := hq
    obtain rfl := Sum.inl.inj e9
    show J Γ RX10 cX10_count 2 (some .int) "count" [] 3 0 0 155 [(0, .ref 1198), (1, .int p1)] [.int r15] (n, K, A1, Lg, G) P
    refine j_if_eq (tgt := 162) dX10_count_155 (by decide) (fun c => ?_) (fun c => ?_)
    · rw [if_pos c] at h
      refine j_iconst (v := 0) dX10_count_162 (by decide) ?_
      refine j_iret rfl ?_ dX10_count_163
      rw [hP]
      exact ⟨0, A1, rfl, rfl, h⟩
    · rw [if_neg c] at h
      refine j_iconst (v := 1) dX10_count_158 (by decide) ?_
      refine j_goto (tgt := 163) dX10_count_159 (by decide) ?_
      refine j_iret rfl ?_ dX10_count_163
      rw [hP]
      exact ⟨1, A1, rfl, rfl, h⟩
  rw [if_neg c14] at h
  by_cases c16 : p1 = 7
  · rw [if_pos c16] at h
    have c16T : (p1 : Int32).toInt = 7 := by rw [c16]; rfl
    refine j_tableIn (off := 159) (tgt := 164) (by rw [c16T]; decide) (by rw [c16T]; decide) (by rw [c16T]; rfl) dX10_count_5 (by decide) ?_
    refine j_aload_n 0 rfl dX10_count_164 ?_
    refine j_getfr fl_X10_137_9 rfl (m_lt hf (by decide)) (fk_1198 hf) (fg_1198_57 hf) dX10_count_165 ?_
    refine j_bipush (v := 76) dX10_count_168 (by decide) ?_
    refine j_ialdJ (j := 76) (m_lt hf (by decide)) (fk_1238 hf) (by unfold vp_in; decide) rfl dX10_count_170 ?_
    refine j_iret rfl ?_ dX10_count_171
    rw [hP]
    exact ⟨A1 1238 76, A1, rfl, rfl, h⟩
  rw [if_neg c16] at h
  by_cases c17 : p1 = 8
  · rw [if_pos c17] at h
    have c17T : (p1 : Int32).toInt = 8 := by rw [c17]; rfl
    refine j_tableIn (off := 167) (tgt := 172) (by rw [c17T]; decide) (by rw [c17T]; decide) (by rw [c17T]; rfl) dX10_count_5 (by decide) ?_
    refine j_aload_n 0 rfl dX10_count_172 ?_
    refine j_bipush (v := 27) dX10_count_173 (by decide) ?_
    refine j_aload_n 0 rfl dX10_count_175 ?_
    refine j_getfr fl_X10_67_9 rfl (m_lt hf (by decide)) (fk_1198 hf) (fg_1198_30 hf) dX10_count_176 ?_
    refine j_aload_n 0 rfl dX10_count_179 ?_
    refine j_getfi fl_X10_242_9 rfl (m_lt hf (by decide)) (fk_1198 hf) dX10_count_180 ?_
    obtain ⟨b18, h⟩ := h
    refine j_ialdJ (j := (A1 1198 18).toNatClampNeg) (m_lt hf (by decide)) (fk_1215 hf) b18 rfl dX10_count_183 ?_
    refine j_iconst (v := 1) dX10_count_184 (by decide) ?_
    refine j_callV (b := 1198) (As := [.int 27, .int (A1 1215 (A1 1198 18).toNatClampNeg), .int 1]) (st := []) (C := RX10) (kc' := 0) (ks' := 0) (tX10_bitsOf hf 27 (A1 1215 (A1 1198 18).toNatClampNeg) 1 _ h) myX10_bitsOf rfl q1899 q1901 qs87 (by decide) (fun s9 H9 hK9 hR9 h69 => jIs_in hK9 hR9 h69 (m_lt hf (by decide)) (fk_1198 hf) rfl) rfl (Nat.le_of_ble_eq_true rfl) rfl (by decide) (Nat.le_refl 0) (Nat.le_refl 0) dX10_count_185 (fun v9 u9 hq => ?_) (fun k9 u9 hq => by obtain ⟨_, e9, _⟩ := hq; cases e9)
    obtain ⟨r19, e9, rfl, h⟩ := hq
    obtain rfl := Sum.inl.inj e9
    show J Γ RX10 cX10_count 2 (some .int) "count" [] 3 0 0 188 [(0, .ref 1198), (1, .int p1)] [.int r19] (n, K, A1, Lg, G) P
    refine j_iret rfl ?_ dX10_count_188
    rw [hP]
    exact ⟨r19, A1, rfl, rfl, h⟩
  rw [if_neg c17] at h
  by_cases c20 : p1 = 9
  · rw [if_pos c20] at h
    have c20T : (p1 : Int32).toInt = 9 := by rw [c20]; rfl
    refine j_tableIn (off := 184) (tgt := 189) (by rw [c20T]; decide) (by rw [c20T]; decide) (by rw [c20T]; rfl) dX10_count_5 (by decide) ?_
    refine j_aload_n 0 rfl dX10_count_189 ?_
    refine j_getfr fl_X10_137_9 rfl (m_lt hf (by decide)) (fk_1198 hf) (fg_1198_57 hf) dX10_count_190 ?_
    refine j_bipush (v := 75) dX10_count_193 (by decide) ?_
    refine j_ialdJ (j := 75) (m_lt hf (by decide)) (fk_1238 hf) (by unfold vp_in; decide) rfl dX10_count_195 ?_
    refine j_iret rfl ?_ dX10_count_196
    rw [hP]
    exact ⟨A1 1238 75, A1, rfl, rfl, h⟩
  rw [if_neg c20] at h
  by_cases c21 : p1 = 10
  · rw [if_pos c21] at h
    have c21T : (p1 : Int32).toInt = 10 := by rw [c21]; rfl
    refine j_tableIn (off := 192) (tgt := 197) (by rw [c21T]; decide) (by rw [c21T]; decide) (by rw [c21T]; rfl) dX10_count_5 (by decide) ?_
    refine j_aload_n 0 rfl dX10_count_197 ?_
    refine j_iconst (v := 5) dX10_count_198 (by decide) ?_
    refine j_iconst (v := 5) dX10_count_199 (by decide) ?_
    refine j_callV (b := 1198) (As := [.int 5, .int 5]) (st := []) (C := RX10) (kc' := 0) (ks' := 0) (tX10_sumNow hf 5 5 _ h) myX10_sumNow rfl q2158 q2160 qs119 (by decide) (fun s9 H9 hK9 hR9 h69 => jIs_in hK9 hR9 h69 (m_lt hf (by decide)) (fk_1198 hf) rfl) rfl (Nat.le_of_ble_eq_true rfl) rfl (by decide) (Nat.le_refl 0) (Nat.le_refl 0) dX10_count_200 (fun v9 u9 hq => ?_) (fun k9 u9 hq => by obtain ⟨_, e9, _⟩ := hq; cases e9)
    obtain ⟨r22, e9, rfl, h⟩ := hq
    obtain rfl := Sum.inl.inj e9
    show J Γ RX10 cX10_count 2 (some .int) "count" [] 3 0 0 203 [(0, .ref 1198), (1, .int p1)] [.int r22] (n, K, A1, Lg, G) P
    refine j_iret rfl ?_ dX10_count_203
    rw [hP]
    exact ⟨r22, A1, rfl, rfl, h⟩
  rw [if_neg c21] at h
  by_cases c23 : p1 = 11
  · rw [if_pos c23] at h
    have c23T : (p1 : Int32).toInt = 11 := by rw [c23]; rfl
    refine j_tableIn (off := 199) (tgt := 204) (by rw [c23T]; decide) (by rw [c23T]; decide) (by rw [c23T]; rfl) dX10_count_5 (by decide) ?_
    refine j_aload_n 0 rfl dX10_count_204 ?_
    refine j_getfi fl_X10_175_9 rfl (m_lt hf (by decide)) (fk_1198 hf) dX10_count_205 ?_
    refine j_iret rfl ?_ dX10_count_208
    rw [hP]
    exact ⟨A1 1198 2, A1, rfl, rfl, h⟩
  rw [if_neg c23] at h
  by_cases c24 : p1 = 12
  · rw [if_pos c24] at h
    have c24T : (p1 : Int32).toInt = 12 := by rw [c24]; rfl
    refine j_tableIn (off := 204) (tgt := 209) (by rw [c24T]; decide) (by rw [c24T]; decide) (by rw [c24T]; rfl) dX10_count_5 (by decide) ?_
    refine j_aload_n 0 rfl dX10_count_209 ?_
    refine j_getfi fl_X10_263_9 rfl (m_lt hf (by decide)) (fk_1198 hf) dX10_count_210 ?_
    refine j_iret rfl ?_ dX10_count_213
    rw [hP]
    exact ⟨A1 1198 58, A1, rfl, rfl, h⟩
  rw [if_neg c24] at h
  by_cases c25 : p1 = 13
  · rw [if_pos c25] at h
    have c25T : (p1 : Int32).toInt = 13 := by rw [c25]; rfl
    refine j_tableIn (off := 209) (tgt := 214) (by rw [c25T]; decide) (by rw [c25T]; decide) (by rw [c25T]; rfl) dX10_count_5 (by decide) ?_
    refine j_aload_n 0 rfl dX10_count_214 ?_
    refine j_getfi fl_X10_266_9 rfl (m_lt hf (by decide)) (fk_1198 hf) dX10_count_215 ?_
    refine j_iret rfl ?_ dX10_count_218
    rw [hP]
    exact ⟨A1 1198 61, A1, rfl, rfl, h⟩
  rw [if_neg c25] at h
  by_cases c26 : p1 = 14
  · rw [if_pos c26] at h
    have c26T : (p1 : Int32).toInt = 14 := by rw [c26]; rfl
    refine j_tableIn (off := 214) (tgt := 219) (by rw [c26T]; decide) (by rw [c26T]; decide) (by rw [c26T]; rfl) dX10_count_5 (by decide) ?_
    refine j_aload_n 0 rfl dX10_count_219 ?_
    refine j_getfr fl_X10_155_9 rfl (m_lt hf (by decide)) (fk_1198 hf) (fg_1198_65 hf) dX10_count_220 ?_
    refine j_iconst (v := 0) dX10_count_223 (by decide) ?_
    refine j_zaldJ (j := 0) (m_lt hf (by decide)) (fk_1244 hf) (by unfold vp_in; decide) rfl dX10_count_224 ?_
    refine j_if_eq (tgt := 232) dX10_count_225 (by decide) (fun c => ?_) (fun c => ?_)
    · rw [if_pos c] at h
      refine j_iconst (v := 0) dX10_count_232 (by decide) ?_
      refine j_ls [0] rfl ?_
      exact fX10_count_J233_ok hf Q P hP   0 A1 h
    · rw [if_neg c] at h
      refine j_iconst (v := 1) dX10_count_228 (by decide) ?_
      refine j_goto (tgt := 233) dX10_count_229 (by decide) ?_
      refine j_ls [0] rfl ?_
      exact fX10_count_J233_ok hf Q P hP   1 A1 h
  rw [if_neg c26] at h
  by_cases c27 : p1 = 15
  · rw [if_pos c27] at h
    have c27T : (p1 : Int32).toInt = 15 := by rw [c27]; rfl
    refine j_tableIn (off := 259) (tgt := 264) (by rw [c27T]; decide) (by rw [c27T]; decide) (by rw [c27T]; rfl) dX10_count_5 (by decide) ?_
    refine j_aload_n 0 rfl dX10_count_264 ?_
    refine j_bipush (v := 31) dX10_count_265 (by decide) ?_
    refine j_iconst (v := 4) dX10_count_267 (by decide) ?_
    refine j_callV (b := 1198) (As := [.int 31, .int 4]) (st := []) (C := RX10) (kc' := 0) (ks' := 0) (tX10_sumNow hf 31 4 _ h) myX10_sumNow rfl q2158 q2160 qs119 (by decide) (fun s9 H9 hK9 hR9 h69 => jIs_in hK9 hR9 h69 (m_lt hf (by decide)) (fk_1198 hf) rfl) rfl (Nat.le_of_ble_eq_true rfl) rfl (by decide) (Nat.le_refl 0) (Nat.le_refl 0) dX10_count_268 (fun v9 u9 hq => ?_) (fun k9 u9 hq => by obtain ⟨_, e9, _⟩ := hq; cases e9)
    obtain ⟨r28, e9, rfl, h⟩ := hq
    obtain rfl := Sum.inl.inj e9
    show J Γ RX10 cX10_count 2 (some .int) "count" [] 3 0 0 271 [(0, .ref 1198), (1, .int p1)] [.int r28] (n, K, A1, Lg, G) P
    refine j_iret rfl ?_ dX10_count_271
    rw [hP]
    exact ⟨r28, A1, rfl, rfl, h⟩
  rw [if_neg c27] at h
  by_cases c29 : p1 = 16
  · rw [if_pos c29] at h
    have c29T : (p1 : Int32).toInt = 16 := by rw [c29]; rfl
    refine j_tableIn (off := 267) (tgt := 272) (by rw [c29T]; decide) (by rw [c29T]; decide) (by rw [c29T]; rfl) dX10_count_5 (by decide) ?_
    refine j_aload_n 0 rfl dX10_count_272 ?_
    refine j_bipush (v := 23) dX10_count_273 (by decide) ?_
    refine j_iconst (v := 4) dX10_count_275 (by decide) ?_
    refine j_callV (b := 1198) (As := [.int 23, .int 4]) (st := []) (C := RX10) (kc' := 0) (ks' := 0) (tX10_sumNow hf 23 4 _ h) myX10_sumNow rfl q2158 q2160 qs119 (by decide) (fun s9 H9 hK9 hR9 h69 => jIs_in hK9 hR9 h69 (m_lt hf (by decide)) (fk_1198 hf) rfl) rfl (Nat.le_of_ble_eq_true rfl) rfl (by decide) (Nat.le_refl 0) (Nat.le_refl 0) dX10_count_276 (fun v9 u9 hq => ?_) (fun k9 u9 hq => by obtain ⟨_, e9, _⟩ := hq; cases e9)
    obtain ⟨r30, e9, rfl, h⟩ := hq
    obtain rfl := Sum.inl.inj e9
    show J Γ RX10 cX10_count 2 (some .int) "count" [] 3 0 0 279 [(0, .ref 1198), (1, .int p1)] [.int r30] (n, K, A1, Lg, G) P
    refine j_iret rfl ?_ dX10_count_279
    rw [hP]
    exact ⟨r30, A1, rfl, rfl, h⟩
  rw [if_neg c29] at h
  by_cases c31 : p1 = 17
  · rw [if_pos c31] at h
    have c31T : (p1 : Int32).toInt = 17 := by rw [c31]; rfl
    refine j_tableIn (off := 275) (tgt := 280) (by rw [c31T]; decide) (by rw [c31T]; decide) (by rw [c31T]; rfl) dX10_count_5 (by decide) ?_
    refine j_aload_n 0 rfl dX10_count_280 ?_
    refine j_bipush (v := 10) dX10_count_281 (by decide) ?_
    refine j_iconst (v := 5) dX10_count_283 (by decide) ?_
    refine j_callV (b := 1198) (As := [.int 10, .int 5]) (st := []) (C := RX10) (kc' := 0) (ks' := 0) (tX10_sumNow hf 10 5 _ h) myX10_sumNow rfl q2158 q2160 qs119 (by decide) (fun s9 H9 hK9 hR9 h69 => jIs_in hK9 hR9 h69 (m_lt hf (by decide)) (fk_1198 hf) rfl) rfl (Nat.le_of_ble_eq_true rfl) rfl (by decide) (Nat.le_refl 0) (Nat.le_refl 0) dX10_count_284 (fun v9 u9 hq => ?_) (fun k9 u9 hq => by obtain ⟨_, e9, _⟩ := hq; cases e9)
    obtain ⟨r32, e9, rfl, h⟩ := hq
    obtain rfl := Sum.inl.inj e9
    show J Γ RX10 cX10_count 2 (some .int) "count" [] 3 0 0 287 [(0, .ref 1198), (1, .int p1)] [.int r32] (n, K, A1, Lg, G) P
    refine j_iret rfl ?_ dX10_count_287
    rw [hP]
    exact ⟨r32, A1, rfl, rfl, h⟩
  rw [if_neg c31] at h
  by_cases c33 : p1 = 18
  · rw [if_pos c33] at h
    have c33T : (p1 : Int32).toInt = 18 := by rw [c33]; rfl
    refine j_tableIn (off := 283) (tgt := 288) (by rw [c33T]; decide) (by rw [c33T]; decide) (by rw [c33T]; rfl) dX10_count_5 (by decide) ?_
    refine j_aload_n 0 rfl dX10_count_288 ?_
    refine j_bipush (v := 55) dX10_count_289 (by decide) ?_
    refine j_bipush (v := 20) dX10_count_291 (by decide) ?_
    refine j_callV (b := 1198) (As := [.int 55, .int 20]) (st := []) (C := RX10) (kc' := 0) (ks' := 0) (tX10_sumNow hf 55 20 _ h) myX10_sumNow rfl q2158 q2160 qs119 (by decide) (fun s9 H9 hK9 hR9 h69 => jIs_in hK9 hR9 h69 (m_lt hf (by decide)) (fk_1198 hf) rfl) rfl (Nat.le_of_ble_eq_true rfl) rfl (by decide) (Nat.le_refl 0) (Nat.le_refl 0) dX10_count_293 (fun v9 u9 hq => ?_) (fun k9 u9 hq => by obtain ⟨_, e9, _⟩ := hq; cases e9)
    obtain ⟨r34, e9, rfl, h⟩ := hq
    obtain rfl := Sum.inl.inj e9
    show J Γ RX10 cX10_count 2 (some .int) "count" [] 3 0 0 296 [(0, .ref 1198), (1, .int p1)] [.int r34] (n, K, A1, Lg, G) P
    refine j_iret rfl ?_ dX10_count_296
    rw [hP]
    exact ⟨r34, A1, rfl, rfl, h⟩
  rw [if_neg c33] at h
  refine j_tableOut (tgt := 297) (by have c2T := lv_neT c2 (a := 0) rfl; have c4T := lv_neT c4 (a := 1) rfl; have c6T := lv_neT c6 (a := 2) rfl; have c8T := lv_neT c8 (a := 3) rfl; have c10T := lv_neT c10 (a := 4) rfl; have c12T := lv_neT c12 (a := 5) rfl; have c14T := lv_neT c14 (a := 6) rfl; have c16T := lv_neT c16 (a := 7) rfl; have c17T := lv_neT c17 (a := 8) rfl; have c20T := lv_neT c20 (a := 9) rfl; have c21T := lv_neT c21 (a := 10) rfl; have c23T := lv_neT c23 (a := 11) rfl; have c24T := lv_neT c24 (a := 12) rfl; have c25T := lv_neT c25 (a := 13) rfl; have c26T := lv_neT c26 (a := 14) rfl; have c27T := lv_neT c27 (a := 15) rfl; have c29T := lv_neT c29 (a := 16) rfl; have c31T := lv_neT c31 (a := 17) rfl; have c33T := lv_neT c33 (a := 18) rfl; omega) dX10_count_5 (by decide) ?_
  refine j_iconst (v := (-1)) dX10_count_297 (by decide) ?_
  refine j_iret rfl ?_ dX10_count_298
  rw [hP]
  exact ⟨(-1), A1, rfl, rfl, h⟩
