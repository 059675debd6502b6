set_option maxRecDepth 100000
set_option maxHeartbeats 4000000
theorem myX10_expression : jY yX10_expression cX10_expression 3 none 0 := ⟨q1859, q139, by decide +kernel, by decide +kernel, by decide⟩
def fX10_expression_J46  (k23 : Int32 → pA → Prop) (Q : pA → Prop) (l1 : Int32) (A : pA) : Prop :=
    ∀ A1 : pA, A1 = pup A 1198 12 ((A 1198 12) + 1) → fX10_goesOn A1 (fun A2 => (vp_in (A2 1198 51) 64) ∧ (∀ A4 : pA, A4 = pup A2 1233 (A2 1198 51).toNatClampNeg 6 → ∀ A5 : pA, A5 = pup A4 1198 51 ((A4 1198 51) + 1) → k23 l1 A5))
theorem fX10_expression_J46_ok {Γ : jG} {n : Nat} {K : Nat → pKd} {G : pG} {Lg : pL} (hf : mOK n K G) (Q : pA → Prop) (P : jO → pS → Prop) (hP : P = (fun o u => ∃ (A' : pA), o = .inl none ∧ u = (n, K, A', Lg, G) ∧ Q A')) (k23 : Int32 → pA → Prop) (ok23 : ∀ (l1 : Int32) (A : pA), k23 l1 A → J Γ RX10 cX10_expression 3 none "expression" [] 4 0 0 23 [(0, .ref 1198), (1, .int l1)] [] (n, K, A, Lg, G) P) (l1 : Int32) (A : pA) (h : fX10_expression_J46  k23 Q l1 A) : J Γ RX10 cX10_expression 3 none "expression" [] 4 0 0 46 [(0, .ref 1198), (1, .int l1)] [] (n, K, A, Lg, G) P := by
  unfold fX10_expression_J46 at h
  refine j_aload_n 0 rfl dX10_expression_46 ?_
  refine j_dup rfl dX10_expression_47 ?_
  refine j_getfi fl_X10_239_9 rfl (m_lt hf (by decide)) (fk_1198 hf) dX10_expression_48 ?_
  refine j_iconst (v := 1) dX10_expression_51 (by decide) ?_
  refine j_iadd dX10_expression_52 ?_
  refine j_putfiE (fp_X10_239_9 _) rfl rfl rfl (m_lt hf (by decide)) (fk_1198 hf) dX10_expression_53 (fun A1 eA1 => ?_)
  replace h := h A1 eA1
  refine j_aload_n 0 rfl dX10_expression_56 ?_
  refine j_callV (b := 1198) (As := []) (st := []) (C := RX10) (kc' := 0) (ks' := 0) (tX10_goesOn hf  _ h) myX10_goesOn rfl q1804 q1806 qs66 (by decide) (fun s9 H9 hK9 hR9 h69 => jIs_in hK9 hR9 h69 (m_lt hf (by decide)) (fk_1198 hf) rfl) rfl (Nat.le_of_ble_eq_true rfl) rfl (by decide) (Nat.le_refl 0) (Nat.le_refl 0) dX10_expression_57 (fun v9 u9 hq => ?_) (fun k9 u9 hq => by obtain ⟨_, e9, _⟩ := hq; cases e9)
  obtain ⟨A2, e9, rfl, h⟩ := hq
  obtain rfl := Sum.inl.inj e9
  show J Γ RX10 cX10_expression 3 none "expression" [] 4 0 0 60 [(0, .ref 1198), (1, .int l1)] [] (n, K, A2, Lg, G) P
  refine j_aload_n 0 rfl dX10_expression_60 ?_
  refine j_getfr fl_X10_122_9 rfl (m_lt hf (by decide)) (fk_1198 hf) (fg_1198_50 hf) dX10_expression_61 ?_
  refine j_aload_n 0 rfl dX10_expression_64 ?_
  refine j_getfi fl_X10_317_9 rfl (m_lt hf (by decide)) (fk_1198 hf) dX10_expression_65 ?_
  refine j_bipush (v := 6) dX10_expression_68 (by decide) ?_
  obtain ⟨b3, h⟩ := h
  refine j_iastJ (j := (A2 1198 51).toNatClampNeg) (m_lt hf (by decide)) (fk_1233 hf) b3 rfl dX10_expression_70 (fun A4 eA4 => ?_)
  replace h := h A4 eA4
  refine j_aload_n 0 rfl dX10_expression_71 ?_
  refine j_dup rfl dX10_expression_72 ?_
  refine j_getfi fl_X10_317_9 rfl (m_lt hf (by decide)) (fk_1198 hf) dX10_expression_73 ?_
  refine j_iconst (v := 1) dX10_expression_76 (by decide) ?_
  refine j_iadd dX10_expression_77 ?_
  refine j_putfiE (fp_X10_317_9 _) rfl rfl rfl (m_lt hf (by decide)) (fk_1198 hf) dX10_expression_78 (fun A5 eA5 => ?_)
  replace h := h A5 eA5
  refine j_goto (tgt := 23) dX10_expression_81 (by decide) ?_
  exact ok23 l1 A5 h
def fX10_expression_J204   (Q : pA → Prop) (A : pA) : Prop :=
    fX10_comesOut A 0 (fun A6 => Q A6)
theorem fX10_expression_J204_ok {Γ : jG} {n : Nat} {K : Nat → pKd} {G : pG} {Lg : pL} (hf : mOK n K G) (Q : pA → Prop) (P : jO → pS → Prop) (hP : P = (fun o u => ∃ (A' : pA), o = .inl none ∧ u = (n, K, A', Lg, G) ∧ Q A'))   (A : pA) (h : fX10_expression_J204   Q A) : J Γ RX10 cX10_expression 3 none "expression" [] 4 0 0 204 [(0, .ref 1198)] [] (n, K, A, Lg, G) P := by
  unfold fX10_expression_J204 at h
  refine j_aload_n 0 rfl dX10_expression_204 ?_
  refine j_iconst (v := 0) dX10_expression_205 (by decide) ?_
  refine j_callV (b := 1198) (As := [.int 0]) (st := []) (C := RX10) (kc' := 0) (ks' := 0) (tX10_comesOut hf 0 _ h) myX10_comesOut rfl q1868 q1870 qs82 (by decide) (fun s9 H9 hK9 hR9 h69 => jIs_in hK9 hR9 h69 (m_lt hf (by decide)) (fk_1198 hf) rfl) rfl (Nat.le_of_ble_eq_true rfl) rfl (by decide) (Nat.le_refl 0) (Nat.le_refl 0) dX10_expression_206 (fun v9 u9 hq => ?_) (fun k9 u9 hq => by obtain ⟨_, e9, _⟩ := hq; cases e9)
  obtain ⟨A6, e9, rfl, h⟩ := hq
  obtain rfl := Sum.inl.inj e9
  show J Γ RX10 cX10_expression 3 none "expression" [] 4 0 0 209 [(0, .ref 1198)] [] (n, K, A6, Lg, G) P
  refine j_vret rfl ?_ dX10_expression_209
  rw [hP]
  exact ⟨A6, rfl, rfl, h⟩
def fX10_expression_J234  (k12 : Int32 → Int32 → pA → Prop) (Q : pA → Prop) (l1 : Int32) (l2 : Int32) (s0 : Int32) (A : pA) : Prop :=
    fX10_comesOut A s0 (fun A7 => (vp_in (A7 1198 11) 403) ∧ ((vp_in (A7 1198 51) 64) ∧ (∀ A10 : pA, A10 = pup A7 1233 (A7 1198 51).toNatClampNeg (A7 1201 (A7 1198 11).toNatClampNeg) → ∀ A11 : pA, A11 = pup A10 1198 51 ((A10 1198 51) + 1) → fX10_goesOn A11 (fun A12 => k12 l1 l2 A12))))
theorem fX10_expression_J234_ok {Γ : jG} {n : Nat} {K : Nat → pKd} {G : pG} {Lg : pL} (hf : mOK n K G) (Q : pA → Prop) (P : jO → pS → Prop) (hP : P = (fun o u => ∃ (A' : pA), o = .inl none ∧ u = (n, K, A', Lg, G) ∧ Q A')) (k12 : Int32 → Int32 → pA → Prop) (ok12 : ∀ (l1 : Int32) (l2 : Int32) (A : pA), k12 l1 l2 A → J Γ RX10 cX10_expression 3 none "expression" [] 4 0 0 12 [(0, .ref 1198), (1, .int l1), (2, .int l2)] [] (n, K, A, Lg, G) P) (l1 : Int32) (l2 : Int32) (s0 : Int32) (A : pA) (h : fX10_expression_J234  k12 Q l1 l2 s0 A) : J Γ RX10 cX10_expression 3 none "expression" [] 4 0 0 234 [(0, .ref 1198), (1, .int l1), (2, .int l2)] [.int s0, .ref 1198] (n, K, A, Lg, G) P := by
  unfold fX10_expression_J234 at h
  refine j_callV (b := 1198) (As := [.int s0]) (st := []) (C := RX10) (kc' := 0) (ks' := 0) (tX10_comesOut hf s0 _ h) myX10_comesOut rfl q1868 q1870 qs82 (by decide) (fun s9 H9 hK9 hR9 h69 => jIs_in hK9 hR9 h69 (m_lt hf (by decide)) (fk_1198 hf) rfl) rfl (Nat.le_of_ble_eq_true rfl) rfl (by decide) (Nat.le_refl 0) (Nat.le_refl 0) dX10_expression_234 (fun v9 u9 hq => ?_) (fun k9 u9 hq => by obtain ⟨_, e9, _⟩ := hq; cases e9)
  obtain ⟨A7, e9, rfl, h⟩ := hq
  obtain rfl := Sum.inl.inj e9
  show J Γ RX10 cX10_expression 3 none "expression" [] 4 0 0 237 [(0, .ref 1198), (1, .int l1), (2, .int l2)] [] (n, K, A7, Lg, G) P
  refine j_aload_n 0 rfl dX10_expression_237 ?_
  refine j_getfr fl_X10_122_9 rfl (m_lt hf (by decide)) (fk_1198 hf) (fg_1198_50 hf) dX10_expression_238 ?_
  refine j_aload_n 0 rfl dX10_expression_241 ?_
  refine j_getfi fl_X10_317_9 rfl (m_lt hf (by decide)) (fk_1198 hf) dX10_expression_242 ?_
  refine j_aload_n 0 rfl dX10_expression_245 ?_
  refine j_getfr fl_X10_20_9 rfl (m_lt hf (by decide)) (fk_1198 hf) (fg_1198_5 hf) dX10_expression_246 ?_
  refine j_aload_n 0 rfl dX10_expression_249 ?_
  refine j_getfi fl_X10_215_9 rfl (m_lt hf (by decide)) (fk_1198 hf) dX10_expression_250 ?_
  obtain ⟨b8, h⟩ := h
  refine j_ialdJ (j := (A7 1198 11).toNatClampNeg) (m_lt hf (by decide)) (fk_1201 hf) b8 rfl dX10_expression_253 ?_
  obtain ⟨b9, h⟩ := h
  refine j_iastJ (j := (A7 1198 51).toNatClampNeg) (m_lt hf (by decide)) (fk_1233 hf) b9 rfl dX10_expression_254 (fun A10 eA10 => ?_)
  replace h := h A10 eA10
  refine j_aload_n 0 rfl dX10_expression_255 ?_
  refine j_dup rfl dX10_expression_256 ?_
  refine j_getfi fl_X10_317_9 rfl (m_lt hf (by decide)) (fk_1198 hf) dX10_expression_257 ?_
  refine j_iconst (v := 1) dX10_expression_260 (by decide) ?_
  refine j_iadd dX10_expression_261 ?_
  refine j_putfiE (fp_X10_317_9 _) rfl rfl rfl (m_lt hf (by decide)) (fk_1198 hf) dX10_expression_262 (fun A11 eA11 => ?_)
  replace h := h A11 eA11
  refine j_aload_n 0 rfl dX10_expression_265 ?_
  refine j_callV (b := 1198) (As := []) (st := []) (C := RX10) (kc' := 0) (ks' := 0) (tX10_goesOn hf  _ h) myX10_goesOn rfl q1804 q1806 qs66 (by decide) (fun s9 H9 hK9 hR9 h69 => jIs_in hK9 hR9 h69 (m_lt hf (by decide)) (fk_1198 hf) rfl) rfl (Nat.le_of_ble_eq_true rfl) rfl (by decide) (Nat.le_refl 0) (Nat.le_refl 0) dX10_expression_266 (fun v9 u9 hq => ?_) (fun k9 u9 hq => by obtain ⟨_, e9, _⟩ := hq; cases e9)
  obtain ⟨A12, e9, rfl, h⟩ := hq
  obtain rfl := Sum.inl.inj e9
  show J Γ RX10 cX10_expression 3 none "expression" [] 4 0 0 269 [(0, .ref 1198), (1, .int l1), (2, .int l2)] [] (n, K, A12, Lg, G) P
  refine j_goto (tgt := 12) dX10_expression_269 (by decide) ?_
  exact ok12 l1 l2 A12 h
def fX10_expression_J229  (k12 : Int32 → Int32 → pA → Prop) (Q : pA → Prop) (l1 : Int32) (l2 : Int32) (A : pA) : Prop :=
    fX10_expression_J234  k12 Q l1 l2 1 A
theorem fX10_expression_J229_ok {Γ : jG} {n : Nat} {K : Nat → pKd} {G : pG} {Lg : pL} (hf : mOK n K G) (Q : pA → Prop) (P : jO → pS → Prop) (hP : P = (fun o u => ∃ (A' : pA), o = .inl none ∧ u = (n, K, A', Lg, G) ∧ Q A')) (k12 : Int32 → Int32 → pA → Prop) (ok12 : ∀ (l1 : Int32) (l2 : Int32) (A : pA), k12 l1 l2 A → J Γ RX10 cX10_expression 3 none "expression" [] 4 0 0 12 [(0, .ref 1198), (1, .int l1), (2, .int l2)] [] (n, K, A, Lg, G) P) (l1 : Int32) (l2 : Int32) (A : pA) (h : fX10_expression_J229  k12 Q l1 l2 A) : J Γ RX10 cX10_expression 3 none "expression" [] 4 0 0 229 [(0, .ref 1198), (1, .int l1), (2, .int l2)] [.ref 1198] (n, K, A, Lg, G) P := by
  unfold fX10_expression_J229 at h
  refine j_iconst (v := 1) dX10_expression_229 (by decide) ?_
  refine j_goto (tgt := 234) dX10_expression_230 (by decide) ?_
  exact fX10_expression_J234_ok hf Q P hP k12 ok12 l1 l2 1 A h
def fX10_expression_J186  (k12 : Int32 → Int32 → pA → Prop) (Q : pA → Prop) (l1 : Int32) (s0 : Int32) (A : pA) : Prop :=
    (if s0 = 0 then (if (A 1198 12) ≤ l1 then fX10_expression_J204   Q A else fX10_fail A 1 (fun A15 => fX10_expression_J204   Q A15)) else fX10_is A 10 (fun r13 => (if r13 = 0 then fX10_is A 15 (fun r14 => (if r14 = 0 then fX10_expression_J234  k12 Q l1 s0 0 A else fX10_expression_J229  k12 Q l1 s0 A)) else fX10_expression_J229  k12 Q l1 s0 A)))
theorem fX10_expression_J186_ok {Γ : jG} {n : Nat} {K : Nat → pKd} {G : pG} {Lg : pL} (hf : mOK n K G) (Q : pA → Prop) (P : jO → pS → Prop) (hP : P = (fun o u => ∃ (A' : pA), o = .inl none ∧ u = (n, K, A', Lg, G) ∧ Q A')) (k12 : Int32 → Int32 → pA → Prop) (ok12 : ∀ (l1 : Int32) (l2 : Int32) (A : pA), k12 l1 l2 A → J Γ RX10 cX10_expression 3 none "expression" [] 4 0 0 12 [(0, .ref 1198), (1, .int l1), (2, .int l2)] [] (n, K, A, Lg, G) P) (l1 : Int32) (s0 : Int32) (A : pA) (h : fX10_expression_J186  k12 Q l1 s0 A) : J Γ RX10 cX10_expression 3 none "expression" [] 4 0 0 186 [(0, .ref 1198), (1, .int l1)] [.int s0] (n, K, A, Lg, G) P := by
  unfold fX10_expression_J186 at h
  refine j_istore_n (by decide) rfl dX10_expression_186 ?_
  refine j_iload_n 0 rfl dX10_expression_187 ?_
  refine j_if_ne (tgt := 210) dX10_expression_188 (by decide) (fun c => ?_) (fun c => ?_)
  · rw [if_neg c] at h
    refine j_aload_n 1 rfl dX10_expression_210 ?_
    refine j_aload_n 1 rfl dX10_expression_211 ?_
    refine j_bipush (v := 10) dX10_expression_212 (by decide) ?_
    refine j_callV (b := 1198) (As := [.int 10]) (st := [.ref 1198]) (C := RX10) (kc' := 0) (ks' := 0) (tX10_is hf 10 _ h) myX10_is rfl q1788 q1790 qs62 (by decide) (fun s9 H9 hK9 hR9 h69 => jIs_in hK9 hR9 h69 (m_lt hf (by decide)) (fk_1198 hf) rfl) rfl (Nat.le_of_ble_eq_true rfl) rfl (by decide) (Nat.le_refl 0) (Nat.le_refl 0) dX10_expression_214 (fun v9 u9 hq => ?_) (fun k9 u9 hq => by obtain ⟨_, e9, _⟩ := hq; cases e9)
    obtain ⟨r13, e9, rfl, h⟩ := hq
    obtain rfl := Sum.inl.inj e9
    show J Γ RX10 cX10_expression 3 none "expression" [] 4 0 0 217 [(2, .int s0), (0, .ref 1198), (1, .int l1)] [.int r13, .ref 1198] (n, K, A, Lg, G) P
    refine j_if_ne (tgt := 229) dX10_expression_217 (by decide) (fun c => ?_) (fun c => ?_)
    · rw [if_neg c] at h
      refine j_ls [1, 2, 0] rfl ?_
      exact fX10_expression_J229_ok hf Q P hP k12 ok12 l1 s0 A h
    · rw [if_pos c] at h
      refine j_aload_n 1 rfl dX10_expression_220 ?_
      refine j_bipush (v := 15) dX10_expression_221 (by decide) ?_
      refine j_callV (b := 1198) (As := [.int 15]) (st := [.ref 1198]) (C := RX10) (kc' := 0) (ks' := 0) (tX10_is hf 15 _ h) myX10_is rfl q1788 q1790 qs62 (by decide) (fun s9 H9 hK9 hR9 h69 => jIs_in hK9 hR9 h69 (m_lt hf (by decide)) (fk_1198 hf) rfl) rfl (Nat.le_of_ble_eq_true rfl) rfl (by decide) (Nat.le_refl 0) (Nat.le_refl 0) dX10_expression_223 (fun v9 u9 hq => ?_) (fun k9 u9 hq => by obtain ⟨_, e9, _⟩ := hq; cases e9)
      obtain ⟨r14, e9, rfl, h⟩ := hq
      obtain rfl := Sum.inl.inj e9
      show J Γ RX10 cX10_expression 3 none "expression" [] 4 0 0 226 [(2, .int s0), (0, .ref 1198), (1, .int l1)] [.int r14, .ref 1198] (n, K, A, Lg, G) P
      refine j_if_eq (tgt := 233) dX10_expression_226 (by decide) (fun c => ?_) (fun c => ?_)
      · rw [if_pos c] at h
        refine j_iconst (v := 0) dX10_expression_233 (by decide) ?_
        refine j_ls [1, 2, 0] rfl ?_
        exact fX10_expression_J234_ok hf Q P hP k12 ok12 l1 s0 0 A h
      · rw [if_neg c] at h
        refine j_ls [1, 2, 0] rfl ?_
        exact fX10_expression_J229_ok hf Q P hP k12 ok12 l1 s0 A h
  · rw [if_pos c] at h
    refine j_aload_n 1 rfl dX10_expression_191 ?_
    refine j_getfi fl_X10_239_9 rfl (m_lt hf (by decide)) (fk_1198 hf) dX10_expression_192 ?_
    refine j_iload_n 2 rfl dX10_expression_195 ?_
    refine j_icmp_le (tgt := 204) dX10_expression_196 (by decide) (fun c => ?_) (fun c => ?_)
    · rw [if_pos c] at h
      refine j_ls [1] rfl ?_
      exact fX10_expression_J204_ok hf Q P hP   A h
    · rw [if_neg c] at h
      refine j_aload_n 1 rfl dX10_expression_199 ?_
      refine j_iconst (v := 1) dX10_expression_200 (by decide) ?_
      refine j_callV (b := 1198) (As := [.int 1]) (st := []) (C := RX10) (kc' := 0) (ks' := 0) (tX10_fail hf 1 _ h) myX10_fail rfl q1800 q1802 qs65 (by decide) (fun s9 H9 hK9 hR9 h69 => jIs_in hK9 hR9 h69 (m_lt hf (by decide)) (fk_1198 hf) rfl) rfl (Nat.le_of_ble_eq_true rfl) rfl (by decide) (Nat.le_refl 0) (Nat.le_refl 0) dX10_expression_201 (fun v9 u9 hq => ?_) (fun k9 u9 hq => by obtain ⟨_, e9, _⟩ := hq; cases e9)
      obtain ⟨A15, e9, rfl, h⟩ := hq
      obtain rfl := Sum.inl.inj e9
      show J Γ RX10 cX10_expression 3 none "expression" [] 4 0 0 204 [(2, .int s0), (0, .ref 1198), (1, .int l1)] [] (n, K, A15, Lg, G) P
      refine j_ls [1] rfl ?_
      exact fX10_expression_J204_ok hf Q P hP   A15 h
def fX10_expression_J181  (k12 : Int32 → Int32 → pA → Prop) (Q : pA → Prop) (l1 : Int32) (A : pA) : Prop :=
    fX10_expression_J186  k12 Q l1 1 A
theorem fX10_expression_J181_ok {Γ : jG} {n : Nat} {K : Nat → pKd} {G : pG} {Lg : pL} (hf : mOK n K G) (Q : pA → Prop) (P : jO → pS → Prop) (hP : P = (fun o u => ∃ (A' : pA), o = .inl none ∧ u = (n, K, A', Lg, G) ∧ Q A')) (k12 : Int32 → Int32 → pA → Prop) (ok12 : ∀ (l1 : Int32) (l2 : Int32) (A : pA), k12 l1 l2 A → J Γ RX10 cX10_expression 3 none "expression" [] 4 0 0 12 [(0, .ref 1198), (1, .int l1), (2, .int l2)] [] (n, K, A, Lg, G) P) (l1 : Int32) (A : pA) (h : fX10_expression_J181  k12 Q l1 A) : J Γ RX10 cX10_expression 3 none "expression" [] 4 0 0 181 [(0, .ref 1198), (1, .int l1)] [] (n, K, A, Lg, G) P := by
  unfold fX10_expression_J181 at h
  refine j_iconst (v := 1) dX10_expression_181 (by decide) ?_
  refine j_goto (tgt := 186) dX10_expression_182 (by decide) ?_
  exact fX10_expression_J186_ok hf Q P hP k12 ok12 l1 1 A h
def fX10_expression_J145  (k12 : Int32 → Int32 → pA → Prop) (Q : pA → Prop) (l1 : Int32) (A : pA) : Prop :=
    fX10_is A 8 (fun r16 => (if r16 = 0 then fX10_is A 9 (fun r17 => (if r17 = 0 then fX10_is A 10 (fun r18 => (if r18 = 0 then fX10_is A 15 (fun r19 => (if r19 = 0 then fX10_expression_J186  k12 Q l1 0 A else fX10_expression_J181  k12 Q l1 A)) else fX10_expression_J181  k12 Q l1 A)) else fX10_expression_J181  k12 Q l1 A)) else fX10_expression_J181  k12 Q l1 A))
theorem fX10_expression_J145_ok {Γ : jG} {n : Nat} {K : Nat → pKd} {G : pG} {Lg : pL} (hf : mOK n K G) (Q : pA → Prop) (P : jO → pS → Prop) (hP : P = (fun o u => ∃ (A' : pA), o = .inl none ∧ u = (n, K, A', Lg, G) ∧ Q A')) (k12 : Int32 → Int32 → pA → Prop) (ok12 : ∀ (l1 : Int32) (l2 : Int32) (A : pA), k12 l1 l2 A → J Γ RX10 cX10_expression 3 none "expression" [] 4 0 0 12 [(0, .ref 1198), (1, .int l1), (2, .int l2)] [] (n, K, A, Lg, G) P) (l1 : Int32) (A : pA) (h : fX10_expression_J145  k12 Q l1 A) : J Γ RX10 cX10_expression 3 none "expression" [] 4 0 0 145 [(0, .ref 1198), (1, .int l1)] [] (n, K, A, Lg, G) P := by
  unfold fX10_expression_J145 at h
  refine j_aload_n 0 rfl dX10_expression_145 ?_
  refine j_bipush (v := 8) dX10_expression_146 (by decide) ?_
  refine j_callV (b := 1198) (As := [.int 8]) (st := []) (C := RX10) (kc' := 0) (ks' := 0) (tX10_is hf 8 _ h) myX10_is rfl q1788 q1790 qs62 (by decide) (fun s9 H9 hK9 hR9 h69 => jIs_in hK9 hR9 h69 (m_lt hf (by decide)) (fk_1198 hf) rfl) rfl (Nat.le_of_ble_eq_true rfl) rfl (by decide) (Nat.le_refl 0) (Nat.le_refl 0) dX10_expression_148 (fun v9 u9 hq => ?_) (fun k9 u9 hq => by obtain ⟨_, e9, _⟩ := hq; cases e9)
  obtain ⟨r16, e9, rfl, h⟩ := hq
  obtain rfl := Sum.inl.inj e9
  show J Γ RX10 cX10_expression 3 none "expression" [] 4 0 0 151 [(0, .ref 1198), (1, .int l1)] [.int r16] (n, K, A, Lg, G) P
  refine j_if_ne (tgt := 181) dX10_expression_151 (by decide) (fun c => ?_) (fun c => ?_)
  · rw [if_neg c] at h
    exact fX10_expression_J181_ok hf Q P hP k12 ok12 l1 A h
  · rw [if_pos c] at h
    refine j_aload_n 0 rfl dX10_expression_154 ?_
    refine j_bipush (v := 9) dX10_expression_155 (by decide) ?_
    refine j_callV (b := 1198) (As := [.int 9]) (st := []) (C := RX10) (kc' := 0) (ks' := 0) (tX10_is hf 9 _ h) myX10_is rfl q1788 q1790 qs62 (by decide) (fun s9 H9 hK9 hR9 h69 => jIs_in hK9 hR9 h69 (m_lt hf (by decide)) (fk_1198 hf) rfl) rfl (Nat.le_of_ble_eq_true rfl) rfl (by decide) (Nat.le_refl 0) (Nat.le_refl 0) dX10_expression_157 (fun v9 u9 hq => ?_) (fun k9 u9 hq => by obtain ⟨_, e9, _⟩ := hq; cases e9)
    obtain ⟨r17, e9, rfl, h⟩ := hq
    obtain rfl := Sum.inl.inj e9
    show J Γ RX10 cX10_expression 3 none "expression" [] 4 0 0 160 [(0, .ref 1198), (1, .int l1)] [.int r17] (n, K, A, Lg, G) P
    refine j_if_ne (tgt := 181) dX10_expression_160 (by decide) (fun c => ?_) (fun c => ?_)
    · rw [if_neg c] at h
      exact fX10_expression_J181_ok hf Q P hP k12 ok12 l1 A h
    · rw [if_pos c] at h
      refine j_aload_n 0 rfl dX10_expression_163 ?_
      refine j_bipush (v := 10) dX10_expression_164 (by decide) ?_
      refine j_callV (b := 1198) (As := [.int 10]) (st := []) (C := RX10) (kc' := 0) (ks' := 0) (tX10_is hf 10 _ h) myX10_is rfl q1788 q1790 qs62 (by decide) (fun s9 H9 hK9 hR9 h69 => jIs_in hK9 hR9 h69 (m_lt hf (by decide)) (fk_1198 hf) rfl) rfl (Nat.le_of_ble_eq_true rfl) rfl (by decide) (Nat.le_refl 0) (Nat.le_refl 0) dX10_expression_166 (fun v9 u9 hq => ?_) (fun k9 u9 hq => by obtain ⟨_, e9, _⟩ := hq; cases e9)
      obtain ⟨r18, e9, rfl, h⟩ := hq
      obtain rfl := Sum.inl.inj e9
      show J Γ RX10 cX10_expression 3 none "expression" [] 4 0 0 169 [(0, .ref 1198), (1, .int l1)] [.int r18] (n, K, A, Lg, G) P
      refine j_if_ne (tgt := 181) dX10_expression_169 (by decide) (fun c => ?_) (fun c => ?_)
      · rw [if_neg c] at h
        exact fX10_expression_J181_ok hf Q P hP k12 ok12 l1 A h
      · rw [if_pos c] at h
        refine j_aload_n 0 rfl dX10_expression_172 ?_
        refine j_bipush (v := 15) dX10_expression_173 (by decide) ?_
        refine j_callV (b := 1198) (As := [.int 15]) (st := []) (C := RX10) (kc' := 0) (ks' := 0) (tX10_is hf 15 _ h) myX10_is rfl q1788 q1790 qs62 (by decide) (fun s9 H9 hK9 hR9 h69 => jIs_in hK9 hR9 h69 (m_lt hf (by decide)) (fk_1198 hf) rfl) rfl (Nat.le_of_ble_eq_true rfl) rfl (by decide) (Nat.le_refl 0) (Nat.le_refl 0) dX10_expression_175 (fun v9 u9 hq => ?_) (fun k9 u9 hq => by obtain ⟨_, e9, _⟩ := hq; cases e9)
        obtain ⟨r19, e9, rfl, h⟩ := hq
        obtain rfl := Sum.inl.inj e9
        show J Γ RX10 cX10_expression 3 none "expression" [] 4 0 0 178 [(0, .ref 1198), (1, .int l1)] [.int r19] (n, K, A, Lg, G) P
        refine j_if_eq (tgt := 185) dX10_expression_178 (by decide) (fun c => ?_) (fun c => ?_)
        · rw [if_pos c] at h
          refine j_iconst (v := 0) dX10_expression_185 (by decide) ?_
          exact fX10_expression_J186_ok hf Q P hP k12 ok12 l1 0 A h
        · rw [if_neg c] at h
          exact fX10_expression_J181_ok hf Q P hP k12 ok12 l1 A h
def fX10_expression_L96  (k12 : Int32 → Int32 → pA → Prop) (Q : pA → Prop) : Nat → Int32 → pA → Prop
  | 0, _, _ => False
  | n9 + 1, l1, A =>
    fX10_is A 7 (fun r20 => (if r20 = 0 then fX10_expression_J145  k12 Q l1 A else (if (A 1198 12) ≤ l1 then fX10_expression_J145  k12 Q l1 A else fX10_comesOut A 0 (fun A21 => ∀ A22 : pA, A22 = pup A21 1198 51 ((A21 1198 51) - 1) → ∀ A23 : pA, A23 = pup A22 1198 12 ((A22 1198 12) - 1) → fX10_goesOn A23 (fun A24 => fX10_expression_L96  k12 Q n9 l1 A24)))))
theorem fX10_expression_L96_ok {Γ : jG} {n : Nat} {K : Nat → pKd} {G : pG} {Lg : pL} (hf : mOK n K G) (Q : pA → Prop) (P : jO → pS → Prop) (hP : P = (fun o u => ∃ (A' : pA), o = .inl none ∧ u = (n, K, A', Lg, G) ∧ Q A'))  (k12 : Int32 → Int32 → pA → Prop) (ok12 : ∀ (l1 : Int32) (l2 : Int32) (A : pA), k12 l1 l2 A → J Γ RX10 cX10_expression 3 none "expression" [] 4 0 0 12 [(0, .ref 1198), (1, .int l1), (2, .int l2)] [] (n, K, A, Lg, G) P) : ∀ (n9 : Nat) (l1 : Int32) (A : pA), fX10_expression_L96  k12 Q n9 l1 A → J Γ RX10 cX10_expression 3 none "expression" [] 4 0 0 96 [(0, .ref 1198), (1, .int l1)] [] (n, K, A, Lg, G) P := by
  intro n9
  induction n9 with
  | zero => intro l1 A h; exact h.elim
  | succ n9 ih =>
    intro l1 A h
    unfold fX10_expression_L96 at h
    refine j_aload_n 0 rfl dX10_expression_96 ?_
    refine j_bipush (v := 7) dX10_expression_97 (by decide) ?_
    refine j_callV (b := 1198) (As := [.int 7]) (st := []) (C := RX10) (kc' := 0) (ks' := 0) (tX10_is hf 7 _ h) myX10_is rfl q1788 q1790 qs62 (by decide) (fun s9 H9 hK9 hR9 h69 => jIs_in hK9 hR9 h69 (m_lt hf (by decide)) (fk_1198 hf) rfl) rfl (Nat.le_of_ble_eq_true rfl) rfl (by decide) (Nat.le_refl 0) (Nat.le_refl 0) dX10_expression_99 (fun v9 u9 hq => ?_) (fun k9 u9 hq => by obtain ⟨_, e9, _⟩ := hq; cases e9)
    obtain ⟨r20, e9, rfl, h⟩ := hq
    obtain rfl := Sum.inl.inj e9
    show J Γ RX10 cX10_expression 3 none "expression" [] 4 0 0 102 [(0, .ref 1198), (1, .int l1)] [.int r20] (n, K, A, Lg, G) P
    refine j_if_eq (tgt := 145) dX10_expression_102 (by decide) (fun c => ?_) (fun c => ?_)
    · rw [if_pos c] at h
      exact fX10_expression_J145_ok hf Q P hP k12 ok12 l1 A h
    · rw [if_neg c] at h
      refine j_aload_n 0 rfl dX10_expression_105 ?_
      refine j_getfi fl_X10_239_9 rfl (m_lt hf (by decide)) (fk_1198 hf) dX10_expression_106 ?_
      refine j_iload_n 1 rfl dX10_expression_109 ?_
      refine j_icmp_le (tgt := 145) dX10_expression_110 (by decide) (fun c => ?_) (fun c => ?_)
      · rw [if_pos c] at h
        exact fX10_expression_J145_ok hf Q P hP k12 ok12 l1 A h
      · rw [if_neg c] at h
        refine j_aload_n 0 rfl dX10_expression_113 ?_
        refine j_iconst (v := 0) dX10_expression_114 (by decide) ?_
        refine j_callV (b := 1198) (As := [.int 0]) (st := []) (C := RX10) (kc' := 0) (ks' := 0) (tX10_comesOut hf 0 _ h) myX10_comesOut rfl q1868 q1870 qs82 (by decide) (fun s9 H9 hK9 hR9 h69 => jIs_in hK9 hR9 h69 (m_lt hf (by decide)) (fk_1198 hf) rfl) rfl (Nat.le_of_ble_eq_true rfl) rfl (by decide) (Nat.le_refl 0) (Nat.le_refl 0) dX10_expression_115 (fun v9 u9 hq => ?_) (fun k9 u9 hq => by obtain ⟨_, e9, _⟩ := hq; cases e9)
        obtain ⟨A21, e9, rfl, h⟩ := hq
        obtain rfl := Sum.inl.inj e9
        show J Γ RX10 cX10_expression 3 none "expression" [] 4 0 0 118 [(0, .ref 1198), (1, .int l1)] [] (n, K, A21, Lg, G) P
        refine j_aload_n 0 rfl dX10_expression_118 ?_
        refine j_dup rfl dX10_expression_119 ?_
        refine j_getfi fl_X10_317_9 rfl (m_lt hf (by decide)) (fk_1198 hf) dX10_expression_120 ?_
        refine j_iconst (v := 1) dX10_expression_123 (by decide) ?_
        refine j_isub dX10_expression_124 ?_
        refine j_putfiE (fp_X10_317_9 _) rfl rfl rfl (m_lt hf (by decide)) (fk_1198 hf) dX10_expression_125 (fun A22 eA22 => ?_)
        replace h := h A22 eA22
        refine j_aload_n 0 rfl dX10_expression_128 ?_
        refine j_dup rfl dX10_expression_129 ?_
        refine j_getfi fl_X10_239_9 rfl (m_lt hf (by decide)) (fk_1198 hf) dX10_expression_130 ?_
        refine j_iconst (v := 1) dX10_expression_133 (by decide) ?_
        refine j_isub dX10_expression_134 ?_
        refine j_putfiE (fp_X10_239_9 _) rfl rfl rfl (m_lt hf (by decide)) (fk_1198 hf) dX10_expression_135 (fun A23 eA23 => ?_)
        replace h := h A23 eA23
        refine j_aload_n 0 rfl dX10_expression_138 ?_
        refine j_callV (b := 1198) (As := []) (st := []) (C := RX10) (kc' := 0) (ks' := 0) (tX10_goesOn hf  _ h) myX10_goesOn rfl q1804 q1806 qs66 (by decide) (fun s9 H9 hK9 hR9 h69 => jIs_in hK9 hR9 h69 (m_lt hf (by decide)) (fk_1198 hf) rfl) rfl (Nat.le_of_ble_eq_true rfl) rfl (by decide) (Nat.le_refl 0) (Nat.le_refl 0) dX10_expression_139 (fun v9 u9 hq => ?_) (fun k9 u9 hq => by obtain ⟨_, e9, _⟩ := hq; cases e9)
        obtain ⟨A24, e9, rfl, h⟩ := hq
        obtain rfl := Sum.inl.inj e9
        show J Γ RX10 cX10_expression 3 none "expression" [] 4 0 0 142 [(0, .ref 1198), (1, .int l1)] [] (n, K, A24, Lg, G) P
        refine j_goto (tgt := 96) dX10_expression_142 (by decide) ?_
        exact ih l1 A24 h
def fX10_expression_L23  (k12 : Int32 → Int32 → pA → Prop) (Q : pA → Prop) : Nat → Int32 → pA → Prop
  | 0, _, _ => False
  | n9 + 1, l1, A =>
    fX10_is A 6 (fun r25 => (if r25 = 0 then fX10_unit A (fun A26 => (if (A26 1198 13) ≤ 0 then ∃ m27, fX10_expression_L96  k12 Q m27 l1 A26 else Q A26)) else (if (A 1198 12) = 6 then fX10_fail A 2 (fun A28 => fX10_expression_J46  (fun x0 x1 => fX10_expression_L23  k12 Q n9 x0 x1) Q l1 A28) else fX10_expression_J46  (fun x0 x1 => fX10_expression_L23  k12 Q n9 x0 x1) Q l1 A)))
theorem fX10_expression_L23_ok {Γ : jG} {n : Nat} {K : Nat → pKd} {G : pG} {Lg : pL} (hf : mOK n K G) (Q : pA → Prop) (P : jO → pS → Prop) (hP : P = (fun o u => ∃ (A' : pA), o = .inl none ∧ u = (n, K, A', Lg, G) ∧ Q A'))  (k12 : Int32 → Int32 → pA → Prop) (ok12 : ∀ (l1 : Int32) (l2 : Int32) (A : pA), k12 l1 l2 A → J Γ RX10 cX10_expression 3 none "expression" [] 4 0 0 12 [(0, .ref 1198), (1, .int l1), (2, .int l2)] [] (n, K, A, Lg, G) P) : ∀ (n9 : Nat) (l1 : Int32) (A : pA), fX10_expression_L23  k12 Q n9 l1 A → J Γ RX10 cX10_expression 3 none "expression" [] 4 0 0 23 [(0, .ref 1198), (1, .int l1)] [] (n, K, A, Lg, G) P := by
  intro n9
  induction n9 with
  | zero => intro l1 A h; exact h.elim
  | succ n9 ih =>
    intro l1 A h
    unfold fX10_expression_L23 at h
    refine j_aload_n 0 rfl dX10_expression_23 ?_
    refine j_bipush (v := 6) dX10_expression_24 (by decide) ?_
    refine j_callV (b := 1198) (As := [.int 6]) (st := []) (C := RX10) (kc' := 0) (ks' := 0) (tX10_is hf 6 _ h) myX10_is rfl q1788 q1790 qs62 (by decide) (fun s9 H9 hK9 hR9 h69 => jIs_in hK9 hR9 h69 (m_lt hf (by decide)) (fk_1198 hf) rfl) rfl (Nat.le_of_ble_eq_true rfl) rfl (by decide) (Nat.le_refl 0) (Nat.le_refl 0) dX10_expression_26 (fun v9 u9 hq => ?_) (fun k9 u9 hq => by obtain ⟨_, e9, _⟩ := hq; cases e9)
    obtain ⟨r25, e9, rfl, h⟩ := hq
    obtain rfl := Sum.inl.inj e9
    show J Γ RX10 cX10_expression 3 none "expression" [] 4 0 0 29 [(0, .ref 1198), (1, .int l1)] [.int r25] (n, K, A, Lg, G) P
    refine j_if_eq (tgt := 84) dX10_expression_29 (by decide) (fun c => ?_) (fun c => ?_)
    · rw [if_pos c] at h
      refine j_aload_n 0 rfl dX10_expression_84 ?_
      refine j_callV (b := 1198) (As := []) (st := []) (C := RX10) (kc' := 0) (ks' := 0) (tX10_unit hf  _ h) myX10_unit rfl q1860 q1862 qs80 (by decide) (fun s9 H9 hK9 hR9 h69 => jIs_in hK9 hR9 h69 (m_lt hf (by decide)) (fk_1198 hf) rfl) rfl (Nat.le_of_ble_eq_true rfl) rfl (by decide) (Nat.le_refl 0) (Nat.le_refl 0) dX10_expression_85 (fun v9 u9 hq => ?_) (fun k9 u9 hq => by obtain ⟨_, e9, _⟩ := hq; cases e9)
      obtain ⟨A26, e9, rfl, h⟩ := hq
      obtain rfl := Sum.inl.inj e9
      show J Γ RX10 cX10_expression 3 none "expression" [] 4 0 0 88 [(0, .ref 1198), (1, .int l1)] [] (n, K, A26, Lg, G) P
      refine j_aload_n 0 rfl dX10_expression_88 ?_
      refine j_getfi fl_X10_212_9 rfl (m_lt hf (by decide)) (fk_1198 hf) dX10_expression_89 ?_
      refine j_if_le (tgt := 96) dX10_expression_92 (by decide) (fun c => ?_) (fun c => ?_)
      · rw [if_pos c] at h
        obtain ⟨m27, h⟩ := h
        exact fX10_expression_L96_ok hf Q P hP k12 ok12 m27 l1 A26 h
      · rw [if_neg c] at h
        refine j_vret rfl ?_ dX10_expression_95
        rw [hP]
        exact ⟨A26, rfl, rfl, h⟩
    · rw [if_neg c] at h
      refine j_aload_n 0 rfl dX10_expression_32 ?_
      refine j_getfi fl_X10_239_9 rfl (m_lt hf (by decide)) (fk_1198 hf) dX10_expression_33 ?_
      refine j_bipush (v := 6) dX10_expression_36 (by decide) ?_
      refine j_icmp_ne (tgt := 46) dX10_expression_38 (by decide) (fun c => ?_) (fun c => ?_)
      · rw [if_neg c] at h
        exact fX10_expression_J46_ok hf Q P hP (fun x0 x1 => fX10_expression_L23  k12 Q n9 x0 x1) (fun x0 x1 h9 => ih x0 x1 h9) l1 A h
      · rw [if_pos c] at h
        refine j_aload_n 0 rfl dX10_expression_41 ?_
        refine j_iconst (v := 2) dX10_expression_42 (by decide) ?_
        refine j_callV (b := 1198) (As := [.int 2]) (st := []) (C := RX10) (kc' := 0) (ks' := 0) (tX10_fail hf 2 _ h) myX10_fail rfl q1800 q1802 qs65 (by decide) (fun s9 H9 hK9 hR9 h69 => jIs_in hK9 hR9 h69 (m_lt hf (by decide)) (fk_1198 hf) rfl) rfl (Nat.le_of_ble_eq_true rfl) rfl (by decide) (Nat.le_refl 0) (Nat.le_refl 0) dX10_expression_43 (fun v9 u9 hq => ?_) (fun k9 u9 hq => by obtain ⟨_, e9, _⟩ := hq; cases e9)
        obtain ⟨A28, e9, rfl, h⟩ := hq
        obtain rfl := Sum.inl.inj e9
        show J Γ RX10 cX10_expression 3 none "expression" [] 4 0 0 46 [(0, .ref 1198), (1, .int l1)] [] (n, K, A28, Lg, G) P
        exact fX10_expression_J46_ok hf Q P hP (fun x0 x1 => fX10_expression_L23  k12 Q n9 x0 x1) (fun x0 x1 h9 => ih x0 x1 h9) l1 A28 h
def fX10_expression_L12   (Q : pA → Prop) : Nat → Int32 → Int32 → pA → Prop
  | 0, _, _, _ => False
  | n9 + 1, l1, l2, A =>
    (if l2 = 0 then Q A else (if (A 1198 13) = 0 then ∃ m29, fX10_expression_L23  (fun x0 x1 x2 => fX10_expression_L12   Q n9 x0 x1 x2) Q m29 l1 A else Q A))
theorem fX10_expression_L12_ok {Γ : jG} {n : Nat} {K : Nat → pKd} {G : pG} {Lg : pL} (hf : mOK n K G) (Q : pA → Prop) (P : jO → pS → Prop) (hP : P = (fun o u => ∃ (A' : pA), o = .inl none ∧ u = (n, K, A', Lg, G) ∧ Q A'))    : ∀ (n9 : Nat) (l1 : Int32) (l2 : Int32) (A : pA), fX10_expression_L12   Q n9 l1 l2 A → J Γ RX10 cX10_expression 3 none "expression" [] 4 0 0 12 [(0, .ref 1198), (1, .int l1), (2, .int l2)] [] (n, K, A, Lg, G) P := by
  intro n9
  induction n9 with
  | zero => intro l1 l2 A h; exact h.elim
  | succ n9 ih =>
    intro l1 l2 A h
    unfold fX10_expression_L12 at h
    refine j_iload_n 2 rfl dX10_expression_12 ?_
    refine j_if_eq (tgt := 272) dX10_expression_13 (by decide) (fun c => ?_) (fun c => ?_)
    · rw [if_pos c] at h
      refine j_vret rfl ?_ dX10_expression_272
      rw [hP]
      exact ⟨A, rfl, rfl, h⟩
    · rw [if_neg c] at h
      refine j_aload_n 0 rfl dX10_expression_16 ?_
      refine j_getfi fl_X10_212_9 rfl (m_lt hf (by decide)) (fk_1198 hf) dX10_expression_17 ?_
      refine j_if_ne (tgt := 272) dX10_expression_20 (by decide) (fun c => ?_) (fun c => ?_)
      · rw [if_neg c] at h
        refine j_vret rfl ?_ dX10_expression_272
        rw [hP]
        exact ⟨A, rfl, rfl, h⟩
      · rw [if_pos c] at h
        refine j_ls [0, 1] rfl ?_
        obtain ⟨m29, h⟩ := h
        exact fX10_expression_L23_ok hf Q P hP (fun x0 x1 x2 => fX10_expression_L12   Q n9 x0 x1 x2) (fun x0 x1 x2 h9 => ih x0 x1 x2 h9) m29 l1 A h
def fX10_expression (A : pA) (Q : pA → Prop) : Prop :=
    ∀ A30 : pA, A30 = pup A 1198 51 0 → ∃ m31, fX10_expression_L12   Q m31 (A30 1198 12) 1 A30
theorem tX10_expression {Γ : jG} {n : Nat} {K : Nat → pKd} {G : pG} {Lg : pL} (hf : mOK n K G) {A : pA}  (Q : pA → Prop) (h : fX10_expression A Q) : jMet Γ yX10_expression cX10_expression 3 none [] 4 0 0 [.ref 1198] (n, K, A, Lg, G) (fun o u => ∃ (A' : pA), o = .inl none ∧ u = (n, K, A', Lg, G) ∧ Q A') := by
  unfold fX10_expression at h
  obtain ⟨P, hP⟩ : ∃ P : jO → pS → Prop, P = (fun o u => ∃ (A' : pA), o = .inl none ∧ u = (n, K, A', Lg, G) ∧ Q A') := ⟨_, rfl⟩
  rw [← hP]
  refine jMet_of rfl rfl rfl (Nat.le_of_ble_eq_true rfl) ?_
  show J Γ RX10 cX10_expression 3 none "expression" [] 4 0 0 0 [(0, .ref 1198)] [] (n, K, A, Lg, G) P
  refine j_aload_n 0 rfl dX10_expression_0 ?_
  refine j_iconst (v := 0) dX10_expression_1 (by decide) ?_
  refine j_putfiE (fp_X10_317_9 _) rfl rfl rfl (m_lt hf (by decide)) (fk_1198 hf) dX10_expression_2 (fun A30 eA30 => ?_)
  replace h := h A30 eA30
  refine j_aload_n 0 rfl dX10_expression_5 ?_
  refine j_getfi fl_X10_239_9 rfl (m_lt hf (by decide)) (fk_1198 hf) dX10_expression_6 ?_
  refine j_istore_n (by decide) rfl dX10_expression_9 ?_
  refine j_iconst (v := 1) dX10_expression_10 (by decide) ?_
  refine j_istore_n (by decide) rfl dX10_expression_11 ?_
  refine j_ls [2, 1, 0] rfl ?_
  obtain ⟨m31, h⟩ := h
  exact fX10_expression_L12_ok hf Q P hP   m31 (A30 1198 12) 1 A30 h
theorem myX10_term : jY yX10_term cX10_term 1 none 0 := ⟨q1875, q139, by decide +kernel, by decide +kernel, by decide⟩
def fX10_term_J24   (Q : pA → Prop) (A : pA) : Prop :=
    (vp_in (A 1198 41) 260) ∧ (∀ A2 : pA, A2 = pup A 1230 (A 1198 41).toNatClampNeg (A 1198 47) → ∀ A3 : pA, A3 = pup A2 1198 41 ((A2 1198 41) + 1) → Q A3)
theorem fX10_term_J24_ok {Γ : jG} {n : Nat} {K : Nat → pKd} {G : pG} {Lg : pL} (hf : mOK n K G) (Q : pA → Prop) (P : jO → pS → Prop) (hP : P = (fun o u => ∃ (A' : pA), o = .inl none ∧ u = (n, K, A', Lg, G) ∧ Q A'))   (A : pA) (h : fX10_term_J24   Q A) : J Γ RX10 cX10_term 1 none "term" [] 5 0 0 24 [(0, .ref 1198)] [] (n, K, A, Lg, G) P := by
  unfold fX10_term_J24 at h
  refine j_aload_n 0 rfl dX10_term_24 ?_
  refine j_getfr fl_X10_113_9 rfl (m_lt hf (by decide)) (fk_1198 hf) (fg_1198_46 hf) dX10_term_25 ?_
  refine j_aload_n 0 rfl dX10_term_28 ?_
  refine j_getfi fl_X10_251_9 rfl (m_lt hf (by decide)) (fk_1198 hf) dX10_term_29 ?_
  refine j_aload_n 0 rfl dX10_term_32 ?_
  refine j_getfi fl_X10_254_9 rfl (m_lt hf (by decide)) (fk_1198 hf) dX10_term_33 ?_
  obtain ⟨b1, h⟩ := h
  refine j_iastJ (j := (A 1198 41).toNatClampNeg) (m_lt hf (by decide)) (fk_1230 hf) b1 rfl dX10_term_36 (fun A2 eA2 => ?_)
  replace h := h A2 eA2
  refine j_aload_n 0 rfl dX10_term_37 ?_
  refine j_dup rfl dX10_term_38 ?_
  refine j_getfi fl_X10_251_9 rfl (m_lt hf (by decide)) (fk_1198 hf) dX10_term_39 ?_
  refine j_iconst (v := 1) dX10_term_42 (by decide) ?_
  refine j_iadd dX10_term_43 ?_
  refine j_putfiE (fp_X10_251_9 _) rfl rfl rfl (m_lt hf (by decide)) (fk_1198 hf) dX10_term_44 (fun A3 eA3 => ?_)
  replace h := h A3 eA3
  refine j_vret rfl ?_ dX10_term_47
  rw [hP]
  exact ⟨A3, rfl, rfl, h⟩
def fX10_term (A : pA) (Q : pA → Prop) : Prop :=
    (vp_in (A 1198 41) 260) ∧ (∀ A5 : pA, A5 = pup A 1229 (A 1198 41).toNatClampNeg (A 1198 47) → (if (A5 1198 13) = 0 then fX10_expression A5 (fun A6 => fX10_term_J24   Q A6) else fX10_term_J24   Q A5))
theorem tX10_term {Γ : jG} {n : Nat} {K : Nat → pKd} {G : pG} {Lg : pL} (hf : mOK n K G) {A : pA}  (Q : pA → Prop) (h : fX10_term A Q) : jMet Γ yX10_term cX10_term 1 none [] 5 0 0 [.ref 1198] (n, K, A, Lg, G) (fun o u => ∃ (A' : pA), o = .inl none ∧ u = (n, K, A', Lg, G) ∧ Q A') := by
  unfold fX10_term at h
  obtain ⟨P, hP⟩ : ∃ P : jO → pS → Prop, P = (fun o u => ∃ (A' : pA), o = .inl none ∧ u = (n, K, A', Lg, G) ∧ Q A') := ⟨_, rfl⟩
  rw [← hP]
  refine jMet_of rfl rfl rfl (Nat.le_of_ble_eq_true rfl) ?_
  show J Γ RX10 cX10_term 1 none "term" [] 5 0 0 0 [(0, .ref 1198)] [] (n, K, A, Lg, G) P
  refine j_aload_n 0 rfl dX10_term_0 ?_
  refine j_getfr fl_X10_110_9 rfl (m_lt hf (by decide)) (fk_1198 hf) (fg_1198_45 hf) dX10_term_1 ?_
  refine j_aload_n 0 rfl dX10_term_4 ?_
  refine j_getfi fl_X10_251_9 rfl (m_lt hf (by decide)) (fk_1198 hf) dX10_term_5 ?_
  refine j_aload_n 0 rfl dX10_term_8 ?_
  refine j_getfi fl_X10_254_9 rfl (m_lt hf (by decide)) (fk_1198 hf) dX10_term_9 ?_
  obtain ⟨b4, h⟩ := h
  refine j_iastJ (j := (A 1198 41).toNatClampNeg) (m_lt hf (by decide)) (fk_1229 hf) b4 rfl dX10_term_12 (fun A5 eA5 => ?_)
  replace h := h A5 eA5
  refine j_aload_n 0 rfl dX10_term_13 ?_
  refine j_getfi fl_X10_212_9 rfl (m_lt hf (by decide)) (fk_1198 hf) dX10_term_14 ?_
  refine j_if_ne (tgt := 24) dX10_term_17 (by decide) (fun c => ?_) (fun c => ?_)
  · rw [if_neg c] at h
    exact fX10_term_J24_ok hf Q P hP   A5 h
  · rw [if_pos c] at h
    refine j_aload_n 0 rfl dX10_term_20 ?_
    refine j_callV (b := 1198) (As := []) (st := []) (C := RX10) (kc' := 0) (ks' := 0) (tX10_expression hf  _ h) myX10_expression rfl q1856 q1858 qs79 (by decide) (fun s9 H9 hK9 hR9 h69 => jIs_in hK9 hR9 h69 (m_lt hf (by decide)) (fk_1198 hf) rfl) rfl (Nat.le_of_ble_eq_true rfl) rfl (by decide) (Nat.le_refl 0) (Nat.le_refl 0) dX10_term_21 (fun v9 u9 hq => ?_) (fun k9 u9 hq => by obtain ⟨_, e9, _⟩ := hq; cases e9)
    obtain ⟨A6, e9, rfl, h⟩ := hq
    obtain rfl := Sum.inl.inj e9
    show J Γ RX10 cX10_term 1 none "term" [] 5 0 0 24 [(0, .ref 1198)] [] (n, K, A6, Lg, G) P
    exact fX10_term_J24_ok hf Q P hP   A6 h
theorem myX10_tellLaw : jY yX10_tellLaw cX10_tellLaw 4 none 1 := ⟨q1855, q139, by decide +kernel, by decide +kernel, by decide⟩
def fX10_tellLaw_J129   (Q : pA → Prop) (l1 : Int32) (l2 : Int32) (A : pA) : Prop :=
    (vp_in (A 1198 41) 260) ∧ (∀ A2 : pA, A2 = pup A 1226 (A 1198 41).toNatClampNeg (vp_nar .boolean 0) → fX10_term A2 (fun A3 => fX10_must A3 4 (fun A4 => (if (A4 1198 13) ≤ 0 then (vp_in ((4 * (A4 1198 19)) + l1) 8) ∧ (∀ A6 : pA, A6 = pup A4 1224 ((4 * (A4 1198 19)) + l1).toNatClampNeg l2 → (vp_in ((4 * (A6 1198 19)) + l1) 8) ∧ (∀ A8 : pA, A8 = pup A6 1225 ((4 * (A6 1198 19)) + l1).toNatClampNeg (A6 1198 41) → Q A8)) else Q A4))))
theorem fX10_tellLaw_J129_ok {Γ : jG} {n : Nat} {K : Nat → pKd} {G : pG} {Lg : pL} (hf : mOK n K G) (Q : pA → Prop) (P : jO → pS → Prop) (hP : P = (fun o u => ∃ (A' : pA), o = .inl none ∧ u = (n, K, A', Lg, G) ∧ Q A'))   (l1 : Int32) (l2 : Int32) (A : pA) (h : fX10_tellLaw_J129   Q l1 l2 A) : J Γ RX10 cX10_tellLaw 4 none "tellLaw" [] 6 0 0 129 [(0, .ref 1198), (1, .int l1), (2, .int l2)] [] (n, K, A, Lg, G) P := by
  unfold fX10_tellLaw_J129 at h
  refine j_aload_n 0 rfl dX10_tellLaw_129 ?_
  refine j_getfr fl_X10_100_9 rfl (m_lt hf (by decide)) (fk_1198 hf) (fg_1198_42 hf) dX10_tellLaw_130 ?_
  refine j_aload_n 0 rfl dX10_tellLaw_133 ?_
  refine j_getfi fl_X10_251_9 rfl (m_lt hf (by decide)) (fk_1198 hf) dX10_tellLaw_134 ?_
  refine j_iconst (v := 0) dX10_tellLaw_137 (by decide) ?_
  obtain ⟨b1, h⟩ := h
  refine j_zastJ (j := (A 1198 41).toNatClampNeg) (m_lt hf (by decide)) (fk_1226 hf) b1 rfl dX10_tellLaw_138 (fun A2 eA2 => ?_)
  replace h := h A2 eA2
  refine j_aload_n 0 rfl dX10_tellLaw_139 ?_
  refine j_callV (b := 1198) (As := []) (st := []) (C := RX10) (kc' := 0) (ks' := 0) (tX10_term hf  _ h) myX10_term rfl q1872 q1874 qs83 (by decide) (fun s9 H9 hK9 hR9 h69 => jIs_in hK9 hR9 h69 (m_lt hf (by decide)) (fk_1198 hf) rfl) rfl (Nat.le_of_ble_eq_true rfl) rfl (by decide) (Nat.le_refl 0) (Nat.le_refl 0) dX10_tellLaw_140 (fun v9 u9 hq => ?_) (fun k9 u9 hq => by obtain ⟨_, e9, _⟩ := hq; cases e9)
  obtain ⟨A3, e9, rfl, h⟩ := hq
  obtain rfl := Sum.inl.inj e9
  show J Γ RX10 cX10_tellLaw 4 none "tellLaw" [] 6 0 0 143 [(0, .ref 1198), (1, .int l1), (2, .int l2)] [] (n, K, A3, Lg, G) P
  refine j_aload_n 0 rfl dX10_tellLaw_143 ?_
  refine j_iconst (v := 4) dX10_tellLaw_144 (by decide) ?_
  refine j_callV (b := 1198) (As := [.int 4]) (st := []) (C := RX10) (kc' := 0) (ks' := 0) (tX10_must hf 4 _ h) myX10_must rfl q1812 q1814 qs68 (by decide) (fun s9 H9 hK9 hR9 h69 => jIs_in hK9 hR9 h69 (m_lt hf (by decide)) (fk_1198 hf) rfl) rfl (Nat.le_of_ble_eq_true rfl) rfl (by decide) (Nat.le_refl 0) (Nat.le_refl 0) dX10_tellLaw_145 (fun v9 u9 hq => ?_) (fun k9 u9 hq => by obtain ⟨_, e9, _⟩ := hq; cases e9)
  obtain ⟨A4, e9, rfl, h⟩ := hq
  obtain rfl := Sum.inl.inj e9
  show J Γ RX10 cX10_tellLaw 4 none "tellLaw" [] 6 0 0 148 [(0, .ref 1198), (1, .int l1), (2, .int l2)] [] (n, K, A4, Lg, G) P
  refine j_aload_n 0 rfl dX10_tellLaw_148 ?_
  refine j_getfi fl_X10_212_9 rfl (m_lt hf (by decide)) (fk_1198 hf) dX10_tellLaw_149 ?_
  refine j_if_le (tgt := 156) dX10_tellLaw_152 (by decide) (fun c => ?_) (fun c => ?_)
  · rw [if_pos c] at h
    refine j_aload_n 0 rfl dX10_tellLaw_156 ?_
    refine j_getfr fl_X10_94_9 rfl (m_lt hf (by decide)) (fk_1198 hf) (fg_1198_39 hf) dX10_tellLaw_157 ?_
    refine j_iconst (v := 4) dX10_tellLaw_160 (by decide) ?_
    refine j_aload_n 0 rfl dX10_tellLaw_161 ?_
    refine j_getfi fl_X10_245_9 rfl (m_lt hf (by decide)) (fk_1198 hf) dX10_tellLaw_162 ?_
    refine j_imul dX10_tellLaw_165 ?_
    refine j_iload_n 1 rfl dX10_tellLaw_166 ?_
    refine j_iadd dX10_tellLaw_167 ?_
    refine j_iload_n 2 rfl dX10_tellLaw_168 ?_
    obtain ⟨b5, h⟩ := h
    refine j_iastJ (j := ((4 * (A4 1198 19)) + l1).toNatClampNeg) (m_lt hf (by decide)) (fk_1224 hf) b5 rfl dX10_tellLaw_169 (fun A6 eA6 => ?_)
    replace h := h A6 eA6
    refine j_aload_n 0 rfl dX10_tellLaw_170 ?_
    refine j_getfr fl_X10_97_9 rfl (m_lt hf (by decide)) (fk_1198 hf) (fg_1198_40 hf) dX10_tellLaw_171 ?_
    refine j_iconst (v := 4) dX10_tellLaw_174 (by decide) ?_
    refine j_aload_n 0 rfl dX10_tellLaw_175 ?_
    refine j_getfi fl_X10_245_9 rfl (m_lt hf (by decide)) (fk_1198 hf) dX10_tellLaw_176 ?_
    refine j_imul dX10_tellLaw_179 ?_
    refine j_iload_n 1 rfl dX10_tellLaw_180 ?_
    refine j_iadd dX10_tellLaw_181 ?_
    refine j_aload_n 0 rfl dX10_tellLaw_182 ?_
    refine j_getfi fl_X10_251_9 rfl (m_lt hf (by decide)) (fk_1198 hf) dX10_tellLaw_183 ?_
    obtain ⟨b7, h⟩ := h
    refine j_iastJ (j := ((4 * (A6 1198 19)) + l1).toNatClampNeg) (m_lt hf (by decide)) (fk_1225 hf) b7 rfl dX10_tellLaw_186 (fun A8 eA8 => ?_)
    replace h := h A8 eA8
    refine j_vret rfl ?_ dX10_tellLaw_187
    rw [hP]
    exact ⟨A8, rfl, rfl, h⟩
  · rw [if_neg c] at h
    refine j_vret rfl ?_ dX10_tellLaw_155
    rw [hP]
    exact ⟨A4, rfl, rfl, h⟩
def fX10_tellLaw_J110  (k12 : Int32 → Int32 → Int32 → pA → Prop) (Q : pA → Prop) (l1 : Int32) (l2 : Int32) (l3 : Int32) (A : pA) : Prop :=
    fX10_must A 32 (fun A9 => fX10_term A9 (fun A10 => fX10_must A10 33 (fun A11 => k12 l1 l2 l3 A11)))
theorem fX10_tellLaw_J110_ok {Γ : jG} {n : Nat} {K : Nat → pKd} {G : pG} {Lg : pL} (hf : mOK n K G) (Q : pA → Prop) (P : jO → pS → Prop) (hP : P = (fun o u => ∃ (A' : pA), o = .inl none ∧ u = (n, K, A', Lg, G) ∧ Q A')) (k12 : Int32 → Int32 → Int32 → pA → Prop) (ok12 : ∀ (l1 : Int32) (l2 : Int32) (l3 : Int32) (A : pA), k12 l1 l2 l3 A → J Γ RX10 cX10_tellLaw 4 none "tellLaw" [] 6 0 0 12 [(0, .ref 1198), (1, .int l1), (2, .int l2), (3, .int l3)] [] (n, K, A, Lg, G) P) (l1 : Int32) (l2 : Int32) (l3 : Int32) (A : pA) (h : fX10_tellLaw_J110  k12 Q l1 l2 l3 A) : J Γ RX10 cX10_tellLaw 4 none "tellLaw" [] 6 0 0 110 [(0, .ref 1198), (1, .int l1), (2, .int l2), (3, .int l3)] [] (n, K, A, Lg, G) P := by
  unfold fX10_tellLaw_J110 at h
  refine j_aload_n 0 rfl dX10_tellLaw_110 ?_
  refine j_bipush (v := 32) dX10_tellLaw_111 (by decide) ?_
  refine j_callV (b := 1198) (As := [.int 32]) (st := []) (C := RX10) (kc' := 0) (ks' := 0) (tX10_must hf 32 _ h) myX10_must rfl q1812 q1814 qs68 (by decide) (fun s9 H9 hK9 hR9 h69 => jIs_in hK9 hR9 h69 (m_lt hf (by decide)) (fk_1198 hf) rfl) rfl (Nat.le_of_ble_eq_true rfl) rfl (by decide) (Nat.le_refl 0) (Nat.le_refl 0) dX10_tellLaw_113 (fun v9 u9 hq => ?_) (fun k9 u9 hq => by obtain ⟨_, e9, _⟩ := hq; cases e9)
  obtain ⟨A9, e9, rfl, h⟩ := hq
  obtain rfl := Sum.inl.inj e9
  show J Γ RX10 cX10_tellLaw 4 none "tellLaw" [] 6 0 0 116 [(0, .ref 1198), (1, .int l1), (2, .int l2), (3, .int l3)] [] (n, K, A9, Lg, G) P
  refine j_aload_n 0 rfl dX10_tellLaw_116 ?_
  refine j_callV (b := 1198) (As := []) (st := []) (C := RX10) (kc' := 0) (ks' := 0) (tX10_term hf  _ h) myX10_term rfl q1872 q1874 qs83 (by decide) (fun s9 H9 hK9 hR9 h69 => jIs_in hK9 hR9 h69 (m_lt hf (by decide)) (fk_1198 hf) rfl) rfl (Nat.le_of_ble_eq_true rfl) rfl (by decide) (Nat.le_refl 0) (Nat.le_refl 0) dX10_tellLaw_117 (fun v9 u9 hq => ?_) (fun k9 u9 hq => by obtain ⟨_, e9, _⟩ := hq; cases e9)
  obtain ⟨A10, e9, rfl, h⟩ := hq
  obtain rfl := Sum.inl.inj e9
  show J Γ RX10 cX10_tellLaw 4 none "tellLaw" [] 6 0 0 120 [(0, .ref 1198), (1, .int l1), (2, .int l2), (3, .int l3)] [] (n, K, A10, Lg, G) P
  refine j_aload_n 0 rfl dX10_tellLaw_120 ?_
  refine j_bipush (v := 33) dX10_tellLaw_121 (by decide) ?_
  refine j_callV (b := 1198) (As := [.int 33]) (st := []) (C := RX10) (kc' := 0) (ks' := 0) (tX10_must hf 33 _ h) myX10_must rfl q1812 q1814 qs68 (by decide) (fun s9 H9 hK9 hR9 h69 => jIs_in hK9 hR9 h69 (m_lt hf (by decide)) (fk_1198 hf) rfl) rfl (Nat.le_of_ble_eq_true rfl) rfl (by decide) (Nat.le_refl 0) (Nat.le_refl 0) dX10_tellLaw_123 (fun v9 u9 hq => ?_) (fun k9 u9 hq => by obtain ⟨_, e9, _⟩ := hq; cases e9)
  obtain ⟨A11, e9, rfl, h⟩ := hq
  obtain rfl := Sum.inl.inj e9
  show J Γ RX10 cX10_tellLaw 4 none "tellLaw" [] 6 0 0 126 [(0, .ref 1198), (1, .int l1), (2, .int l2), (3, .int l3)] [] (n, K, A11, Lg, G) P
  refine j_goto (tgt := 12) dX10_tellLaw_126 (by decide) ?_
  exact ok12 l1 l2 l3 A11 h
def fX10_tellLaw_J38  (k12 : Int32 → Int32 → Int32 → pA → Prop) (Q : pA → Prop) (l1 : Int32) (l2 : Int32) (l3 : Int32) (A : pA) : Prop :=
    (if (A 1198 13) ≤ 0 then fX10_goesOn A (fun A12 => (vp_in (A12 1198 41) 260) ∧ (∀ A14 : pA, A14 = pup A12 1226 (A12 1198 41).toNatClampNeg (vp_nar .boolean 1) → (vp_in (A14 1198 41) 260) ∧ (∀ A16 : pA, A16 = pup A14 1227 (A14 1198 41).toNatClampNeg (A14 1198 47) → fX10_expression A16 (fun A17 => fX10_must A17 13 (fun A18 => (vp_in (A18 1198 41) 260) ∧ (∀ A20 : pA, A20 = pup A18 1228 (A18 1198 41).toNatClampNeg (A18 1198 47) → (if (A20 1198 13) = 0 then fX10_expression A20 (fun A21 => fX10_tellLaw_J110  k12 Q l1 l2 (l3 + 1) A21) else fX10_tellLaw_J110  k12 Q l1 l2 (l3 + 1) A20))))))) else Q A)
theorem fX10_tellLaw_J38_ok {Γ : jG} {n : Nat} {K : Nat → pKd} {G : pG} {Lg : pL} (hf : mOK n K G) (Q : pA → Prop) (P : jO → pS → Prop) (hP : P = (fun o u => ∃ (A' : pA), o = .inl none ∧ u = (n, K, A', Lg, G) ∧ Q A')) (k12 : Int32 → Int32 → Int32 → pA → Prop) (ok12 : ∀ (l1 : Int32) (l2 : Int32) (l3 : Int32) (A : pA), k12 l1 l2 l3 A → J Γ RX10 cX10_tellLaw 4 none "tellLaw" [] 6 0 0 12 [(0, .ref 1198), (1, .int l1), (2, .int l2), (3, .int l3)] [] (n, K, A, Lg, G) P) (l1 : Int32) (l2 : Int32) (l3 : Int32) (A : pA) (h : fX10_tellLaw_J38  k12 Q l1 l2 l3 A) : J Γ RX10 cX10_tellLaw 4 none "tellLaw" [] 6 0 0 38 [(0, .ref 1198), (1, .int l1), (2, .int l2), (3, .int l3)] [] (n, K, A, Lg, G) P := by
  unfold fX10_tellLaw_J38 at h
  refine j_aload_n 0 rfl dX10_tellLaw_38 ?_
  refine j_getfi fl_X10_212_9 rfl (m_lt hf (by decide)) (fk_1198 hf) dX10_tellLaw_39 ?_
  refine j_if_le (tgt := 46) dX10_tellLaw_42 (by decide) (fun c => ?_) (fun c => ?_)
  · rw [if_pos c] at h
    refine j_iinc (v := l3 + 1) 3 rfl rfl (by decide) rfl dX10_tellLaw_46 ?_
    refine j_aload_n 1 rfl dX10_tellLaw_49 ?_
    refine j_callV (b := 1198) (As := []) (st := []) (C := RX10) (kc' := 0) (ks' := 0) (tX10_goesOn hf  _ h) myX10_goesOn rfl q1804 q1806 qs66 (by decide) (fun s9 H9 hK9 hR9 h69 => jIs_in hK9 hR9 h69 (m_lt hf (by decide)) (fk_1198 hf) rfl) rfl (Nat.le_of_ble_eq_true rfl) rfl (by decide) (Nat.le_refl 0) (Nat.le_refl 0) dX10_tellLaw_50 (fun v9 u9 hq => ?_) (fun k9 u9 hq => by obtain ⟨_, e9, _⟩ := hq; cases e9)
    obtain ⟨A12, e9, rfl, h⟩ := hq
    obtain rfl := Sum.inl.inj e9
    show J Γ RX10 cX10_tellLaw 4 none "tellLaw" [] 6 0 0 53 [(3, .int (l3 + 1)), (0, .ref 1198), (1, .int l1), (2, .int l2)] [] (n, K, A12, Lg, G) P
    refine j_aload_n 1 rfl dX10_tellLaw_53 ?_
    refine j_getfr fl_X10_100_9 rfl (m_lt hf (by decide)) (fk_1198 hf) (fg_1198_42 hf) dX10_tellLaw_54 ?_
    refine j_aload_n 1 rfl dX10_tellLaw_57 ?_
    refine j_getfi fl_X10_251_9 rfl (m_lt hf (by decide)) (fk_1198 hf) dX10_tellLaw_58 ?_
    refine j_iconst (v := 1) dX10_tellLaw_61 (by decide) ?_
    obtain ⟨b13, h⟩ := h
    refine j_zastJ (j := (A12 1198 41).toNatClampNeg) (m_lt hf (by decide)) (fk_1226 hf) b13 rfl dX10_tellLaw_62 (fun A14 eA14 => ?_)
    replace h := h A14 eA14
    refine j_aload_n 1 rfl dX10_tellLaw_63 ?_
    refine j_getfr fl_X10_104_9 rfl (m_lt hf (by decide)) (fk_1198 hf) (fg_1198_43 hf) dX10_tellLaw_64 ?_
    refine j_aload_n 1 rfl dX10_tellLaw_67 ?_
    refine j_getfi fl_X10_251_9 rfl (m_lt hf (by decide)) (fk_1198 hf) dX10_tellLaw_68 ?_
    refine j_aload_n 1 rfl dX10_tellLaw_71 ?_
    refine j_getfi fl_X10_254_9 rfl (m_lt hf (by decide)) (fk_1198 hf) dX10_tellLaw_72 ?_
    obtain ⟨b15, h⟩ := h
    refine j_iastJ (j := (A14 1198 41).toNatClampNeg) (m_lt hf (by decide)) (fk_1227 hf) b15 rfl dX10_tellLaw_75 (fun A16 eA16 => ?_)
    replace h := h A16 eA16
    refine j_aload_n 1 rfl dX10_tellLaw_76 ?_
    refine j_callV (b := 1198) (As := []) (st := []) (C := RX10) (kc' := 0) (ks' := 0) (tX10_expression hf  _ h) myX10_expression rfl q1856 q1858 qs79 (by decide) (fun s9 H9 hK9 hR9 h69 => jIs_in hK9 hR9 h69 (m_lt hf (by decide)) (fk_1198 hf) rfl) rfl (Nat.le_of_ble_eq_true rfl) rfl (by decide) (Nat.le_refl 0) (Nat.le_refl 0) dX10_tellLaw_77 (fun v9 u9 hq => ?_) (fun k9 u9 hq => by obtain ⟨_, e9, _⟩ := hq; cases e9)
    obtain ⟨A17, e9, rfl, h⟩ := hq
    obtain rfl := Sum.inl.inj e9
    show J Γ RX10 cX10_tellLaw 4 none "tellLaw" [] 6 0 0 80 [(3, .int (l3 + 1)), (0, .ref 1198), (1, .int l1), (2, .int l2)] [] (n, K, A17, Lg, G) P
    refine j_aload_n 1 rfl dX10_tellLaw_80 ?_
    refine j_bipush (v := 13) dX10_tellLaw_81 (by decide) ?_
    refine j_callV (b := 1198) (As := [.int 13]) (st := []) (C := RX10) (kc' := 0) (ks' := 0) (tX10_must hf 13 _ h) myX10_must rfl q1812 q1814 qs68 (by decide) (fun s9 H9 hK9 hR9 h69 => jIs_in hK9 hR9 h69 (m_lt hf (by decide)) (fk_1198 hf) rfl) rfl (Nat.le_of_ble_eq_true rfl) rfl (by decide) (Nat.le_refl 0) (Nat.le_refl 0) dX10_tellLaw_83 (fun v9 u9 hq => ?_) (fun k9 u9 hq => by obtain ⟨_, e9, _⟩ := hq; cases e9)
    obtain ⟨A18, e9, rfl, h⟩ := hq
    obtain rfl := Sum.inl.inj e9
    show J Γ RX10 cX10_tellLaw 4 none "tellLaw" [] 6 0 0 86 [(3, .int (l3 + 1)), (0, .ref 1198), (1, .int l1), (2, .int l2)] [] (n, K, A18, Lg, G) P
    refine j_aload_n 1 rfl dX10_tellLaw_86 ?_
    refine j_getfr fl_X10_107_9 rfl (m_lt hf (by decide)) (fk_1198 hf) (fg_1198_44 hf) dX10_tellLaw_87 ?_
    refine j_aload_n 1 rfl dX10_tellLaw_90 ?_
    refine j_getfi fl_X10_251_9 rfl (m_lt hf (by decide)) (fk_1198 hf) dX10_tellLaw_91 ?_
    refine j_aload_n 1 rfl dX10_tellLaw_94 ?_
    refine j_getfi fl_X10_254_9 rfl (m_lt hf (by decide)) (fk_1198 hf) dX10_tellLaw_95 ?_
    obtain ⟨b19, h⟩ := h
    refine j_iastJ (j := (A18 1198 41).toNatClampNeg) (m_lt hf (by decide)) (fk_1228 hf) b19 rfl dX10_tellLaw_98 (fun A20 eA20 => ?_)
    replace h := h A20 eA20
    refine j_aload_n 1 rfl dX10_tellLaw_99 ?_
    refine j_getfi fl_X10_212_9 rfl (m_lt hf (by decide)) (fk_1198 hf) dX10_tellLaw_100 ?_
    refine j_if_ne (tgt := 110) dX10_tellLaw_103 (by decide) (fun c => ?_) (fun c => ?_)
    · rw [if_neg c] at h
      refine j_ls [1, 2, 3, 0] rfl ?_
      exact fX10_tellLaw_J110_ok hf Q P hP k12 ok12 l1 l2 (l3 + 1) A20 h
    · rw [if_pos c] at h
      refine j_aload_n 1 rfl dX10_tellLaw_106 ?_
      refine j_callV (b := 1198) (As := []) (st := []) (C := RX10) (kc' := 0) (ks' := 0) (tX10_expression hf  _ h) myX10_expression rfl q1856 q1858 qs79 (by decide) (fun s9 H9 hK9 hR9 h69 => jIs_in hK9 hR9 h69 (m_lt hf (by decide)) (fk_1198 hf) rfl) rfl (Nat.le_of_ble_eq_true rfl) rfl (by decide) (Nat.le_refl 0) (Nat.le_refl 0) dX10_tellLaw_107 (fun v9 u9 hq => ?_) (fun k9 u9 hq => by obtain ⟨_, e9, _⟩ := hq; cases e9)
      obtain ⟨A21, e9, rfl, h⟩ := hq
      obtain rfl := Sum.inl.inj e9
      show J Γ RX10 cX10_tellLaw 4 none "tellLaw" [] 6 0 0 110 [(3, .int (l3 + 1)), (0, .ref 1198), (1, .int l1), (2, .int l2)] [] (n, K, A21, Lg, G) P
      refine j_ls [1, 2, 3, 0] rfl ?_
      exact fX10_tellLaw_J110_ok hf Q P hP k12 ok12 l1 l2 (l3 + 1) A21 h
  · rw [if_neg c] at h
    refine j_vret rfl ?_ dX10_tellLaw_45
    rw [hP]
    exact ⟨A, rfl, rfl, h⟩
def fX10_tellLaw_L12   (Q : pA → Prop) : Nat → Int32 → Int32 → Int32 → pA → Prop
  | 0, _, _, _, _ => False
  | n9 + 1, l1, l2, l3, A =>
    (if (A 1198 13) = 0 then fX10_is A 31 (fun r22 => (if r22 = 0 then fX10_tellLaw_J129   Q l1 l2 A else (if l3 = 4 then fX10_fail A 2 (fun A23 => fX10_tellLaw_J38  (fun x0 x1 x2 x3 => fX10_tellLaw_L12   Q n9 x0 x1 x2 x3) Q l1 l2 l3 A23) else fX10_tellLaw_J38  (fun x0 x1 x2 x3 => fX10_tellLaw_L12   Q n9 x0 x1 x2 x3) Q l1 l2 l3 A))) else fX10_tellLaw_J129   Q l1 l2 A)
theorem fX10_tellLaw_L12_ok {Γ : jG} {n : Nat} {K : Nat → pKd} {G : pG} {Lg : pL} (hf : mOK n K G) (Q : pA → Prop) (P : jO → pS → Prop) (hP : P = (fun o u => ∃ (A' : pA), o = .inl none ∧ u = (n, K, A', Lg, G) ∧ Q A'))    : ∀ (n9 : Nat) (l1 : Int32) (l2 : Int32) (l3 : Int32) (A : pA), fX10_tellLaw_L12   Q n9 l1 l2 l3 A → J Γ RX10 cX10_tellLaw 4 none "tellLaw" [] 6 0 0 12 [(0, .ref 1198), (1, .int l1), (2, .int l2), (3, .int l3)] [] (n, K, A, Lg, G) P := by
  intro n9
  induction n9 with
  | zero => intro l1 l2 l3 A h; exact h.elim
  | succ n9 ih =>
    intro l1 l2 l3 A h
    unfold fX10_tellLaw_L12 at h
    refine j_aload_n 0 rfl dX10_tellLaw_12 ?_
    refine j_getfi fl_X10_212_9 rfl (m_lt hf (by decide)) (fk_1198 hf) dX10_tellLaw_13 ?_
    refine j_if_ne (tgt := 129) dX10_tellLaw_16 (by decide) (fun c => ?_) (fun c => ?_)
    · rw [if_neg c] at h
      refine j_ls [0, 1, 2] rfl ?_
      exact fX10_tellLaw_J129_ok hf Q P hP   l1 l2 A h
    · rw [if_pos c] at h
      refine j_aload_n 0 rfl dX10_tellLaw_19 ?_
      refine j_bipush (v := 31) dX10_tellLaw_20 (by decide) ?_
      refine j_callV (b := 1198) (As := [.int 31]) (st := []) (C := RX10) (kc' := 0) (ks' := 0) (tX10_is hf 31 _ h) myX10_is rfl q1788 q1790 qs62 (by decide) (fun s9 H9 hK9 hR9 h69 => jIs_in hK9 hR9 h69 (m_lt hf (by decide)) (fk_1198 hf) rfl) rfl (Nat.le_of_ble_eq_true rfl) rfl (by decide) (Nat.le_refl 0) (Nat.le_refl 0) dX10_tellLaw_22 (fun v9 u9 hq => ?_) (fun k9 u9 hq => by obtain ⟨_, e9, _⟩ := hq; cases e9)
      obtain ⟨r22, e9, rfl, h⟩ := hq
      obtain rfl := Sum.inl.inj e9
      show J Γ RX10 cX10_tellLaw 4 none "tellLaw" [] 6 0 0 25 [(0, .ref 1198), (1, .int l1), (2, .int l2), (3, .int l3)] [.int r22] (n, K, A, Lg, G) P
      refine j_if_eq (tgt := 129) dX10_tellLaw_25 (by decide) (fun c => ?_) (fun c => ?_)
      · rw [if_pos c] at h
        refine j_ls [0, 1, 2] rfl ?_
        exact fX10_tellLaw_J129_ok hf Q P hP   l1 l2 A h
      · rw [if_neg c] at h
        refine j_iload_n 3 rfl dX10_tellLaw_28 ?_
        refine j_iconst (v := 4) dX10_tellLaw_29 (by decide) ?_
        refine j_icmp_ne (tgt := 38) dX10_tellLaw_30 (by decide) (fun c => ?_) (fun c => ?_)
        · rw [if_neg c] at h
          exact fX10_tellLaw_J38_ok hf Q P hP (fun x0 x1 x2 x3 => fX10_tellLaw_L12   Q n9 x0 x1 x2 x3) (fun x0 x1 x2 x3 h9 => ih x0 x1 x2 x3 h9) l1 l2 l3 A h
        · rw [if_pos c] at h
          refine j_aload_n 0 rfl dX10_tellLaw_33 ?_
          refine j_iconst (v := 2) dX10_tellLaw_34 (by decide) ?_
          refine j_callV (b := 1198) (As := [.int 2]) (st := []) (C := RX10) (kc' := 0) (ks' := 0) (tX10_fail hf 2 _ h) myX10_fail rfl q1800 q1802 qs65 (by decide) (fun s9 H9 hK9 hR9 h69 => jIs_in hK9 hR9 h69 (m_lt hf (by decide)) (fk_1198 hf) rfl) rfl (Nat.le_of_ble_eq_true rfl) rfl (by decide) (Nat.le_refl 0) (Nat.le_refl 0) dX10_tellLaw_35 (fun v9 u9 hq => ?_) (fun k9 u9 hq => by obtain ⟨_, e9, _⟩ := hq; cases e9)
          obtain ⟨A23, e9, rfl, h⟩ := hq
          obtain rfl := Sum.inl.inj e9
          show J Γ RX10 cX10_tellLaw 4 none "tellLaw" [] 6 0 0 38 [(0, .ref 1198), (1, .int l1), (2, .int l2), (3, .int l3)] [] (n, K, A23, Lg, G) P
          exact fX10_tellLaw_J38_ok hf Q P hP (fun x0 x1 x2 x3 => fX10_tellLaw_L12   Q n9 x0 x1 x2 x3) (fun x0 x1 x2 x3 h9 => ih x0 x1 x2 x3 h9) l1 l2 l3 A23 h
def fX10_tellLaw (A : pA) (p1 : Int32) (Q : pA → Prop) : Prop :=
    fX10_must A 5 (fun A24 => ∃ m25, fX10_tellLaw_L12   Q m25 p1 (A24 1198 41) 0 A24)
theorem tX10_tellLaw {Γ : jG} {n : Nat} {K : Nat → pKd} {G : pG} {Lg : pL} (hf : mOK n K G) {A : pA} (p1 : Int32) (Q : pA → Prop) (h : fX10_tellLaw A p1 Q) : jMet Γ yX10_tellLaw cX10_tellLaw 4 none [] 6 0 0 [.ref 1198, .int p1] (n, K, A, Lg, G) (fun o u => ∃ (A' : pA), o = .inl none ∧ u = (n, K, A', Lg, G) ∧ Q A') := by
  unfold fX10_tellLaw at h
  obtain ⟨P, hP⟩ : ∃ P : jO → pS → Prop, P = (fun o u => ∃ (A' : pA), o = .inl none ∧ u = (n, K, A', Lg, G) ∧ Q A') := ⟨_, rfl⟩
  rw [← hP]
  refine jMet_of rfl rfl rfl (Nat.le_of_ble_eq_true rfl) ?_
  show J Γ RX10 cX10_tellLaw 4 none "tellLaw" [] 6 0 0 0 [(0, .ref 1198), (1, .int p1)] [] (n, K, A, Lg, G) P
  refine j_aload_n 0 rfl dX10_tellLaw_0 ?_
  refine j_iconst (v := 5) dX10_tellLaw_1 (by decide) ?_
  refine j_callV (b := 1198) (As := [.int 5]) (st := []) (C := RX10) (kc' := 0) (ks' := 0) (tX10_must hf 5 _ h) myX10_must rfl q1812 q1814 qs68 (by decide) (fun s9 H9 hK9 hR9 h69 => jIs_in hK9 hR9 h69 (m_lt hf (by decide)) (fk_1198 hf) rfl) rfl (Nat.le_of_ble_eq_true rfl) rfl (by decide) (Nat.le_refl 0) (Nat.le_refl 0) dX10_tellLaw_2 (fun v9 u9 hq => ?_) (fun k9 u9 hq => by obtain ⟨_, e9, _⟩ := hq; cases e9)
  obtain ⟨A24, e9, rfl, h⟩ := hq
  obtain rfl := Sum.inl.inj e9
  show J Γ RX10 cX10_tellLaw 4 none "tellLaw" [] 6 0 0 5 [(0, .ref 1198), (1, .int p1)] [] (n, K, A24, Lg, G) P
  refine j_aload_n 0 rfl dX10_tellLaw_5 ?_
  refine j_getfi fl_X10_251_9 rfl (m_lt hf (by decide)) (fk_1198 hf) dX10_tellLaw_6 ?_
  refine j_istore_n (by decide) rfl dX10_tellLaw_9 ?_
  refine j_iconst (v := 0) dX10_tellLaw_10 (by decide) ?_
  refine j_istore_n (by decide) rfl dX10_tellLaw_11 ?_
  refine j_ls [2, 3, 1, 0] rfl ?_
  obtain ⟨m25, h⟩ := h
  exact fX10_tellLaw_L12_ok hf Q P hP   m25 p1 (A24 1198 41) 0 A24 h
theorem myX10_tellPath : jY yX10_tellPath cX10_tellPath 5 none 0 := ⟨q1827, q139, by decide +kernel, by decide +kernel, by decide⟩
def fX10_tellPath_J75 (Lg : pL)  (Q : pA → Prop) (l1 : Int32) (l3 : Int32) (l4 : Int32) (A : pA) : Prop :=
    fX10_must A 4 (fun A1 => (if (A1 1198 13) ≤ 0 then (vp_in (A1 1198 19) 2) ∧ ((vp_in (A1 1198 19) 2) ∧ (∀ A4 : pA, A4 = pup A1 1210 (A1 1198 19).toNatClampNeg ((A1 1210 (A1 1198 19).toNatClampNeg) + 1) → (if l4 = 0 then Q A4 else (vp_in ((7 * (A4 1198 19)) + l1) 14) ∧ ((vp_in ((7 * (A4 1198 19)) + l1) 14) ∧ (∀ A7 : pA, A7 = pup A4 1209 ((7 * (A4 1198 19)) + l1).toNatClampNeg ((A4 1209 ((7 * (A4 1198 19)) + l1).toNatClampNeg) ||| ((1 : Int32) <<< (l3 &&& 31))) → (vp_in ((7 * (A7 1198 19)) + l3) 14) ∧ ((vp_in ((7 * (A7 1198 19)) + l3) 14) ∧ (∀ A10 : pA, A10 = pup A7 1209 ((7 * (A7 1198 19)) + l3).toNatClampNeg ((A7 1209 ((7 * (A7 1198 19)) + l3).toNatClampNeg) ||| ((1 : Int32) <<< (l1 &&& 31))) → Q A10))))))) else Q A1))
theorem fX10_tellPath_J75_ok {Γ : jG} {n : Nat} {K : Nat → pKd} {G : pG} {Lg : pL} (hf : mOK n K G) (Q : pA → Prop) (P : jO → pS → Prop) (hP : P = (fun o u => ∃ (A' : pA), o = .inl none ∧ u = (n, K, A', Lg, G) ∧ Q A'))   (l1 : Int32) (l3 : Int32) (l4 : Int32) (A : pA) (h : fX10_tellPath_J75 Lg  Q l1 l3 l4 A) : J Γ RX10 cX10_tellPath 5 none "tellPath" [] 6 0 0 75 [(0, .ref 1198), (1, .int l1), (3, .int l3), (4, .int l4)] [] (n, K, A, Lg, G) P := by
  unfold fX10_tellPath_J75 at h
  refine j_aload_n 0 rfl dX10_tellPath_75 ?_
  refine j_iconst (v := 4) dX10_tellPath_76 (by decide) ?_
  refine j_callV (b := 1198) (As := [.int 4]) (st := []) (C := RX10) (kc' := 0) (ks' := 0) (tX10_must hf 4 _ h) myX10_must rfl q1812 q1814 qs68 (by decide) (fun s9 H9 hK9 hR9 h69 => jIs_in hK9 hR9 h69 (m_lt hf (by decide)) (fk_1198 hf) rfl) rfl (Nat.le_of_ble_eq_true rfl) rfl (by decide) (Nat.le_refl 0) (Nat.le_refl 0) dX10_tellPath_77 (fun v9 u9 hq => ?_) (fun k9 u9 hq => by obtain ⟨_, e9, _⟩ := hq; cases e9)
  obtain ⟨A1, e9, rfl, h⟩ := hq
  obtain rfl := Sum.inl.inj e9
  show J Γ RX10 cX10_tellPath 5 none "tellPath" [] 6 0 0 80 [(0, .ref 1198), (1, .int l1), (3, .int l3), (4, .int l4)] [] (n, K, A1, Lg, G) P
  refine j_aload_n 0 rfl dX10_tellPath_80 ?_
  refine j_getfi fl_X10_212_9 rfl (m_lt hf (by decide)) (fk_1198 hf) dX10_tellPath_81 ?_
  refine j_if_le (tgt := 88) dX10_tellPath_84 (by decide) (fun c => ?_) (fun c => ?_)
  · rw [if_pos c] at h
    refine j_aload_n 0 rfl dX10_tellPath_88 ?_
    refine j_getfr fl_X10_52_9 rfl (m_lt hf (by decide)) (fk_1198 hf) (fg_1198_25 hf) dX10_tellPath_89 ?_
    refine j_aload_n 0 rfl dX10_tellPath_92 ?_
    refine j_getfi fl_X10_245_9 rfl (m_lt hf (by decide)) (fk_1198 hf) dX10_tellPath_93 ?_
    refine j_dup2 rfl rfl dX10_tellPath_96 ?_
    obtain ⟨b2, h⟩ := h
    refine j_ialdJ (j := (A1 1198 19).toNatClampNeg) (m_lt hf (by decide)) (fk_1210 hf) b2 rfl dX10_tellPath_97 ?_
    refine j_iconst (v := 1) dX10_tellPath_98 (by decide) ?_
    refine j_iadd dX10_tellPath_99 ?_
    obtain ⟨b3, h⟩ := h
    refine j_iastJ (j := (A1 1198 19).toNatClampNeg) (m_lt hf (by decide)) (fk_1210 hf) b3 rfl dX10_tellPath_100 (fun A4 eA4 => ?_)
    replace h := h A4 eA4
    refine j_iload 3 rfl dX10_tellPath_101 ?_
    refine j_if_ne (tgt := 107) dX10_tellPath_103 (by decide) (fun c => ?_) (fun c => ?_)
    · rw [if_neg c] at h
      refine j_aload_n 0 rfl dX10_tellPath_107 ?_
      refine j_getfr fl_X10_49_9 rfl (m_lt hf (by decide)) (fk_1198 hf) (fg_1198_24 hf) dX10_tellPath_108 ?_
      refine j_bipush (v := 7) dX10_tellPath_111 (by decide) ?_
      refine j_aload_n 0 rfl dX10_tellPath_113 ?_
      refine j_getfi fl_X10_245_9 rfl (m_lt hf (by decide)) (fk_1198 hf) dX10_tellPath_114 ?_
      refine j_imul dX10_tellPath_117 ?_
      refine j_iload_n 1 rfl dX10_tellPath_118 ?_
      refine j_iadd dX10_tellPath_119 ?_
      refine j_dup2 rfl rfl dX10_tellPath_120 ?_
      obtain ⟨b5, h⟩ := h
      refine j_ialdJ (j := ((7 * (A4 1198 19)) + l1).toNatClampNeg) (m_lt hf (by decide)) (fk_1209 hf) b5 rfl dX10_tellPath_121 ?_
      refine j_iconst (v := 1) dX10_tellPath_122 (by decide) ?_
      refine j_iload_n 2 rfl dX10_tellPath_123 ?_
      refine j_ishl dX10_tellPath_124 ?_
      refine j_ior dX10_tellPath_125 ?_
      obtain ⟨b6, h⟩ := h
      refine j_iastJ (j := ((7 * (A4 1198 19)) + l1).toNatClampNeg) (m_lt hf (by decide)) (fk_1209 hf) b6 rfl dX10_tellPath_126 (fun A7 eA7 => ?_)
      replace h := h A7 eA7
      refine j_aload_n 0 rfl dX10_tellPath_127 ?_
      refine j_getfr fl_X10_49_9 rfl (m_lt hf (by decide)) (fk_1198 hf) (fg_1198_24 hf) dX10_tellPath_128 ?_
      refine j_bipush (v := 7) dX10_tellPath_131 (by decide) ?_
      refine j_aload_n 0 rfl dX10_tellPath_133 ?_
      refine j_getfi fl_X10_245_9 rfl (m_lt hf (by decide)) (fk_1198 hf) dX10_tellPath_134 ?_
      refine j_imul dX10_tellPath_137 ?_
      refine j_iload_n 2 rfl dX10_tellPath_138 ?_
      refine j_iadd dX10_tellPath_139 ?_
      refine j_dup2 rfl rfl dX10_tellPath_140 ?_
      obtain ⟨b8, h⟩ := h
      refine j_ialdJ (j := ((7 * (A7 1198 19)) + l3).toNatClampNeg) (m_lt hf (by decide)) (fk_1209 hf) b8 rfl dX10_tellPath_141 ?_
      refine j_iconst (v := 1) dX10_tellPath_142 (by decide) ?_
      refine j_iload_n 1 rfl dX10_tellPath_143 ?_
      refine j_ishl dX10_tellPath_144 ?_
      refine j_ior dX10_tellPath_145 ?_
      obtain ⟨b9, h⟩ := h
      refine j_iastJ (j := ((7 * (A7 1198 19)) + l3).toNatClampNeg) (m_lt hf (by decide)) (fk_1209 hf) b9 rfl dX10_tellPath_146 (fun A10 eA10 => ?_)
      replace h := h A10 eA10
      refine j_vret rfl ?_ dX10_tellPath_147
      rw [hP]
      exact ⟨A10, rfl, rfl, h⟩
    · rw [if_pos c] at h
      refine j_vret rfl ?_ dX10_tellPath_106
      rw [hP]
      exact ⟨A4, rfl, rfl, h⟩
  · rw [if_neg c] at h
    refine j_vret rfl ?_ dX10_tellPath_87
    rw [hP]
    exact ⟨A1, rfl, rfl, h⟩
def fX10_tellPath_J69 (Lg : pL)  (Q : pA → Prop) (l1 : Int32) (l2 : Int32) (l3 : Int32) (l4 : Int32) (A : pA) : Prop :=
    fX10_wrong A 3 l2 (fun A11 => fX10_tellPath_J75 Lg  Q l1 l3 l4 A11)
theorem fX10_tellPath_J69_ok {Γ : jG} {n : Nat} {K : Nat → pKd} {G : pG} {Lg : pL} (hf : mOK n K G) (Q : pA → Prop) (P : jO → pS → Prop) (hP : P = (fun o u => ∃ (A' : pA), o = .inl none ∧ u = (n, K, A', Lg, G) ∧ Q A'))   (l1 : Int32) (l2 : Int32) (l3 : Int32) (l4 : Int32) (A : pA) (h : fX10_tellPath_J69 Lg  Q l1 l2 l3 l4 A) : J Γ RX10 cX10_tellPath 5 none "tellPath" [] 6 0 0 69 [(0, .ref 1198), (1, .int l1), (2, .int l2), (3, .int l3), (4, .int l4)] [] (n, K, A, Lg, G) P := by
  unfold fX10_tellPath_J69 at h
  refine j_aload_n 0 rfl dX10_tellPath_69 ?_
  refine j_iconst (v := 3) dX10_tellPath_70 (by decide) ?_
  refine j_iload_n 2 rfl dX10_tellPath_71 ?_
  refine j_callV (b := 1198) (As := [.int 3, .int l2]) (st := []) (C := RX10) (kc' := 0) (ks' := 0) (tX10_wrong hf 3 l2 _ h) myX10_wrong rfl q1816 q1818 qs69 (by decide) (fun s9 H9 hK9 hR9 h69 => jIs_in hK9 hR9 h69 (m_lt hf (by decide)) (fk_1198 hf) rfl) rfl (Nat.le_of_ble_eq_true rfl) rfl (by decide) (Nat.le_refl 0) (Nat.le_refl 0) dX10_tellPath_72 (fun v9 u9 hq => ?_) (fun k9 u9 hq => by obtain ⟨_, e9, _⟩ := hq; cases e9)
  obtain ⟨A11, e9, rfl, h⟩ := hq
  obtain rfl := Sum.inl.inj e9
  show J Γ RX10 cX10_tellPath 5 none "tellPath" [] 6 0 0 75 [(0, .ref 1198), (1, .int l1), (2, .int l2), (3, .int l3), (4, .int l4)] [] (n, K, A11, Lg, G) P
  refine j_ls [0, 1, 3, 4] rfl ?_
  exact fX10_tellPath_J75_ok hf Q P hP   l1 l3 l4 A11 h
def fX10_tellPath_J35 (Lg : pL)  (Q : pA → Prop) (l1 : Int32) (l2 : Int32) (l3 : Int32) (s0 : Int32) (A : pA) : Prop :=
    (if s0 = 0 then fX10_tellPath_J75 Lg  Q l1 l3 s0 A else (if l1 = l3 then fX10_tellPath_J69 Lg  Q l1 l2 l3 s0 A else (vp_in ((7 * (A 1198 19)) + l1) 14) ∧ ((if (((A 1209 ((7 * (A 1198 19)) + l1).toNatClampNeg) >>> (l3 &&& 31)) &&& 1) = 1 then fX10_tellPath_J69 Lg  Q l1 l2 l3 s0 A else fX10_tellPath_J75 Lg  Q l1 l3 s0 A))))
theorem fX10_tellPath_J35_ok {Γ : jG} {n : Nat} {K : Nat → pKd} {G : pG} {Lg : pL} (hf : mOK n K G) (Q : pA → Prop) (P : jO → pS → Prop) (hP : P = (fun o u => ∃ (A' : pA), o = .inl none ∧ u = (n, K, A', Lg, G) ∧ Q A'))   (l1 : Int32) (l2 : Int32) (l3 : Int32) (s0 : Int32) (A : pA) (h : fX10_tellPath_J35 Lg  Q l1 l2 l3 s0 A) : J Γ RX10 cX10_tellPath 5 none "tellPath" [] 6 0 0 35 [(0, .ref 1198), (1, .int l1), (2, .int l2), (3, .int l3)] [.int s0] (n, K, A, Lg, G) P := by
  unfold fX10_tellPath_J35 at h
  refine j_istore (by decide) rfl dX10_tellPath_35 ?_
  refine j_iload 0 rfl dX10_tellPath_37 ?_
  refine j_if_eq (tgt := 75) dX10_tellPath_39 (by decide) (fun c => ?_) (fun c => ?_)
  · rw [if_pos c] at h
    refine j_ls [1, 2, 4, 0] rfl ?_
    exact fX10_tellPath_J75_ok hf Q P hP   l1 l3 s0 A h
  · rw [if_neg c] at h
    refine j_iload_n 2 rfl dX10_tellPath_42 ?_
    refine j_iload_n 4 rfl dX10_tellPath_43 ?_
    refine j_icmp_eq (tgt := 69) dX10_tellPath_44 (by decide) (fun c => ?_) (fun c => ?_)
    · rw [if_pos c] at h
      refine j_ls [1, 2, 3, 4, 0] rfl ?_
      exact fX10_tellPath_J69_ok hf Q P hP   l1 l2 l3 s0 A h
    · rw [if_neg c] at h
      refine j_aload_n 1 rfl dX10_tellPath_47 ?_
      refine j_getfr fl_X10_49_9 rfl (m_lt hf (by decide)) (fk_1198 hf) (fg_1198_24 hf) dX10_tellPath_48 ?_
      refine j_bipush (v := 7) dX10_tellPath_51 (by decide) ?_
      refine j_aload_n 1 rfl dX10_tellPath_53 ?_
      refine j_getfi fl_X10_245_9 rfl (m_lt hf (by decide)) (fk_1198 hf) dX10_tellPath_54 ?_
      refine j_imul dX10_tellPath_57 ?_
      refine j_iload_n 2 rfl dX10_tellPath_58 ?_
      refine j_iadd dX10_tellPath_59 ?_
      obtain ⟨b12, h⟩ := h
      refine j_ialdJ (j := ((7 * (A 1198 19)) + l1).toNatClampNeg) (m_lt hf (by decide)) (fk_1209 hf) b12 rfl dX10_tellPath_60 ?_
      refine j_iload_n 4 rfl dX10_tellPath_61 ?_
      refine j_ishr dX10_tellPath_62 ?_
      refine j_iconst (v := 1) dX10_tellPath_63 (by decide) ?_
      refine j_iand dX10_tellPath_64 ?_
      refine j_iconst (v := 1) dX10_tellPath_65 (by decide) ?_
      refine j_icmp_ne (tgt := 75) dX10_tellPath_66 (by decide) (fun c => ?_) (fun c => ?_)
      · rw [if_neg c] at h
        refine j_ls [1, 2, 4, 0] rfl ?_
        exact fX10_tellPath_J75_ok hf Q P hP   l1 l3 s0 A h
      · rw [if_pos c] at h
        refine j_ls [1, 2, 3, 4, 0] rfl ?_
        exact fX10_tellPath_J69_ok hf Q P hP   l1 l2 l3 s0 A h
def fX10_tellPath_J34 (Lg : pL)  (Q : pA → Prop) (l1 : Int32) (l2 : Int32) (l3 : Int32) (A : pA) : Prop :=
    fX10_tellPath_J35 Lg  Q l1 l2 l3 0 A
theorem fX10_tellPath_J34_ok {Γ : jG} {n : Nat} {K : Nat → pKd} {G : pG} {Lg : pL} (hf : mOK n K G) (Q : pA → Prop) (P : jO → pS → Prop) (hP : P = (fun o u => ∃ (A' : pA), o = .inl none ∧ u = (n, K, A', Lg, G) ∧ Q A'))   (l1 : Int32) (l2 : Int32) (l3 : Int32) (A : pA) (h : fX10_tellPath_J34 Lg  Q l1 l2 l3 A) : J Γ RX10 cX10_tellPath 5 none "tellPath" [] 6 0 0 34 [(0, .ref 1198), (1, .int l1), (2, .int l2), (3, .int l3)] [] (n, K, A, Lg, G) P := by
  unfold fX10_tellPath_J34 at h
  refine j_iconst (v := 0) dX10_tellPath_34 (by decide) ?_
  exact fX10_tellPath_J35_ok hf Q P hP   l1 l2 l3 0 A h
def fX10_tellPath (A : pA) (Lg : pL) (Q : pA → Prop) : Prop :=
    fX10_knownPlace A Lg (fun r13 A14 => fX10_knownPlace A14 Lg (fun r15 A16 => (if (A16 1198 13) = 0 then (if r13 < 0 then fX10_tellPath_J34 Lg  Q r13 (A14 1198 11) r15 A16 else (if r15 < 0 then fX10_tellPath_J34 Lg  Q r13 (A14 1198 11) r15 A16 else fX10_tellPath_J35 Lg  Q r13 (A14 1198 11) r15 1 A16)) else fX10_tellPath_J34 Lg  Q r13 (A14 1198 11) r15 A16)))
theorem tX10_tellPath {Γ : jG} {n : Nat} {K : Nat → pKd} {G : pG} (hf : mOK n K G) {A : pA} {Lg : pL}  (Q : pA → Prop) (h : fX10_tellPath A Lg Q) : jMet Γ yX10_tellPath cX10_tellPath 5 none [] 6 0 0 [.ref 1198] (n, K, A, Lg, G) (fun o u => ∃ (A' : pA), o = .inl none ∧ u = (n, K, A', Lg, G) ∧ Q A') := by
  unfold fX10_tellPath at h
  obtain ⟨P, hP⟩ : ∃ P : jO → pS → Prop, P = (fun o u => ∃ (A' : pA), o = .inl none ∧ u = (n, K, A', Lg, G) ∧ Q A') := ⟨_, rfl⟩
  rw [← hP]
  refine jMet_of rfl rfl rfl (Nat.le_of_ble_eq_true rfl) ?_
  show J Γ RX10 cX10_tellPath 5 none "tellPath" [] 6 0 0 0 [(0, .ref 1198)] [] (n, K, A, Lg, G) P
  refine j_aload_n 0 rfl dX10_tellPath_0 ?_
  refine j_callV (b := 1198) (As := []) (st := []) (C := RX10) (kc' := 0) (ks' := 0) (tX10_knownPlace hf  _ h) myX10_knownPlace rfl q1828 q1830 qs72 (by decide) (fun s9 H9 hK9 hR9 h69 => jIs_in hK9 hR9 h69 (m_lt hf (by decide)) (fk_1198 hf) rfl) rfl (Nat.le_of_ble_eq_true rfl) rfl (by decide) (Nat.le_refl 0) (Nat.le_refl 0) dX10_tellPath_1 (fun v9 u9 hq => ?_) (fun k9 u9 hq => by obtain ⟨_, _, e9, _⟩ := hq; cases e9)
  obtain ⟨r13, A14, e9, rfl, h⟩ := hq
  obtain rfl := Sum.inl.inj e9
  show J Γ RX10 cX10_tellPath 5 none "tellPath" [] 6 0 0 4 [(0, .ref 1198)] [.int r13] (n, K, A14, Lg, G) P
  refine j_istore_n (by decide) rfl dX10_tellPath_4 ?_
  refine j_aload_n 1 rfl dX10_tellPath_5 ?_
  refine j_getfi fl_X10_215_9 rfl (m_lt hf (by decide)) (fk_1198 hf) dX10_tellPath_6 ?_
  refine j_istore_n (by decide) rfl dX10_tellPath_9 ?_
  refine j_aload_n 2 rfl dX10_tellPath_10 ?_
  refine j_callV (b := 1198) (As := []) (st := []) (C := RX10) (kc' := 0) (ks' := 0) (tX10_knownPlace hf  _ h) myX10_knownPlace rfl q1828 q1830 qs72 (by decide) (fun s9 H9 hK9 hR9 h69 => jIs_in hK9 hR9 h69 (m_lt hf (by decide)) (fk_1198 hf) rfl) rfl (Nat.le_of_ble_eq_true rfl) rfl (by decide) (Nat.le_refl 0) (Nat.le_refl 0) dX10_tellPath_11 (fun v9 u9 hq => ?_) (fun k9 u9 hq => by obtain ⟨_, _, e9, _⟩ := hq; cases e9)
  obtain ⟨r15, A16, e9, rfl, h⟩ := hq
  obtain rfl := Sum.inl.inj e9
  show J Γ RX10 cX10_tellPath 5 none "tellPath" [] 6 0 0 14 [(2, .int (A14 1198 11)), (1, .int r13), (0, .ref 1198)] [.int r15] (n, K, A16, Lg, G) P
  refine j_istore_n (by decide) rfl dX10_tellPath_14 ?_
  refine j_aload_n 3 rfl dX10_tellPath_15 ?_
  refine j_getfi fl_X10_212_9 rfl (m_lt hf (by decide)) (fk_1198 hf) dX10_tellPath_16 ?_
  refine j_if_ne (tgt := 34) dX10_tellPath_19 (by decide) (fun c => ?_) (fun c => ?_)
  · rw [if_neg c] at h
    refine j_ls [3, 2, 1, 0] rfl ?_
    exact fX10_tellPath_J34_ok hf Q P hP   r13 (A14 1198 11) r15 A16 h
  · rw [if_pos c] at h
    refine j_iload_n 2 rfl dX10_tellPath_22 ?_
    refine j_if_lt (tgt := 34) dX10_tellPath_23 (by decide) (fun c => ?_) (fun c => ?_)
    · rw [if_pos c] at h
      refine j_ls [3, 2, 1, 0] rfl ?_
      exact fX10_tellPath_J34_ok hf Q P hP   r13 (A14 1198 11) r15 A16 h
    · rw [if_neg c] at h
      refine j_iload_n 0 rfl dX10_tellPath_26 ?_
      refine j_if_lt (tgt := 34) dX10_tellPath_27 (by decide) (fun c => ?_) (fun c => ?_)
      · rw [if_pos c] at h
        refine j_ls [3, 2, 1, 0] rfl ?_
        exact fX10_tellPath_J34_ok hf Q P hP   r13 (A14 1198 11) r15 A16 h
      · rw [if_neg c] at h
        refine j_iconst (v := 1) dX10_tellPath_30 (by decide) ?_
        refine j_goto (tgt := 35) dX10_tellPath_31 (by decide) ?_
        refine j_ls [3, 2, 1, 0] rfl ?_
        exact fX10_tellPath_J35_ok hf Q P hP   r13 (A14 1198 11) r15 1 A16 h
theorem myX10_tellPerson : jY yX10_tellPerson cX10_tellPerson 3 none 0 := ⟨q1847, q139, by decide +kernel, by decide +kernel, by decide⟩
def fX10_tellPerson (A : pA) (Lg : pL) (Q : pA → pL → Prop) : Prop :=
    (vp_in (A 1198 19) 2) ∧ (fX10_named A Lg (fun r2 A3 => fX10_knownPlace A3 Lg (fun r4 A5 => (vp_in ((4 * (A 1198 19)) + (A 1215 (A 1198 19).toNatClampNeg)) 8) ∧ (∀ A7 : pA, A7 = pup A5 1216 ((4 * (A 1198 19)) + (A 1215 (A 1198 19).toNatClampNeg)).toNatClampNeg r4 → fX10_bounded A7 0 99 (fun r8 A9 => (vp_in ((4 * (A 1198 19)) + (A 1215 (A 1198 19).toNatClampNeg)) 8) ∧ (∀ A11 : pA, A11 = pup A9 1217 ((4 * (A 1198 19)) + (A 1215 (A 1198 19).toNatClampNeg)).toNatClampNeg r8 → (vp_in (A11 1198 19) 2) ∧ (fX10_ends A11 Lg r2 (10 + (A11 1215 (A11 1198 19).toNatClampNeg)) (fun A13 Lg14 => (if (A13 1198 13) = 0 then (vp_in (A13 1198 19) 2) ∧ ((vp_in (A13 1198 19) 2) ∧ (∀ A17 : pA, A17 = pup A13 1215 (A13 1198 19).toNatClampNeg ((A13 1215 (A13 1198 19).toNatClampNeg) + 1) → Q A17 Lg14)) else Q A13 Lg14)))))))))
theorem tX10_tellPerson {Γ : jG} {n : Nat} {K : Nat → pKd} {G : pG} (hf : mOK n K G) {A : pA} {Lg : pL}  (Q : pA → pL → Prop) (h : fX10_tellPerson A Lg Q) : jMet Γ yX10_tellPerson cX10_tellPerson 3 none [] 6 0 0 [.ref 1198] (n, K, A, Lg, G) (fun o u => ∃ (A' : pA) (Lg' : pL), o = .inl none ∧ u = (n, K, A', Lg', G) ∧ Q A' Lg') := by
  unfold fX10_tellPerson at h
  obtain ⟨P, hP⟩ : ∃ P : jO → pS → Prop, P = (fun o u => ∃ (A' : pA) (Lg' : pL), o = .inl none ∧ u = (n, K, A', Lg', G) ∧ Q A' Lg') := ⟨_, rfl⟩
  rw [← hP]
  refine jMet_of rfl rfl rfl (Nat.le_of_ble_eq_true rfl) ?_
  show J Γ RX10 cX10_tellPerson 3 none "tellPerson" [] 6 0 0 0 [(0, .ref 1198)] [] (n, K, A, Lg, G) P
  refine j_iconst (v := 4) dX10_tellPerson_0 (by decide) ?_
  refine j_aload_n 0 rfl dX10_tellPerson_1 ?_
  refine j_getfi fl_X10_245_9 rfl (m_lt hf (by decide)) (fk_1198 hf) dX10_tellPerson_2 ?_
  refine j_imul dX10_tellPerson_5 ?_
  refine j_aload_n 0 rfl dX10_tellPerson_6 ?_
  refine j_getfr fl_X10_67_9 rfl (m_lt hf (by decide)) (fk_1198 hf) (fg_1198_30 hf) dX10_tellPerson_7 ?_
  refine j_aload_n 0 rfl dX10_tellPerson_10 ?_
  refine j_getfi fl_X10_245_9 rfl (m_lt hf (by decide)) (fk_1198 hf) dX10_tellPerson_11 ?_
  obtain ⟨b1, h⟩ := h
  refine j_ialdJ (j := (A 1198 19).toNatClampNeg) (m_lt hf (by decide)) (fk_1215 hf) b1 rfl dX10_tellPerson_14 ?_
  refine j_iadd dX10_tellPerson_15 ?_
  refine j_istore_n (by decide) rfl dX10_tellPerson_16 ?_
  refine j_aload_n 1 rfl dX10_tellPerson_17 ?_
  refine j_callV (b := 1198) (As := []) (st := []) (C := RX10) (kc' := 0) (ks' := 0) (tX10_named hf  _ h) myX10_named rfl q1808 q1810 qs67 (by decide) (fun s9 H9 hK9 hR9 h69 => jIs_in hK9 hR9 h69 (m_lt hf (by decide)) (fk_1198 hf) rfl) rfl (Nat.le_of_ble_eq_true rfl) rfl (by decide) (Nat.le_refl 0) (Nat.le_refl 0) dX10_tellPerson_18 (fun v9 u9 hq => ?_) (fun k9 u9 hq => by obtain ⟨_, _, e9, _⟩ := hq; cases e9)
  obtain ⟨r2, A3, e9, rfl, h⟩ := hq
  obtain rfl := Sum.inl.inj e9
  show J Γ RX10 cX10_tellPerson 3 none "tellPerson" [] 6 0 0 21 [(1, .int ((4 * (A 1198 19)) + (A 1215 (A 1198 19).toNatClampNeg))), (0, .ref 1198)] [.int r2] (n, K, A3, Lg, G) P
  refine j_istore_n (by decide) rfl dX10_tellPerson_21 ?_
  refine j_aload_n 2 rfl dX10_tellPerson_22 ?_
  refine j_getfr fl_X10_70_9 rfl (m_lt hf (by decide)) (fk_1198 hf) (fg_1198_31 hf) dX10_tellPerson_23 ?_
  refine j_iload_n 1 rfl dX10_tellPerson_26 ?_
  refine j_aload_n 2 rfl dX10_tellPerson_27 ?_
  refine j_callV (b := 1198) (As := []) (st := [.int ((4 * (A 1198 19)) + (A 1215 (A 1198 19).toNatClampNeg)), .ref 1216]) (C := RX10) (kc' := 0) (ks' := 0) (tX10_knownPlace hf  _ h) myX10_knownPlace rfl q1828 q1830 qs72 (by decide) (fun s9 H9 hK9 hR9 h69 => jIs_in hK9 hR9 h69 (m_lt hf (by decide)) (fk_1198 hf) rfl) rfl (Nat.le_of_ble_eq_true rfl) rfl (by decide) (Nat.le_refl 0) (Nat.le_refl 0) dX10_tellPerson_28 (fun v9 u9 hq => ?_) (fun k9 u9 hq => by obtain ⟨_, _, e9, _⟩ := hq; cases e9)
  obtain ⟨r4, A5, e9, rfl, h⟩ := hq
  obtain rfl := Sum.inl.inj e9
  show J Γ RX10 cX10_tellPerson 3 none "tellPerson" [] 6 0 0 31 [(2, .int r2), (1, .int ((4 * (A 1198 19)) + (A 1215 (A 1198 19).toNatClampNeg))), (0, .ref 1198)] [.int r4, .int ((4 * (A 1198 19)) + (A 1215 (A 1198 19).toNatClampNeg)), .ref 1216] (n, K, A5, Lg, G) P
  obtain ⟨b6, h⟩ := h
  refine j_iastJ (j := ((4 * (A 1198 19)) + (A 1215 (A 1198 19).toNatClampNeg)).toNatClampNeg) (m_lt hf (by decide)) (fk_1216 hf) b6 rfl dX10_tellPerson_31 (fun A7 eA7 => ?_)
  replace h := h A7 eA7
  refine j_aload_n 2 rfl dX10_tellPerson_32 ?_
  refine j_getfr fl_X10_73_9 rfl (m_lt hf (by decide)) (fk_1198 hf) (fg_1198_32 hf) dX10_tellPerson_33 ?_
  refine j_iload_n 1 rfl dX10_tellPerson_36 ?_
  refine j_aload_n 2 rfl dX10_tellPerson_37 ?_
  refine j_iconst (v := 0) dX10_tellPerson_38 (by decide) ?_
  refine j_bipush (v := 99) dX10_tellPerson_39 (by decide) ?_
  refine j_callV (b := 1198) (As := [.int 0, .int 99]) (st := [.int ((4 * (A 1198 19)) + (A 1215 (A 1198 19).toNatClampNeg)), .ref 1217]) (C := RX10) (kc' := 0) (ks' := 0) (tX10_bounded hf 0 99 _ h) myX10_bounded rfl q1840 q1842 qs75 (by decide) (fun s9 H9 hK9 hR9 h69 => jIs_in hK9 hR9 h69 (m_lt hf (by decide)) (fk_1198 hf) rfl) rfl (Nat.le_of_ble_eq_true rfl) rfl (by decide) (Nat.le_refl 0) (Nat.le_refl 0) dX10_tellPerson_41 (fun v9 u9 hq => ?_) (fun k9 u9 hq => by obtain ⟨_, _, e9, _⟩ := hq; cases e9)
  obtain ⟨r8, A9, e9, rfl, h⟩ := hq
  obtain rfl := Sum.inl.inj e9
  show J Γ RX10 cX10_tellPerson 3 none "tellPerson" [] 6 0 0 44 [(2, .int r2), (1, .int ((4 * (A 1198 19)) + (A 1215 (A 1198 19).toNatClampNeg))), (0, .ref 1198)] [.int r8, .int ((4 * (A 1198 19)) + (A 1215 (A 1198 19).toNatClampNeg)), .ref 1217] (n, K, A9, Lg, G) P
  obtain ⟨b10, h⟩ := h
  refine j_iastJ (j := ((4 * (A 1198 19)) + (A 1215 (A 1198 19).toNatClampNeg)).toNatClampNeg) (m_lt hf (by decide)) (fk_1217 hf) b10 rfl dX10_tellPerson_44 (fun A11 eA11 => ?_)
  replace h := h A11 eA11
  refine j_aload_n 2 rfl dX10_tellPerson_45 ?_
  refine j_iload_n 0 rfl dX10_tellPerson_46 ?_
  refine j_bipush (v := 10) dX10_tellPerson_47 (by decide) ?_
  refine j_aload_n 2 rfl dX10_tellPerson_49 ?_
  refine j_getfr fl_X10_67_9 rfl (m_lt hf (by decide)) (fk_1198 hf) (fg_1198_30 hf) dX10_tellPerson_50 ?_
  refine j_aload_n 2 rfl dX10_tellPerson_53 ?_
  refine j_getfi fl_X10_245_9 rfl (m_lt hf (by decide)) (fk_1198 hf) dX10_tellPerson_54 ?_
  obtain ⟨b12, h⟩ := h
  refine j_ialdJ (j := (A11 1198 19).toNatClampNeg) (m_lt hf (by decide)) (fk_1215 hf) b12 rfl dX10_tellPerson_57 ?_
  refine j_iadd dX10_tellPerson_58 ?_
  refine j_callV (b := 1198) (As := [.int r2, .int (10 + (A11 1215 (A11 1198 19).toNatClampNeg))]) (st := []) (C := RX10) (kc' := 0) (ks' := 0) (tX10_ends hf r2 (10 + (A11 1215 (A11 1198 19).toNatClampNeg)) _ h) myX10_ends rfl q1820 q1822 qs70 (by decide) (fun s9 H9 hK9 hR9 h69 => jIs_in hK9 hR9 h69 (m_lt hf (by decide)) (fk_1198 hf) rfl) rfl (Nat.le_of_ble_eq_true rfl) rfl (by decide) (Nat.le_refl 0) (Nat.le_refl 0) dX10_tellPerson_59 (fun v9 u9 hq => ?_) (fun k9 u9 hq => by obtain ⟨_, _, e9, _⟩ := hq; cases e9)
  obtain ⟨A13, Lg14, e9, rfl, h⟩ := hq
  obtain rfl := Sum.inl.inj e9
  show J Γ RX10 cX10_tellPerson 3 none "tellPerson" [] 6 0 0 62 [(2, .int r2), (1, .int ((4 * (A 1198 19)) + (A 1215 (A 1198 19).toNatClampNeg))), (0, .ref 1198)] [] (n, K, A13, Lg14, G) P
  refine j_aload_n 2 rfl dX10_tellPerson_62 ?_
  refine j_getfi fl_X10_212_9 rfl (m_lt hf (by decide)) (fk_1198 hf) dX10_tellPerson_63 ?_
  refine j_if_ne (tgt := 82) dX10_tellPerson_66 (by decide) (fun c => ?_) (fun c => ?_)
  · rw [if_neg c] at h
    refine j_vret rfl ?_ dX10_tellPerson_82
    rw [hP]
    exact ⟨A13, Lg14, rfl, rfl, h⟩
  · rw [if_pos c] at h
    refine j_aload_n 2 rfl dX10_tellPerson_69 ?_
    refine j_getfr fl_X10_67_9 rfl (m_lt hf (by decide)) (fk_1198 hf) (fg_1198_30 hf) dX10_tellPerson_70 ?_
    refine j_aload_n 2 rfl dX10_tellPerson_73 ?_
    refine j_getfi fl_X10_245_9 rfl (m_lt hf (by decide)) (fk_1198 hf) dX10_tellPerson_74 ?_
    refine j_dup2 rfl rfl dX10_tellPerson_77 ?_
    obtain ⟨b15, h⟩ := h
    refine j_ialdJ (j := (A13 1198 19).toNatClampNeg) (m_lt hf (by decide)) (fk_1215 hf) b15 rfl dX10_tellPerson_78 ?_
    refine j_iconst (v := 1) dX10_tellPerson_79 (by decide) ?_
    refine j_iadd dX10_tellPerson_80 ?_
    obtain ⟨b16, h⟩ := h
    refine j_iastJ (j := (A13 1198 19).toNatClampNeg) (m_lt hf (by decide)) (fk_1215 hf) b16 rfl dX10_tellPerson_81 (fun A17 eA17 => ?_)
    replace h := h A17 eA17
    refine j_vret rfl ?_ dX10_tellPerson_82
    rw [hP]
    exact ⟨A17, Lg14, rfl, rfl, h⟩
theorem myX10_tellOne : jY yX10_tellOne cX10_tellOne 2 none 0 := ⟨q1795, q139, by decide +kernel, by decide +kernel, by decide⟩
def fX10_tellOne_J322   (Q : pA → pL → Prop) (A : pA) (Lg : pL) : Prop :=
    fX10_must A 4 (fun A1 => Q A1 Lg)
theorem fX10_tellOne_J322_ok {Γ : jG} {n : Nat} {K : Nat → pKd} {G : pG} (hf : mOK n K G) (Q : pA → pL → Prop) (P : jO → pS → Prop) (hP : P = (fun o u => ∃ (A' : pA) (Lg' : pL), o = .inl none ∧ u = (n, K, A', Lg', G) ∧ Q A' Lg'))   (A : pA) (Lg : pL) (h : fX10_tellOne_J322   Q A Lg) : J Γ RX10 cX10_tellOne 2 none "tellOne" [] 7 0 0 322 [(0, .ref 1198)] [] (n, K, A, Lg, G) P := by
  unfold fX10_tellOne_J322 at h
  refine j_aload_n 0 rfl dX10_tellOne_322 ?_
  refine j_iconst (v := 4) dX10_tellOne_323 (by decide) ?_
  refine j_callV (b := 1198) (As := [.int 4]) (st := []) (C := RX10) (kc' := 0) (ks' := 0) (tX10_must hf 4 _ h) myX10_must rfl q1812 q1814 qs68 (by decide) (fun s9 H9 hK9 hR9 h69 => jIs_in hK9 hR9 h69 (m_lt hf (by decide)) (fk_1198 hf) rfl) rfl (Nat.le_of_ble_eq_true rfl) rfl (by decide) (Nat.le_refl 0) (Nat.le_refl 0) dX10_tellOne_324 (fun v9 u9 hq => ?_) (fun k9 u9 hq => by obtain ⟨_, e9, _⟩ := hq; cases e9)
  obtain ⟨A1, e9, rfl, h⟩ := hq
  obtain rfl := Sum.inl.inj e9
  show J Γ RX10 cX10_tellOne 2 none "tellOne" [] 7 0 0 327 [(0, .ref 1198)] [] (n, K, A1, Lg, G) P
  refine j_goto (tgt := 412) dX10_tellOne_327 (by decide) ?_
  refine j_vret rfl ?_ dX10_tellOne_412
  rw [hP]
  exact ⟨A1, Lg, rfl, rfl, h⟩
def fX10_tellOne_J395   (Q : pA → pL → Prop) (l1 : Int32) (A : pA) (Lg : pL) : Prop :=
    (if (A 1198 13) ≤ 0 then fX10_goesOn A (fun A2 => fX10_tellLaw A2 l1 (fun A3 => Q A3 Lg)) else Q A Lg)
theorem fX10_tellOne_J395_ok {Γ : jG} {n : Nat} {K : Nat → pKd} {G : pG} (hf : mOK n K G) (Q : pA → pL → Prop) (P : jO → pS → Prop) (hP : P = (fun o u => ∃ (A' : pA) (Lg' : pL), o = .inl none ∧ u = (n, K, A', Lg', G) ∧ Q A' Lg'))   (l1 : Int32) (A : pA) (Lg : pL) (h : fX10_tellOne_J395   Q l1 A Lg) : J Γ RX10 cX10_tellOne 2 none "tellOne" [] 7 0 0 395 [(0, .ref 1198), (1, .int l1)] [] (n, K, A, Lg, G) P := by
  unfold fX10_tellOne_J395 at h
  refine j_aload_n 0 rfl dX10_tellOne_395 ?_
  refine j_getfi fl_X10_212_9 rfl (m_lt hf (by decide)) (fk_1198 hf) dX10_tellOne_396 ?_
  refine j_if_le (tgt := 403) dX10_tellOne_399 (by decide) (fun c => ?_) (fun c => ?_)
  · rw [if_pos c] at h
    refine j_aload_n 0 rfl dX10_tellOne_403 ?_
    refine j_callV (b := 1198) (As := []) (st := []) (C := RX10) (kc' := 0) (ks' := 0) (tX10_goesOn hf  _ h) myX10_goesOn rfl q1804 q1806 qs66 (by decide) (fun s9 H9 hK9 hR9 h69 => jIs_in hK9 hR9 h69 (m_lt hf (by decide)) (fk_1198 hf) rfl) rfl (Nat.le_of_ble_eq_true rfl) rfl (by decide) (Nat.le_refl 0) (Nat.le_refl 0) dX10_tellOne_404 (fun v9 u9 hq => ?_) (fun k9 u9 hq => by obtain ⟨_, e9, _⟩ := hq; cases e9)
    obtain ⟨A2, e9, rfl, h⟩ := hq
    obtain rfl := Sum.inl.inj e9
    show J Γ RX10 cX10_tellOne 2 none "tellOne" [] 7 0 0 407 [(0, .ref 1198), (1, .int l1)] [] (n, K, A2, Lg, G) P
    refine j_aload_n 0 rfl dX10_tellOne_407 ?_
    refine j_iload_n 1 rfl dX10_tellOne_408 ?_
    refine j_callV (b := 1198) (As := [.int l1]) (st := []) (C := RX10) (kc' := 0) (ks' := 0) (tX10_tellLaw hf l1 _ h) myX10_tellLaw rfl q1852 q1854 qs78 (by decide) (fun s9 H9 hK9 hR9 h69 => jIs_in hK9 hR9 h69 (m_lt hf (by decide)) (fk_1198 hf) rfl) rfl (Nat.le_of_ble_eq_true rfl) rfl (by decide) (Nat.le_refl 0) (Nat.le_refl 0) dX10_tellOne_409 (fun v9 u9 hq => ?_) (fun k9 u9 hq => by obtain ⟨_, e9, _⟩ := hq; cases e9)
    obtain ⟨A3, e9, rfl, h⟩ := hq
    obtain rfl := Sum.inl.inj e9
    show J Γ RX10 cX10_tellOne 2 none "tellOne" [] 7 0 0 412 [(0, .ref 1198), (1, .int l1)] [] (n, K, A3, Lg, G) P
    refine j_vret rfl ?_ dX10_tellOne_412
    rw [hP]
    exact ⟨A3, Lg, rfl, rfl, h⟩
  · rw [if_neg c] at h
    refine j_vret rfl ?_ dX10_tellOne_402
    rw [hP]
    exact ⟨A, Lg, rfl, rfl, h⟩
def fX10_tellOne_J390   (Q : pA → pL → Prop) (l1 : Int32) (A : pA) (Lg : pL) : Prop :=
    fX10_fail A 1 (fun A4 => fX10_tellOne_J395   Q l1 A4 Lg)
theorem fX10_tellOne_J390_ok {Γ : jG} {n : Nat} {K : Nat → pKd} {G : pG} (hf : mOK n K G) (Q : pA → pL → Prop) (P : jO → pS → Prop) (hP : P = (fun o u => ∃ (A' : pA) (Lg' : pL), o = .inl none ∧ u = (n, K, A', Lg', G) ∧ Q A' Lg'))   (l1 : Int32) (A : pA) (Lg : pL) (h : fX10_tellOne_J390   Q l1 A Lg) : J Γ RX10 cX10_tellOne 2 none "tellOne" [] 7 0 0 390 [(0, .ref 1198), (1, .int l1)] [] (n, K, A, Lg, G) P := by
  unfold fX10_tellOne_J390 at h
  refine j_aload_n 0 rfl dX10_tellOne_390 ?_
  refine j_iconst (v := 1) dX10_tellOne_391 (by decide) ?_
  refine j_callV (b := 1198) (As := [.int 1]) (st := []) (C := RX10) (kc' := 0) (ks' := 0) (tX10_fail hf 1 _ h) myX10_fail rfl q1800 q1802 qs65 (by decide) (fun s9 H9 hK9 hR9 h69 => jIs_in hK9 hR9 h69 (m_lt hf (by decide)) (fk_1198 hf) rfl) rfl (Nat.le_of_ble_eq_true rfl) rfl (by decide) (Nat.le_refl 0) (Nat.le_refl 0) dX10_tellOne_392 (fun v9 u9 hq => ?_) (fun k9 u9 hq => by obtain ⟨_, e9, _⟩ := hq; cases e9)
  obtain ⟨A4, e9, rfl, h⟩ := hq
  obtain rfl := Sum.inl.inj e9
  show J Γ RX10 cX10_tellOne 2 none "tellOne" [] 7 0 0 395 [(0, .ref 1198), (1, .int l1)] [] (n, K, A4, Lg, G) P
  exact fX10_tellOne_J395_ok hf Q P hP   l1 A4 Lg h
def fX10_tellOne (A : pA) (Lg : pL) (Q : pA → pL → Prop) : Prop :=
    (vp_in (A 1198 11) 403) ∧ ((if (A 1201 (A 1198 11).toNatClampNeg) = 20 then (vp_in (A 1198 19) 2) ∧ (fX10_roomFor A (A 1208 (A 1198 19).toNatClampNeg) 7 (fun A10 => (if (A10 1198 13) ≤ 0 then fX10_named A10 Lg (fun r11 A12 => (vp_in (A12 1198 19) 2) ∧ (fX10_ends A12 Lg r11 (A12 1208 (A12 1198 19).toNatClampNeg) (fun A14 Lg15 => (if (A14 1198 13) = 0 then (vp_in (A14 1198 19) 2) ∧ ((vp_in (A14 1198 19) 2) ∧ (∀ A18 : pA, A18 = pup A14 1208 (A14 1198 19).toNatClampNeg ((A14 1208 (A14 1198 19).toNatClampNeg) + 1) → Q A18 Lg15)) else Q A14 Lg15)))) else Q A10 Lg))) else (if (A 1201 (A 1198 11).toNatClampNeg) = 21 then (vp_in (A 1198 19) 2) ∧ (fX10_roomFor A (A 1210 (A 1198 19).toNatClampNeg) 12 (fun A21 => (if (A21 1198 13) = 0 then fX10_tellPath A21 Lg (fun A22 => Q A22 Lg) else Q A21 Lg))) else (if (A 1201 (A 1198 11).toNatClampNeg) = 22 then (vp_in (A 1198 19) 2) ∧ (fX10_roomFor A (A 1211 (A 1198 19).toNatClampNeg) 5 (fun A25 => (if (A25 1198 13) = 0 then fX10_tellDog A25 Lg (fun A26 Lg27 => Q A26 Lg27) else Q A25 Lg))) else (if (A 1201 (A 1198 11).toNatClampNeg) = 23 then (vp_in (A 1198 19) 2) ∧ (fX10_roomFor A (A 1215 (A 1198 19).toNatClampNeg) 4 (fun A30 => (if (A30 1198 13) = 0 then fX10_tellPerson A30 Lg (fun A31 Lg32 => Q A31 Lg32) else Q A30 Lg))) else (if (A 1201 (A 1198 11).toNatClampNeg) = 24 then (vp_in (A 1198 19) 2) ∧ (fX10_roomFor A (A 1218 (A 1198 19).toNatClampNeg) 8 (fun A35 => (if (A35 1198 13) = 0 then fX10_tellErrand A35 Lg (fun A36 => Q A36 Lg) else Q A35 Lg))) else (if (A 1201 (A 1198 11).toNatClampNeg) = 25 then (vp_in (A 1198 11) 403) ∧ ((if ((A 1201 (A 1198 11).toNatClampNeg) - 25) < 0 then fX10_tellOne_J390   Q ((A 1201 (A 1198 11).toNatClampNeg) - 25) A Lg else (vp_in (A 1198 11) 403) ∧ ((if (A 1201 (A 1198 11).toNatClampNeg) ≤ 28 then fX10_tellOne_J395   Q ((A 1201 (A 1198 11).toNatClampNeg) - 25) A Lg else fX10_tellOne_J390   Q ((A 1201 (A 1198 11).toNatClampNeg) - 25) A Lg)))) else (if (A 1201 (A 1198 11).toNatClampNeg) = 26 then (vp_in (A 1198 11) 403) ∧ ((if ((A 1201 (A 1198 11).toNatClampNeg) - 25) < 0 then fX10_tellOne_J390   Q ((A 1201 (A 1198 11).toNatClampNeg) - 25) A Lg else (vp_in (A 1198 11) 403) ∧ ((if (A 1201 (A 1198 11).toNatClampNeg) ≤ 28 then fX10_tellOne_J395   Q ((A 1201 (A 1198 11).toNatClampNeg) - 25) A Lg else fX10_tellOne_J390   Q ((A 1201 (A 1198 11).toNatClampNeg) - 25) A Lg)))) else (if (A 1201 (A 1198 11).toNatClampNeg) = 27 then (vp_in (A 1198 11) 403) ∧ ((if ((A 1201 (A 1198 11).toNatClampNeg) - 25) < 0 then fX10_tellOne_J390   Q ((A 1201 (A 1198 11).toNatClampNeg) - 25) A Lg else (vp_in (A 1198 11) 403) ∧ ((if (A 1201 (A 1198 11).toNatClampNeg) ≤ 28 then fX10_tellOne_J395   Q ((A 1201 (A 1198 11).toNatClampNeg) - 25) A Lg else fX10_tellOne_J390   Q ((A 1201 (A 1198 11).toNatClampNeg) - 25) A Lg)))) else (if (A 1201 (A 1198 11).toNatClampNeg) = 28 then (vp_in (A 1198 11) 403) ∧ ((if ((A 1201 (A 1198 11).toNatClampNeg) - 25) < 0 then fX10_tellOne_J390   Q ((A 1201 (A 1198 11).toNatClampNeg) - 25) A Lg else (vp_in (A 1198 11) 403) ∧ ((if (A 1201 (A 1198 11).toNatClampNeg) ≤ 28 then fX10_tellOne_J395   Q ((A 1201 (A 1198 11).toNatClampNeg) - 25) A Lg else fX10_tellOne_J390   Q ((A 1201 (A 1198 11).toNatClampNeg) - 25) A Lg)))) else (if (A 1201 (A 1198 11).toNatClampNeg) = 29 then fX10_goesOn A (fun A50 => fX10_bounded A50 0 1439 (fun r51 A52 => (vp_in (A50 1198 19) 2) ∧ (∀ A54 : pA, A54 = pup A52 1221 (A50 1198 19).toNatClampNeg r51 → fX10_bounded A54 1 1440 (fun r55 A56 => (vp_in (A54 1198 19) 2) ∧ (∀ A58 : pA, A58 = pup A56 1222 (A54 1198 19).toNatClampNeg r55 → (if (A58 1198 13) = 0 then (vp_in (A58 1198 19) 2) ∧ ((vp_in (A58 1198 19) 2) ∧ ((if (A58 1221 (A58 1198 19).toNatClampNeg) < (A58 1222 (A58 1198 19).toNatClampNeg) then fX10_tellOne_J322   Q A58 Lg else fX10_wrong A58 5 (A54 1198 11) (fun A61 => fX10_tellOne_J322   Q A61 Lg)))) else fX10_tellOne_J322   Q A58 Lg)))))) else (if (A 1201 (A 1198 11).toNatClampNeg) = 30 then fX10_goesOn A (fun A63 => fX10_bounded A63 0 1439 (fun r64 A65 => (vp_in (A63 1198 19) 2) ∧ (∀ A67 : pA, A67 = pup A65 1223 (A63 1198 19).toNatClampNeg r64 → fX10_must A67 4 (fun A68 => Q A68 Lg)))) else ((vp_in (A 1198 11) 403) ∧ ((if ((A 1201 (A 1198 11).toNatClampNeg) - 25) < 0 then fX10_tellOne_J390   Q ((A 1201 (A 1198 11).toNatClampNeg) - 25) A Lg else (vp_in (A 1198 11) 403) ∧ ((if (A 1201 (A 1198 11).toNatClampNeg) ≤ 28 then fX10_tellOne_J395   Q ((A 1201 (A 1198 11).toNatClampNeg) - 25) A Lg else fX10_tellOne_J390   Q ((A 1201 (A 1198 11).toNatClampNeg) - 25) A Lg)))))))))))))))))
theorem tX10_tellOne {Γ : jG} {n : Nat} {K : Nat → pKd} {G : pG} (hf : mOK n K G) {A : pA} {Lg : pL}  (Q : pA → pL → Prop) (h : fX10_tellOne A Lg Q) : jMet Γ yX10_tellOne cX10_tellOne 2 none [] 7 0 0 [.ref 1198] (n, K, A, Lg, G) (fun o u => ∃ (A' : pA) (Lg' : pL), o = .inl none ∧ u = (n, K, A', Lg', G) ∧ Q A' Lg') := by
  unfold fX10_tellOne at h
  obtain ⟨P, hP⟩ : ∃ P : jO → pS → Prop, P = (fun o u => ∃ (A' : pA) (Lg' : pL), o = .inl none ∧ u = (n, K, A', Lg', G) ∧ Q A' Lg') := ⟨_, rfl⟩
  rw [← hP]
  refine jMet_of rfl rfl rfl (Nat.le_of_ble_eq_true rfl) ?_
  show J Γ RX10 cX10_tellOne 2 none "tellOne" [] 7 0 0 0 [(0, .ref 1198)] [] (n, K, A, Lg, G) P
  refine j_aload_n 0 rfl dX10_tellOne_0 ?_
  refine j_getfr fl_X10_20_9 rfl (m_lt hf (by decide)) (fk_1198 hf) (fg_1198_5 hf) dX10_tellOne_1 ?_
  refine j_aload_n 0 rfl dX10_tellOne_4 ?_
  refine j_getfi fl_X10_215_9 rfl (m_lt hf (by decide)) (fk_1198 hf) dX10_tellOne_5 ?_
  obtain ⟨b5, h⟩ := h
  refine j_ialdJ (j := (A 1198 11).toNatClampNeg) (m_lt hf (by decide)) (fk_1201 hf) b5 rfl dX10_tellOne_8 ?_
  by_cases c8 : (A 1201 (A 1198 11).toNatClampNeg) = 20
  · rw [if_pos c8] at h
    have c8T : ((A 1201 (A 1198 11).toNatClampNeg) : Int32).toInt = 20 := by rw [c8]; rfl
    refine j_tableIn (off := 59) (tgt := 68) (by rw [c8T]; decide) (by rw [c8T]; decide) (by rw [c8T]; rfl) dX10_tellOne_9 (by decide) ?_
    refine j_aload_n 0 rfl dX10_tellOne_68 ?_
    refine j_aload_n 0 rfl dX10_tellOne_69 ?_
    refine j_getfr fl_X10_46_9 rfl (m_lt hf (by decide)) (fk_1198 hf) (fg_1198_23 hf) dX10_tellOne_70 ?_
    refine j_aload_n 0 rfl dX10_tellOne_73 ?_
    refine j_getfi fl_X10_245_9 rfl (m_lt hf (by decide)) (fk_1198 hf) dX10_tellOne_74 ?_
    obtain ⟨b9, h⟩ := h
    refine j_ialdJ (j := (A 1198 19).toNatClampNeg) (m_lt hf (by decide)) (fk_1208 hf) b9 rfl dX10_tellOne_77 ?_
    refine j_bipush (v := 7) dX10_tellOne_78 (by decide) ?_
    refine j_callV (b := 1198) (As := [.int (A 1208 (A 1198 19).toNatClampNeg), .int 7]) (st := []) (C := RX10) (kc' := 0) (ks' := 0) (tX10_roomFor hf (A 1208 (A 1198 19).toNatClampNeg) 7 _ h) myX10_roomFor rfl q1796 q1798 qs64 (by decide) (fun s9 H9 hK9 hR9 h69 => jIs_in hK9 hR9 h69 (m_lt hf (by decide)) (fk_1198 hf) rfl) rfl (Nat.le_of_ble_eq_true rfl) rfl (by decide) (Nat.le_refl 0) (Nat.le_refl 0) dX10_tellOne_80 (fun v9 u9 hq => ?_) (fun k9 u9 hq => by obtain ⟨_, e9, _⟩ := hq; cases e9)
    obtain ⟨A10, e9, rfl, h⟩ := hq
    obtain rfl := Sum.inl.inj e9
    show J Γ RX10 cX10_tellOne 2 none "tellOne" [] 7 0 0 83 [(0, .ref 1198)] [] (n, K, A10, Lg, G) P
    refine j_aload_n 0 rfl dX10_tellOne_83 ?_
    refine j_getfi fl_X10_212_9 rfl (m_lt hf (by decide)) (fk_1198 hf) dX10_tellOne_84 ?_
    refine j_if_le (tgt := 91) dX10_tellOne_87 (by decide) (fun c => ?_) (fun c => ?_)
    · rw [if_pos c] at h
      refine j_aload_n 0 rfl dX10_tellOne_91 ?_
      refine j_aload_n 0 rfl dX10_tellOne_92 ?_
      refine j_callV (b := 1198) (As := []) (st := [.ref 1198]) (C := RX10) (kc' := 0) (ks' := 0) (tX10_named hf  _ h) myX10_named rfl q1808 q1810 qs67 (by decide) (fun s9 H9 hK9 hR9 h69 => jIs_in hK9 hR9 h69 (m_lt hf (by decide)) (fk_1198 hf) rfl) rfl (Nat.le_of_ble_eq_true rfl) rfl (by decide) (Nat.le_refl 0) (Nat.le_refl 0) dX10_tellOne_93 (fun v9 u9 hq => ?_) (fun k9 u9 hq => by obtain ⟨_, _, e9, _⟩ := hq; cases e9)
      obtain ⟨r11, A12, e9, rfl, h⟩ := hq
      obtain rfl := Sum.inl.inj e9
      show J Γ RX10 cX10_tellOne 2 none "tellOne" [] 7 0 0 96 [(0, .ref 1198)] [.int r11, .ref 1198] (n, K, A12, Lg, G) P
      refine j_aload_n 0 rfl dX10_tellOne_96 ?_
      refine j_getfr fl_X10_46_9 rfl (m_lt hf (by decide)) (fk_1198 hf) (fg_1198_23 hf) dX10_tellOne_97 ?_
      refine j_aload_n 0 rfl dX10_tellOne_100 ?_
      refine j_getfi fl_X10_245_9 rfl (m_lt hf (by decide)) (fk_1198 hf) dX10_tellOne_101 ?_
      obtain ⟨b13, h⟩ := h
      refine j_ialdJ (j := (A12 1198 19).toNatClampNeg) (m_lt hf (by decide)) (fk_1208 hf) b13 rfl dX10_tellOne_104 ?_
      refine j_callV (b := 1198) (As := [.int r11, .int (A12 1208 (A12 1198 19).toNatClampNeg)]) (st := []) (C := RX10) (kc' := 0) (ks' := 0) (tX10_ends hf r11 (A12 1208 (A12 1198 19).toNatClampNeg) _ h) myX10_ends rfl q1820 q1822 qs70 (by decide) (fun s9 H9 hK9 hR9 h69 => jIs_in hK9 hR9 h69 (m_lt hf (by decide)) (fk_1198 hf) rfl) rfl (Nat.le_of_ble_eq_true rfl) rfl (by decide) (Nat.le_refl 0) (Nat.le_refl 0) dX10_tellOne_105 (fun v9 u9 hq => ?_) (fun k9 u9 hq => by obtain ⟨_, _, e9, _⟩ := hq; cases e9)
      obtain ⟨A14, Lg15, e9, rfl, h⟩ := hq
      obtain rfl := Sum.inl.inj e9
      show J Γ RX10 cX10_tellOne 2 none "tellOne" [] 7 0 0 108 [(0, .ref 1198)] [] (n, K, A14, Lg15, G) P
      refine j_aload_n 0 rfl dX10_tellOne_108 ?_
      refine j_getfi fl_X10_212_9 rfl (m_lt hf (by decide)) (fk_1198 hf) dX10_tellOne_109 ?_
      refine j_if_ne (tgt := 412) dX10_tellOne_112 (by decide) (fun c => ?_) (fun c => ?_)
      · rw [if_neg c] at h
        refine j_vret rfl ?_ dX10_tellOne_412
        rw [hP]
        exact ⟨A14, Lg15, rfl, rfl, h⟩
      · rw [if_pos c] at h
        refine j_aload_n 0 rfl dX10_tellOne_115 ?_
        refine j_getfr fl_X10_46_9 rfl (m_lt hf (by decide)) (fk_1198 hf) (fg_1198_23 hf) dX10_tellOne_116 ?_
        refine j_aload_n 0 rfl dX10_tellOne_119 ?_
        refine j_getfi fl_X10_245_9 rfl (m_lt hf (by decide)) (fk_1198 hf) dX10_tellOne_120 ?_
        refine j_dup2 rfl rfl dX10_tellOne_123 ?_
        obtain ⟨b16, h⟩ := h
        refine j_ialdJ (j := (A14 1198 19).toNatClampNeg) (m_lt hf (by decide)) (fk_1208 hf) b16 rfl dX10_tellOne_124 ?_
        refine j_iconst (v := 1) dX10_tellOne_125 (by decide) ?_
        refine j_iadd dX10_tellOne_126 ?_
        obtain ⟨b17, h⟩ := h
        refine j_iastJ (j := (A14 1198 19).toNatClampNeg) (m_lt hf (by decide)) (fk_1208 hf) b17 rfl dX10_tellOne_127 (fun A18 eA18 => ?_)
        replace h := h A18 eA18
        refine j_goto (tgt := 412) dX10_tellOne_128 (by decide) ?_
        refine j_vret rfl ?_ dX10_tellOne_412
        rw [hP]
        exact ⟨A18, Lg15, rfl, rfl, h⟩
    · rw [if_neg c] at h
      refine j_vret rfl ?_ dX10_tellOne_90
      rw [hP]
      exact ⟨A10, Lg, rfl, rfl, h⟩
  rw [if_neg c8] at h
  by_cases c19 : (A 1201 (A 1198 11).toNatClampNeg) = 21
  · rw [if_pos c19] at h
    have c19T : ((A 1201 (A 1198 11).toNatClampNeg) : Int32).toInt = 21 := by rw [c19]; rfl
    refine j_tableIn (off := 122) (tgt := 131) (by rw [c19T]; decide) (by rw [c19T]; decide) (by rw [c19T]; rfl) dX10_tellOne_9 (by decide) ?_
    refine j_aload_n 0 rfl dX10_tellOne_131 ?_
    refine j_aload_n 0 rfl dX10_tellOne_132 ?_
    refine j_getfr fl_X10_52_9 rfl (m_lt hf (by decide)) (fk_1198 hf) (fg_1198_25 hf) dX10_tellOne_133 ?_
    refine j_aload_n 0 rfl dX10_tellOne_136 ?_
    refine j_getfi fl_X10_245_9 rfl (m_lt hf (by decide)) (fk_1198 hf) dX10_tellOne_137 ?_
    obtain ⟨b20, h⟩ := h
    refine j_ialdJ (j := (A 1198 19).toNatClampNeg) (m_lt hf (by decide)) (fk_1210 hf) b20 rfl dX10_tellOne_140 ?_
    refine j_bipush (v := 12) dX10_tellOne_141 (by decide) ?_
    refine j_callV (b := 1198) (As := [.int (A 1210 (A 1198 19).toNatClampNeg), .int 12]) (st := []) (C := RX10) (kc' := 0) (ks' := 0) (tX10_roomFor hf (A 1210 (A 1198 19).toNatClampNeg) 12 _ h) myX10_roomFor rfl q1796 q1798 qs64 (by decide) (fun s9 H9 hK9 hR9 h69 => jIs_in hK9 hR9 h69 (m_lt hf (by decide)) (fk_1198 hf) rfl) rfl (Nat.le_of_ble_eq_true rfl) rfl (by decide) (Nat.le_refl 0) (Nat.le_refl 0) dX10_tellOne_143 (fun v9 u9 hq => ?_) (fun k9 u9 hq => by obtain ⟨_, e9, _⟩ := hq; cases e9)
    obtain ⟨A21, e9, rfl, h⟩ := hq
    obtain rfl := Sum.inl.inj e9
    show J Γ RX10 cX10_tellOne 2 none "tellOne" [] 7 0 0 146 [(0, .ref 1198)] [] (n, K, A21, Lg, G) P
    refine j_aload_n 0 rfl dX10_tellOne_146 ?_
    refine j_getfi fl_X10_212_9 rfl (m_lt hf (by decide)) (fk_1198 hf) dX10_tellOne_147 ?_
    refine j_if_ne (tgt := 412) dX10_tellOne_150 (by decide) (fun c => ?_) (fun c => ?_)
    · rw [if_neg c] at h
      refine j_vret rfl ?_ dX10_tellOne_412
      rw [hP]
      exact ⟨A21, Lg, rfl, rfl, h⟩
    · rw [if_pos c] at h
      refine j_aload_n 0 rfl dX10_tellOne_153 ?_
      refine j_callV (b := 1198) (As := []) (st := []) (C := RX10) (kc' := 0) (ks' := 0) (tX10_tellPath hf  _ h) myX10_tellPath rfl q1824 q1826 qs71 (by decide) (fun s9 H9 hK9 hR9 h69 => jIs_in hK9 hR9 h69 (m_lt hf (by decide)) (fk_1198 hf) rfl) rfl (Nat.le_of_ble_eq_true rfl) rfl (by decide) (Nat.le_refl 0) (Nat.le_refl 0) dX10_tellOne_154 (fun v9 u9 hq => ?_) (fun k9 u9 hq => by obtain ⟨_, e9, _⟩ := hq; cases e9)
      obtain ⟨A22, e9, rfl, h⟩ := hq
      obtain rfl := Sum.inl.inj e9
      show J Γ RX10 cX10_tellOne 2 none "tellOne" [] 7 0 0 157 [(0, .ref 1198)] [] (n, K, A22, Lg, G) P
      refine j_goto (tgt := 412) dX10_tellOne_157 (by decide) ?_
      refine j_vret rfl ?_ dX10_tellOne_412
      rw [hP]
      exact ⟨A22, Lg, rfl, rfl, h⟩
  rw [if_neg c19] at h
  by_cases c23 : (A 1201 (A 1198 11).toNatClampNeg) = 22
  · rw [if_pos c23] at h
    have c23T : ((A 1201 (A 1198 11).toNatClampNeg) : Int32).toInt = 22 := by rw [c23]; rfl
    refine j_tableIn (off := 151) (tgt := 160) (by rw [c23T]; decide) (by rw [c23T]; decide) (by rw [c23T]; rfl) dX10_tellOne_9 (by decide) ?_
    refine j_aload_n 0 rfl dX10_tellOne_160 ?_
    refine j_aload_n 0 rfl dX10_tellOne_161 ?_
    refine j_getfr fl_X10_55_9 rfl (m_lt hf (by decide)) (fk_1198 hf) (fg_1198_26 hf) dX10_tellOne_162 ?_
    refine j_aload_n 0 rfl dX10_tellOne_165 ?_
    refine j_getfi fl_X10_245_9 rfl (m_lt hf (by decide)) (fk_1198 hf) dX10_tellOne_166 ?_
    obtain ⟨b24, h⟩ := h
    refine j_ialdJ (j := (A 1198 19).toNatClampNeg) (m_lt hf (by decide)) (fk_1211 hf) b24 rfl dX10_tellOne_169 ?_
    refine j_iconst (v := 5) dX10_tellOne_170 (by decide) ?_
    refine j_callV (b := 1198) (As := [.int (A 1211 (A 1198 19).toNatClampNeg), .int 5]) (st := []) (C := RX10) (kc' := 0) (ks' := 0) (tX10_roomFor hf (A 1211 (A 1198 19).toNatClampNeg) 5 _ h) myX10_roomFor rfl q1796 q1798 qs64 (by decide) (fun s9 H9 hK9 hR9 h69 => jIs_in hK9 hR9 h69 (m_lt hf (by decide)) (fk_1198 hf) rfl) rfl (Nat.le_of_ble_eq_true rfl) rfl (by decide) (Nat.le_refl 0) (Nat.le_refl 0) dX10_tellOne_171 (fun v9 u9 hq => ?_) (fun k9 u9 hq => by obtain ⟨_, e9, _⟩ := hq; cases e9)
    obtain ⟨A25, e9, rfl, h⟩ := hq
    obtain rfl := Sum.inl.inj e9
    show J Γ RX10 cX10_tellOne 2 none "tellOne" [] 7 0 0 174 [(0, .ref 1198)] [] (n, K, A25, Lg, G) P
    refine j_aload_n 0 rfl dX10_tellOne_174 ?_
    refine j_getfi fl_X10_212_9 rfl (m_lt hf (by decide)) (fk_1198 hf) dX10_tellOne_175 ?_
    refine j_if_ne (tgt := 412) dX10_tellOne_178 (by decide) (fun c => ?_) (fun c => ?_)
    · rw [if_neg c] at h
      refine j_vret rfl ?_ dX10_tellOne_412
      rw [hP]
      exact ⟨A25, Lg, rfl, rfl, h⟩
    · rw [if_pos c] at h
      refine j_aload_n 0 rfl dX10_tellOne_181 ?_
      refine j_callV (b := 1198) (As := []) (st := []) (C := RX10) (kc' := 0) (ks' := 0) (tX10_tellDog hf  _ h) myX10_tellDog rfl q1836 q1838 qs74 (by decide) (fun s9 H9 hK9 hR9 h69 => jIs_in hK9 hR9 h69 (m_lt hf (by decide)) (fk_1198 hf) rfl) rfl (Nat.le_of_ble_eq_true rfl) rfl (by decide) (Nat.le_refl 0) (Nat.le_refl 0) dX10_tellOne_182 (fun v9 u9 hq => ?_) (fun k9 u9 hq => by obtain ⟨_, _, e9, _⟩ := hq; cases e9)
      obtain ⟨A26, Lg27, e9, rfl, h⟩ := hq
      obtain rfl := Sum.inl.inj e9
      show J Γ RX10 cX10_tellOne 2 none "tellOne" [] 7 0 0 185 [(0, .ref 1198)] [] (n, K, A26, Lg27, G) P
      refine j_goto (tgt := 412) dX10_tellOne_185 (by decide) ?_
      refine j_vret rfl ?_ dX10_tellOne_412
      rw [hP]
      exact ⟨A26, Lg27, rfl, rfl, h⟩
  rw [if_neg c23] at h
  by_cases c28 : (A 1201 (A 1198 11).toNatClampNeg) = 23
  · rw [if_pos c28] at h
    have c28T : ((A 1201 (A 1198 11).toNatClampNeg) : Int32).toInt = 23 := by rw [c28]; rfl
    refine j_tableIn (off := 179) (tgt := 188) (by rw [c28T]; decide) (by rw [c28T]; decide) (by rw [c28T]; rfl) dX10_tellOne_9 (by decide) ?_
    refine j_aload_n 0 rfl dX10_tellOne_188 ?_
    refine j_aload_n 0 rfl dX10_tellOne_189 ?_
    refine j_getfr fl_X10_67_9 rfl (m_lt hf (by decide)) (fk_1198 hf) (fg_1198_30 hf) dX10_tellOne_190 ?_
    refine j_aload_n 0 rfl dX10_tellOne_193 ?_
    refine j_getfi fl_X10_245_9 rfl (m_lt hf (by decide)) (fk_1198 hf) dX10_tellOne_194 ?_
    obtain ⟨b29, h⟩ := h
    refine j_ialdJ (j := (A 1198 19).toNatClampNeg) (m_lt hf (by decide)) (fk_1215 hf) b29 rfl dX10_tellOne_197 ?_
    refine j_iconst (v := 4) dX10_tellOne_198 (by decide) ?_
    refine j_callV (b := 1198) (As := [.int (A 1215 (A 1198 19).toNatClampNeg), .int 4]) (st := []) (C := RX10) (kc' := 0) (ks' := 0) (tX10_roomFor hf (A 1215 (A 1198 19).toNatClampNeg) 4 _ h) myX10_roomFor rfl q1796 q1798 qs64 (by decide) (fun s9 H9 hK9 hR9 h69 => jIs_in hK9 hR9 h69 (m_lt hf (by decide)) (fk_1198 hf) rfl) rfl (Nat.le_of_ble_eq_true rfl) rfl (by decide) (Nat.le_refl 0) (Nat.le_refl 0) dX10_tellOne_199 (fun v9 u9 hq => ?_) (fun k9 u9 hq => by obtain ⟨_, e9, _⟩ := hq; cases e9)
    obtain ⟨A30, e9, rfl, h⟩ := hq
    obtain rfl := Sum.inl.inj e9
    show J Γ RX10 cX10_tellOne 2 none "tellOne" [] 7 0 0 202 [(0, .ref 1198)] [] (n, K, A30, Lg, G) P
    refine j_aload_n 0 rfl dX10_tellOne_202 ?_
    refine j_getfi fl_X10_212_9 rfl (m_lt hf (by decide)) (fk_1198 hf) dX10_tellOne_203 ?_
    refine j_if_ne (tgt := 412) dX10_tellOne_206 (by decide) (fun c => ?_) (fun c => ?_)
    · rw [if_neg c] at h
      refine j_vret rfl ?_ dX10_tellOne_412
      rw [hP]
      exact ⟨A30, Lg, rfl, rfl, h⟩
    · rw [if_pos c] at h
      refine j_aload_n 0 rfl dX10_tellOne_209 ?_
      refine j_callV (b := 1198) (As := []) (st := []) (C := RX10) (kc' := 0) (ks' := 0) (tX10_tellPerson hf  _ h) myX10_tellPerson rfl q1844 q1846 qs76 (by decide) (fun s9 H9 hK9 hR9 h69 => jIs_in hK9 hR9 h69 (m_lt hf (by decide)) (fk_1198 hf) rfl) rfl (Nat.le_of_ble_eq_true rfl) rfl (by decide) (Nat.le_refl 0) (Nat.le_refl 0) dX10_tellOne_210 (fun v9 u9 hq => ?_) (fun k9 u9 hq => by obtain ⟨_, _, e9, _⟩ := hq; cases e9)
      obtain ⟨A31, Lg32, e9, rfl, h⟩ := hq
      obtain rfl := Sum.inl.inj e9
      show J Γ RX10 cX10_tellOne 2 none "tellOne" [] 7 0 0 213 [(0, .ref 1198)] [] (n, K, A31, Lg32, G) P
      refine j_goto (tgt := 412) dX10_tellOne_213 (by decide) ?_
      refine j_vret rfl ?_ dX10_tellOne_412
      rw [hP]
      exact ⟨A31, Lg32, rfl, rfl, h⟩
  rw [if_neg c28] at h
  by_cases c33 : (A 1201 (A 1198 11).toNatClampNeg) = 24
  · rw [if_pos c33] at h
    have c33T : ((A 1201 (A 1198 11).toNatClampNeg) : Int32).toInt = 24 := by rw [c33]; rfl
    refine j_tableIn (off := 207) (tgt := 216) (by rw [c33T]; decide) (by rw [c33T]; decide) (by rw [c33T]; rfl) dX10_tellOne_9 (by decide) ?_
    refine j_aload_n 0 rfl dX10_tellOne_216 ?_
    refine j_aload_n 0 rfl dX10_tellOne_217 ?_
    refine j_getfr fl_X10_76_9 rfl (m_lt hf (by decide)) (fk_1198 hf) (fg_1198_33 hf) dX10_tellOne_218 ?_
    refine j_aload_n 0 rfl dX10_tellOne_221 ?_
    refine j_getfi fl_X10_245_9 rfl (m_lt hf (by decide)) (fk_1198 hf) dX10_tellOne_222 ?_
    obtain ⟨b34, h⟩ := h
    refine j_ialdJ (j := (A 1198 19).toNatClampNeg) (m_lt hf (by decide)) (fk_1218 hf) b34 rfl dX10_tellOne_225 ?_
    refine j_bipush (v := 8) dX10_tellOne_226 (by decide) ?_
    refine j_callV (b := 1198) (As := [.int (A 1218 (A 1198 19).toNatClampNeg), .int 8]) (st := []) (C := RX10) (kc' := 0) (ks' := 0) (tX10_roomFor hf (A 1218 (A 1198 19).toNatClampNeg) 8 _ h) myX10_roomFor rfl q1796 q1798 qs64 (by decide) (fun s9 H9 hK9 hR9 h69 => jIs_in hK9 hR9 h69 (m_lt hf (by decide)) (fk_1198 hf) rfl) rfl (Nat.le_of_ble_eq_true rfl) rfl (by decide) (Nat.le_refl 0) (Nat.le_refl 0) dX10_tellOne_228 (fun v9 u9 hq => ?_) (fun k9 u9 hq => by obtain ⟨_, e9, _⟩ := hq; cases e9)
    obtain ⟨A35, e9, rfl, h⟩ := hq
    obtain rfl := Sum.inl.inj e9
    show J Γ RX10 cX10_tellOne 2 none "tellOne" [] 7 0 0 231 [(0, .ref 1198)] [] (n, K, A35, Lg, G) P
    refine j_aload_n 0 rfl dX10_tellOne_231 ?_
    refine j_getfi fl_X10_212_9 rfl (m_lt hf (by decide)) (fk_1198 hf) dX10_tellOne_232 ?_
    refine j_if_ne (tgt := 412) dX10_tellOne_235 (by decide) (fun c => ?_) (fun c => ?_)
    · rw [if_neg c] at h
      refine j_vret rfl ?_ dX10_tellOne_412
      rw [hP]
      exact ⟨A35, Lg, rfl, rfl, h⟩
    · rw [if_pos c] at h
      refine j_aload_n 0 rfl dX10_tellOne_238 ?_
      refine j_callV (b := 1198) (As := []) (st := []) (C := RX10) (kc' := 0) (ks' := 0) (tX10_tellErrand hf  _ h) myX10_tellErrand rfl q1848 q1850 qs77 (by decide) (fun s9 H9 hK9 hR9 h69 => jIs_in hK9 hR9 h69 (m_lt hf (by decide)) (fk_1198 hf) rfl) rfl (Nat.le_of_ble_eq_true rfl) rfl (by decide) (Nat.le_refl 0) (Nat.le_refl 0) dX10_tellOne_239 (fun v9 u9 hq => ?_) (fun k9 u9 hq => by obtain ⟨_, e9, _⟩ := hq; cases e9)
      obtain ⟨A36, e9, rfl, h⟩ := hq
      obtain rfl := Sum.inl.inj e9
      show J Γ RX10 cX10_tellOne 2 none "tellOne" [] 7 0 0 242 [(0, .ref 1198)] [] (n, K, A36, Lg, G) P
      refine j_goto (tgt := 412) dX10_tellOne_242 (by decide) ?_
      refine j_vret rfl ?_ dX10_tellOne_412
      rw [hP]
      exact ⟨A36, Lg, rfl, rfl, h⟩
  rw [if_neg c33] at h
  by_cases c37 : (A 1201 (A 1198 11).toNatClampNeg) = 25
  · rw [if_pos c37] at h
    have c37T : ((A 1201 (A 1198 11).toNatClampNeg) : Int32).toInt = 25 := by rw [c37]; rfl
    refine j_tableIn (off := 350) (tgt := 359) (by rw [c37T]; decide) (by rw [c37T]; decide) (by rw [c37T]; rfl) dX10_tellOne_9 (by decide) ?_
    refine j_aload_n 0 rfl dX10_tellOne_359 ?_
    refine j_getfr fl_X10_20_9 rfl (m_lt hf (by decide)) (fk_1198 hf) (fg_1198_5 hf) dX10_tellOne_360 ?_
    refine j_aload_n 0 rfl dX10_tellOne_363 ?_
    refine j_getfi fl_X10_215_9 rfl (m_lt hf (by decide)) (fk_1198 hf) dX10_tellOne_364 ?_
    obtain ⟨b38, h⟩ := h
    refine j_ialdJ (j := (A 1198 11).toNatClampNeg) (m_lt hf (by decide)) (fk_1201 hf) b38 rfl dX10_tellOne_367 ?_
    refine j_bipush (v := 25) dX10_tellOne_368 (by decide) ?_
    refine j_isub dX10_tellOne_370 ?_
    refine j_istore_n (by decide) rfl dX10_tellOne_371 ?_
    refine j_iload_n 0 rfl dX10_tellOne_372 ?_
    refine j_if_lt (tgt := 390) dX10_tellOne_373 (by decide) (fun c => ?_) (fun c => ?_)
    · rw [if_pos c] at h
      refine j_ls [1, 0] rfl ?_
      exact fX10_tellOne_J390_ok hf Q P hP   ((A 1201 (A 1198 11).toNatClampNeg) - 25) A Lg h
    · rw [if_neg c] at h
      refine j_aload_n 1 rfl dX10_tellOne_376 ?_
      refine j_getfr fl_X10_20_9 rfl (m_lt hf (by decide)) (fk_1198 hf) (fg_1198_5 hf) dX10_tellOne_377 ?_
      refine j_aload_n 1 rfl dX10_tellOne_380 ?_
      refine j_getfi fl_X10_215_9 rfl (m_lt hf (by decide)) (fk_1198 hf) dX10_tellOne_381 ?_
      obtain ⟨b39, h⟩ := h
      refine j_ialdJ (j := (A 1198 11).toNatClampNeg) (m_lt hf (by decide)) (fk_1201 hf) b39 rfl dX10_tellOne_384 ?_
      refine j_bipush (v := 28) dX10_tellOne_385 (by decide) ?_
      refine j_icmp_le (tgt := 395) dX10_tellOne_387 (by decide) (fun c => ?_) (fun c => ?_)
      · rw [if_pos c] at h
        refine j_ls [1, 0] rfl ?_
        exact fX10_tellOne_J395_ok hf Q P hP   ((A 1201 (A 1198 11).toNatClampNeg) - 25) A Lg h
      · rw [if_neg c] at h
        refine j_ls [1, 0] rfl ?_
        exact fX10_tellOne_J390_ok hf Q P hP   ((A 1201 (A 1198 11).toNatClampNeg) - 25) A Lg h
  rw [if_neg c37] at h
  by_cases c40 : (A 1201 (A 1198 11).toNatClampNeg) = 26
  · rw [if_pos c40] at h
    have c40T : ((A 1201 (A 1198 11).toNatClampNeg) : Int32).toInt = 26 := by rw [c40]; rfl
    refine j_tableIn (off := 350) (tgt := 359) (by rw [c40T]; decide) (by rw [c40T]; decide) (by rw [c40T]; rfl) dX10_tellOne_9 (by decide) ?_
    refine j_aload_n 0 rfl dX10_tellOne_359 ?_
    refine j_getfr fl_X10_20_9 rfl (m_lt hf (by decide)) (fk_1198 hf) (fg_1198_5 hf) dX10_tellOne_360 ?_
    refine j_aload_n 0 rfl dX10_tellOne_363 ?_
    refine j_getfi fl_X10_215_9 rfl (m_lt hf (by decide)) (fk_1198 hf) dX10_tellOne_364 ?_
    obtain ⟨b41, h⟩ := h
    refine j_ialdJ (j := (A 1198 11).toNatClampNeg) (m_lt hf (by decide)) (fk_1201 hf) b41 rfl dX10_tellOne_367 ?_
    refine j_bipush (v := 25) dX10_tellOne_368 (by decide) ?_
    refine j_isub dX10_tellOne_370 ?_
    refine j_istore_n (by decide) rfl dX10_tellOne_371 ?_
    refine j_iload_n 0 rfl dX10_tellOne_372 ?_
    refine j_if_lt (tgt := 390) dX10_tellOne_373 (by decide) (fun c => ?_) (fun c => ?_)
    · rw [if_pos c] at h
      refine j_ls [1, 0] rfl ?_
      exact fX10_tellOne_J390_ok hf Q P hP   ((A 1201 (A 1198 11).toNatClampNeg) - 25) A Lg h
    · rw [if_neg c] at h
      refine j_aload_n 1 rfl dX10_tellOne_376 ?_
      refine j_getfr fl_X10_20_9 rfl (m_lt hf (by decide)) (fk_1198 hf) (fg_1198_5 hf) dX10_tellOne_377 ?_
      refine j_aload_n 1 rfl dX10_tellOne_380 ?_
      refine j_getfi fl_X10_215_9 rfl (m_lt hf (by decide)) (fk_1198 hf) dX10_tellOne_381 ?_
      obtain ⟨b42, h⟩ := h
      refine j_ialdJ (j := (A 1198 11).toNatClampNeg) (m_lt hf (by decide)) (fk_1201 hf) b42 rfl dX10_tellOne_384 ?_
      refine j_bipush (v := 28) dX10_tellOne_385 (by decide) ?_
      refine j_icmp_le (tgt := 395) dX10_tellOne_387 (by decide) (fun c => ?_) (fun c => ?_)
      · rw [if_pos c] at h
        refine j_ls [1, 0] rfl ?_
        exact fX10_tellOne_J395_ok hf Q P hP   ((A 1201 (A 1198 11).toNatClampNeg) - 25) A Lg h
      · rw [if_neg c] at h
        refine j_ls [1, 0] rfl ?_
        exact fX10_tellOne_J390_ok hf Q P hP   ((A 1201 (A 1198 11).toNatClampNeg) - 25) A Lg h
  rw [if_neg c40] at h
  by_cases c43 : (A 1201 (A 1198 11).toNatClampNeg) = 27
  · rw [if_pos c43] at h
    have c43T : ((A 1201 (A 1198 11).toNatClampNeg) : Int32).toInt = 27 := by rw [c43]; rfl
    refine j_tableIn (off := 350) (tgt := 359) (by rw [c43T]; decide) (by rw [c43T]; decide) (by rw [c43T]; rfl) dX10_tellOne_9 (by decide) ?_
    refine j_aload_n 0 rfl dX10_tellOne_359 ?_
    refine j_getfr fl_X10_20_9 rfl (m_lt hf (by decide)) (fk_1198 hf) (fg_1198_5 hf) dX10_tellOne_360 ?_
    refine j_aload_n 0 rfl dX10_tellOne_363 ?_
    refine j_getfi fl_X10_215_9 rfl (m_lt hf (by decide)) (fk_1198 hf) dX10_tellOne_364 ?_
    obtain ⟨b44, h⟩ := h
    refine j_ialdJ (j := (A 1198 11).toNatClampNeg) (m_lt hf (by decide)) (fk_1201 hf) b44 rfl dX10_tellOne_367 ?_
    refine j_bipush (v := 25) dX10_tellOne_368 (by decide) ?_
    refine j_isub dX10_tellOne_370 ?_
    refine j_istore_n (by decide) rfl dX10_tellOne_371 ?_
    refine j_iload_n 0 rfl dX10_tellOne_372 ?_
    refine j_if_lt (tgt := 390) dX10_tellOne_373 (by decide) (fun c => ?_) (fun c => ?_)
    · rw [if_pos c] at h
      refine j_ls [1, 0] rfl ?_
      exact fX10_tellOne_J390_ok hf Q P hP   ((A 1201 (A 1198 11).toNatClampNeg) - 25) A Lg h
    · rw [if_neg c] at h
      refine j_aload_n 1 rfl dX10_tellOne_376 ?_
      refine j_getfr fl_X10_20_9 rfl (m_lt hf (by decide)) (fk_1198 hf) (fg_1198_5 hf) dX10_tellOne_377 ?_
      refine j_aload_n 1 rfl dX10_tellOne_380 ?_
      refine j_getfi fl_X10_215_9 rfl (m_lt hf (by decide)) (fk_1198 hf) dX10_tellOne_381 ?_
      obtain ⟨b45, h⟩ := h
      refine j_ialdJ (j := (A 1198 11).toNatClampNeg) (m_lt hf (by decide)) (fk_1201 hf) b45 rfl dX10_tellOne_384 ?_
      refine j_bipush (v := 28) dX10_tellOne_385 (by decide) ?_
      refine j_icmp_le (tgt := 395) dX10_tellOne_387 (by decide) (fun c => ?_) (fun c => ?_)
      · rw [if_pos c] at h
        refine j_ls [1, 0] rfl ?_
        exact fX10_tellOne_J395_ok hf Q P hP   ((A 1201 (A 1198 11).toNatClampNeg) - 25) A Lg h
      · rw [if_neg c] at h
        refine j_ls [1, 0] rfl ?_
        exact fX10_tellOne_J390_ok hf Q P hP   ((A 1201 (A 1198 11).toNatClampNeg) - 25) A Lg h
  rw [if_neg c43] at h
  by_cases c46 : (A 1201 (A 1198 11).toNatClampNeg) = 28
  · rw [if_pos c46] at h
    have c46T : ((A 1201 (A 1198 11).toNatClampNeg) : Int32).toInt = 28 := by rw [c46]; rfl
    refine j_tableIn (off := 350) (tgt := 359) (by rw [c46T]; decide) (by rw [c46T]; decide) (by rw [c46T]; rfl) dX10_tellOne_9 (by decide) ?_
    refine j_aload_n 0 rfl dX10_tellOne_359 ?_
    refine j_getfr fl_X10_20_9 rfl (m_lt hf (by decide)) (fk_1198 hf) (fg_1198_5 hf) dX10_tellOne_360 ?_
    refine j_aload_n 0 rfl dX10_tellOne_363 ?_
    refine j_getfi fl_X10_215_9 rfl (m_lt hf (by decide)) (fk_1198 hf) dX10_tellOne_364 ?_
    obtain ⟨b47, h⟩ := h
    refine j_ialdJ (j := (A 1198 11).toNatClampNeg) (m_lt hf (by decide)) (fk_1201 hf) b47 rfl dX10_tellOne_367 ?_
    refine j_bipush (v := 25) dX10_tellOne_368 (by decide) ?_
    refine j_isub dX10_tellOne_370 ?_
    refine j_istore_n (by decide) rfl dX10_tellOne_371 ?_
    refine j_iload_n 0 rfl dX10_tellOne_372 ?_
    refine j_if_lt (tgt := 390) dX10_tellOne_373 (by decide) (fun c => ?_) (fun c => ?_)
    · rw [if_pos c] at h
      refine j_ls [1, 0] rfl ?_
      exact fX10_tellOne_J390_ok hf Q P hP   ((A 1201 (A 1198 11).toNatClampNeg) - 25) A Lg h
    · rw [if_neg c] at h
      refine j_aload_n 1 rfl dX10_tellOne_376 ?_
      refine j_getfr fl_X10_20_9 rfl (m_lt hf (by decide)) (fk_1198 hf) (fg_1198_5 hf) dX10_tellOne_377 ?_
      refine j_aload_n 1 rfl dX10_tellOne_380 ?_
      refine j_getfi fl_X10_215_9 rfl (m_lt hf (by decide)) (fk_1198 hf) dX10_tellOne_381 ?_
      obtain ⟨b48, h⟩ := h
      refine j_ialdJ (j := (A 1198 11).toNatClampNeg) (m_lt hf (by decide)) (fk_1201 hf) b48 rfl dX10_tellOne_384 ?_
      refine j_bipush (v := 28) dX10_tellOne_385 (by decide) ?_
      refine j_icmp_le (tgt := 395) dX10_tellOne_387 (by decide) (fun c => ?_) (fun c => ?_)
      · rw [if_pos c] at h
        refine j_ls [1, 0] rfl ?_
        exact fX10_tellOne_J395_ok hf Q P hP   ((A 1201 (A 1198 11).toNatClampNeg) - 25) A Lg h
      · rw [if_neg c] at h
        refine j_ls [1, 0] rfl ?_
        exact fX10_tellOne_J390_ok hf Q P hP   ((A 1201 (A 1198 11).toNatClampNeg) - 25) A Lg h
  rw [if_neg c46] at h
  by_cases c49 : (A 1201 (A 1198 11).toNatClampNeg) = 29
  · rw [if_pos c49] at h
    have c49T : ((A 1201 (A 1198 11).toNatClampNeg) : Int32).toInt = 29 := by rw [c49]; rfl
    refine j_tableIn (off := 236) (tgt := 245) (by rw [c49T]; decide) (by rw [c49T]; decide) (by rw [c49T]; rfl) dX10_tellOne_9 (by decide) ?_
    refine j_aload_n 0 rfl dX10_tellOne_245 ?_
    refine j_callV (b := 1198) (As := []) (st := []) (C := RX10) (kc' := 0) (ks' := 0) (tX10_goesOn hf  _ h) myX10_goesOn rfl q1804 q1806 qs66 (by decide) (fun s9 H9 hK9 hR9 h69 => jIs_in hK9 hR9 h69 (m_lt hf (by decide)) (fk_1198 hf) rfl) rfl (Nat.le_of_ble_eq_true rfl) rfl (by decide) (Nat.le_refl 0) (Nat.le_refl 0) dX10_tellOne_246 (fun v9 u9 hq => ?_) (fun k9 u9 hq => by obtain ⟨_, e9, _⟩ := hq; cases e9)
    obtain ⟨A50, e9, rfl, h⟩ := hq
    obtain rfl := Sum.inl.inj e9
    show J Γ RX10 cX10_tellOne 2 none "tellOne" [] 7 0 0 249 [(0, .ref 1198)] [] (n, K, A50, Lg, G) P
    refine j_aload_n 0 rfl dX10_tellOne_249 ?_
    refine j_getfr fl_X10_85_9 rfl (m_lt hf (by decide)) (fk_1198 hf) (fg_1198_36 hf) dX10_tellOne_250 ?_
    refine j_aload_n 0 rfl dX10_tellOne_253 ?_
    refine j_getfi fl_X10_245_9 rfl (m_lt hf (by decide)) (fk_1198 hf) dX10_tellOne_254 ?_
    refine j_aload_n 0 rfl dX10_tellOne_257 ?_
    refine j_iconst (v := 0) dX10_tellOne_258 (by decide) ?_
    refine j_sipush (v := 1439) dX10_tellOne_259 (by decide) ?_
    refine j_callV (b := 1198) (As := [.int 0, .int 1439]) (st := [.int (A50 1198 19), .ref 1221]) (C := RX10) (kc' := 0) (ks' := 0) (tX10_bounded hf 0 1439 _ h) myX10_bounded rfl q1840 q1842 qs75 (by decide) (fun s9 H9 hK9 hR9 h69 => jIs_in hK9 hR9 h69 (m_lt hf (by decide)) (fk_1198 hf) rfl) rfl (Nat.le_of_ble_eq_true rfl) rfl (by decide) (Nat.le_refl 0) (Nat.le_refl 0) dX10_tellOne_262 (fun v9 u9 hq => ?_) (fun k9 u9 hq => by obtain ⟨_, _, e9, _⟩ := hq; cases e9)
    obtain ⟨r51, A52, e9, rfl, h⟩ := hq
    obtain rfl := Sum.inl.inj e9
    show J Γ RX10 cX10_tellOne 2 none "tellOne" [] 7 0 0 265 [(0, .ref 1198)] [.int r51, .int (A50 1198 19), .ref 1221] (n, K, A52, Lg, G) P
    obtain ⟨b53, h⟩ := h
    refine j_iastJ (j := (A50 1198 19).toNatClampNeg) (m_lt hf (by decide)) (fk_1221 hf) b53 rfl dX10_tellOne_265 (fun A54 eA54 => ?_)
    replace h := h A54 eA54
    refine j_aload_n 0 rfl dX10_tellOne_266 ?_
    refine j_getfi fl_X10_215_9 rfl (m_lt hf (by decide)) (fk_1198 hf) dX10_tellOne_267 ?_
    refine j_istore_n (by decide) rfl dX10_tellOne_270 ?_
    refine j_aload_n 1 rfl dX10_tellOne_271 ?_
    refine j_getfr fl_X10_88_9 rfl (m_lt hf (by decide)) (fk_1198 hf) (fg_1198_37 hf) dX10_tellOne_272 ?_
    refine j_aload_n 1 rfl dX10_tellOne_275 ?_
    refine j_getfi fl_X10_245_9 rfl (m_lt hf (by decide)) (fk_1198 hf) dX10_tellOne_276 ?_
    refine j_aload_n 1 rfl dX10_tellOne_279 ?_
    refine j_iconst (v := 1) dX10_tellOne_280 (by decide) ?_
    refine j_sipush (v := 1440) dX10_tellOne_281 (by decide) ?_
    refine j_callV (b := 1198) (As := [.int 1, .int 1440]) (st := [.int (A54 1198 19), .ref 1222]) (C := RX10) (kc' := 0) (ks' := 0) (tX10_bounded hf 1 1440 _ h) myX10_bounded rfl q1840 q1842 qs75 (by decide) (fun s9 H9 hK9 hR9 h69 => jIs_in hK9 hR9 h69 (m_lt hf (by decide)) (fk_1198 hf) rfl) rfl (Nat.le_of_ble_eq_true rfl) rfl (by decide) (Nat.le_refl 0) (Nat.le_refl 0) dX10_tellOne_284 (fun v9 u9 hq => ?_) (fun k9 u9 hq => by obtain ⟨_, _, e9, _⟩ := hq; cases e9)
    obtain ⟨r55, A56, e9, rfl, h⟩ := hq
    obtain rfl := Sum.inl.inj e9
    show J Γ RX10 cX10_tellOne 2 none "tellOne" [] 7 0 0 287 [(1, .int (A54 1198 11)), (0, .ref 1198)] [.int r55, .int (A54 1198 19), .ref 1222] (n, K, A56, Lg, G) P
    obtain ⟨b57, h⟩ := h
    refine j_iastJ (j := (A54 1198 19).toNatClampNeg) (m_lt hf (by decide)) (fk_1222 hf) b57 rfl dX10_tellOne_287 (fun A58 eA58 => ?_)
    replace h := h A58 eA58
    refine j_aload_n 1 rfl dX10_tellOne_288 ?_
    refine j_getfi fl_X10_212_9 rfl (m_lt hf (by decide)) (fk_1198 hf) dX10_tellOne_289 ?_
    refine j_if_ne (tgt := 322) dX10_tellOne_292 (by decide) (fun c => ?_) (fun c => ?_)
    · rw [if_neg c] at h
      refine j_ls [1] rfl ?_
      exact fX10_tellOne_J322_ok hf Q P hP   A58 Lg h
    · rw [if_pos c] at h
      refine j_aload_n 1 rfl dX10_tellOne_295 ?_
      refine j_getfr fl_X10_88_9 rfl (m_lt hf (by decide)) (fk_1198 hf) (fg_1198_37 hf) dX10_tellOne_296 ?_
      refine j_aload_n 1 rfl dX10_tellOne_299 ?_
      refine j_getfi fl_X10_245_9 rfl (m_lt hf (by decide)) (fk_1198 hf) dX10_tellOne_300 ?_
      obtain ⟨b59, h⟩ := h
      refine j_ialdJ (j := (A58 1198 19).toNatClampNeg) (m_lt hf (by decide)) (fk_1222 hf) b59 rfl dX10_tellOne_303 ?_
      refine j_aload_n 1 rfl dX10_tellOne_304 ?_
      refine j_getfr fl_X10_85_9 rfl (m_lt hf (by decide)) (fk_1198 hf) (fg_1198_36 hf) dX10_tellOne_305 ?_
      refine j_aload_n 1 rfl dX10_tellOne_308 ?_
      refine j_getfi fl_X10_245_9 rfl (m_lt hf (by decide)) (fk_1198 hf) dX10_tellOne_309 ?_
      obtain ⟨b60, h⟩ := h
      refine j_ialdJ (j := (A58 1198 19).toNatClampNeg) (m_lt hf (by decide)) (fk_1221 hf) b60 rfl dX10_tellOne_312 ?_
      refine j_icmp_gt (tgt := 322) dX10_tellOne_313 (by decide) (fun c => ?_) (fun c => ?_)
      · rw [if_pos c] at h
        refine j_ls [1] rfl ?_
        exact fX10_tellOne_J322_ok hf Q P hP   A58 Lg h
      · rw [if_neg c] at h
        refine j_aload_n 1 rfl dX10_tellOne_316 ?_
        refine j_iconst (v := 5) dX10_tellOne_317 (by decide) ?_
        refine j_iload_n 0 rfl dX10_tellOne_318 ?_
        refine j_callV (b := 1198) (As := [.int 5, .int (A54 1198 11)]) (st := []) (C := RX10) (kc' := 0) (ks' := 0) (tX10_wrong hf 5 (A54 1198 11) _ h) myX10_wrong rfl q1816 q1818 qs69 (by decide) (fun s9 H9 hK9 hR9 h69 => jIs_in hK9 hR9 h69 (m_lt hf (by decide)) (fk_1198 hf) rfl) rfl (Nat.le_of_ble_eq_true rfl) rfl (by decide) (Nat.le_refl 0) (Nat.le_refl 0) dX10_tellOne_319 (fun v9 u9 hq => ?_) (fun k9 u9 hq => by obtain ⟨_, e9, _⟩ := hq; cases e9)
        obtain ⟨A61, e9, rfl, h⟩ := hq
        obtain rfl := Sum.inl.inj e9
        show J Γ RX10 cX10_tellOne 2 none "tellOne" [] 7 0 0 322 [(1, .int (A54 1198 11)), (0, .ref 1198)] [] (n, K, A61, Lg, G) P
        refine j_ls [1] rfl ?_
        exact fX10_tellOne_J322_ok hf Q P hP   A61 Lg h
  rw [if_neg c49] at h
  by_cases c62 : (A 1201 (A 1198 11).toNatClampNeg) = 30
  · rw [if_pos c62] at h
    have c62T : ((A 1201 (A 1198 11).toNatClampNeg) : Int32).toInt = 30 := by rw [c62]; rfl
    refine j_tableIn (off := 321) (tgt := 330) (by rw [c62T]; decide) (by rw [c62T]; decide) (by rw [c62T]; rfl) dX10_tellOne_9 (by decide) ?_
    refine j_aload_n 0 rfl dX10_tellOne_330 ?_
    refine j_callV (b := 1198) (As := []) (st := []) (C := RX10) (kc' := 0) (ks' := 0) (tX10_goesOn hf  _ h) myX10_goesOn rfl q1804 q1806 qs66 (by decide) (fun s9 H9 hK9 hR9 h69 => jIs_in hK9 hR9 h69 (m_lt hf (by decide)) (fk_1198 hf) rfl) rfl (Nat.le_of_ble_eq_true rfl) rfl (by decide) (Nat.le_refl 0) (Nat.le_refl 0) dX10_tellOne_331 (fun v9 u9 hq => ?_) (fun k9 u9 hq => by obtain ⟨_, e9, _⟩ := hq; cases e9)
    obtain ⟨A63, e9, rfl, h⟩ := hq
    obtain rfl := Sum.inl.inj e9
    show J Γ RX10 cX10_tellOne 2 none "tellOne" [] 7 0 0 334 [(0, .ref 1198)] [] (n, K, A63, Lg, G) P
    refine j_aload_n 0 rfl dX10_tellOne_334 ?_
    refine j_getfr fl_X10_91_9 rfl (m_lt hf (by decide)) (fk_1198 hf) (fg_1198_38 hf) dX10_tellOne_335 ?_
    refine j_aload_n 0 rfl dX10_tellOne_338 ?_
    refine j_getfi fl_X10_245_9 rfl (m_lt hf (by decide)) (fk_1198 hf) dX10_tellOne_339 ?_
    refine j_aload_n 0 rfl dX10_tellOne_342 ?_
    refine j_iconst (v := 0) dX10_tellOne_343 (by decide) ?_
    refine j_sipush (v := 1439) dX10_tellOne_344 (by decide) ?_
    refine j_callV (b := 1198) (As := [.int 0, .int 1439]) (st := [.int (A63 1198 19), .ref 1223]) (C := RX10) (kc' := 0) (ks' := 0) (tX10_bounded hf 0 1439 _ h) myX10_bounded rfl q1840 q1842 qs75 (by decide) (fun s9 H9 hK9 hR9 h69 => jIs_in hK9 hR9 h69 (m_lt hf (by decide)) (fk_1198 hf) rfl) rfl (Nat.le_of_ble_eq_true rfl) rfl (by decide) (Nat.le_refl 0) (Nat.le_refl 0) dX10_tellOne_347 (fun v9 u9 hq => ?_) (fun k9 u9 hq => by obtain ⟨_, _, e9, _⟩ := hq; cases e9)
    obtain ⟨r64, A65, e9, rfl, h⟩ := hq
    obtain rfl := Sum.inl.inj e9
    show J Γ RX10 cX10_tellOne 2 none "tellOne" [] 7 0 0 350 [(0, .ref 1198)] [.int r64, .int (A63 1198 19), .ref 1223] (n, K, A65, Lg, G) P
    obtain ⟨b66, h⟩ := h
    refine j_iastJ (j := (A63 1198 19).toNatClampNeg) (m_lt hf (by decide)) (fk_1223 hf) b66 rfl dX10_tellOne_350 (fun A67 eA67 => ?_)
    replace h := h A67 eA67
    refine j_aload_n 0 rfl dX10_tellOne_351 ?_
    refine j_iconst (v := 4) dX10_tellOne_352 (by decide) ?_
    refine j_callV (b := 1198) (As := [.int 4]) (st := []) (C := RX10) (kc' := 0) (ks' := 0) (tX10_must hf 4 _ h) myX10_must rfl q1812 q1814 qs68 (by decide) (fun s9 H9 hK9 hR9 h69 => jIs_in hK9 hR9 h69 (m_lt hf (by decide)) (fk_1198 hf) rfl) rfl (Nat.le_of_ble_eq_true rfl) rfl (by decide) (Nat.le_refl 0) (Nat.le_refl 0) dX10_tellOne_353 (fun v9 u9 hq => ?_) (fun k9 u9 hq => by obtain ⟨_, e9, _⟩ := hq; cases e9)
    obtain ⟨A68, e9, rfl, h⟩ := hq
    obtain rfl := Sum.inl.inj e9
    show J Γ RX10 cX10_tellOne 2 none "tellOne" [] 7 0 0 356 [(0, .ref 1198)] [] (n, K, A68, Lg, G) P
    refine j_goto (tgt := 412) dX10_tellOne_356 (by decide) ?_
    refine j_vret rfl ?_ dX10_tellOne_412
    rw [hP]
    exact ⟨A68, Lg, rfl, rfl, h⟩
  rw [if_neg c62] at h
  refine j_tableOut (tgt := 359) (by have c8T := lv_neT c8 (a := 20) rfl; have c19T := lv_neT c19 (a := 21) rfl; have c23T := lv_neT c23 (a := 22) rfl; have c28T := lv_neT c28 (a := 23) rfl; have c33T := lv_neT c33 (a := 24) rfl; have c37T := lv_neT c37 (a := 25) rfl; have c40T := lv_neT c40 (a := 26) rfl; have c43T := lv_neT c43 (a := 27) rfl; have c46T := lv_neT c46 (a := 28) rfl; have c49T := lv_neT c49 (a := 29) rfl; have c62T := lv_neT c62 (a := 30) rfl; omega) dX10_tellOne_9 (by decide) ?_
  refine j_aload_n 0 rfl dX10_tellOne_359 ?_
  refine j_getfr fl_X10_20_9 rfl (m_lt hf (by decide)) (fk_1198 hf) (fg_1198_5 hf) dX10_tellOne_360 ?_
  refine j_aload_n 0 rfl dX10_tellOne_363 ?_
  refine j_getfi fl_X10_215_9 rfl (m_lt hf (by decide)) (fk_1198 hf) dX10_tellOne_364 ?_
  obtain ⟨b6, h⟩ := h
  refine j_ialdJ (j := (A 1198 11).toNatClampNeg) (m_lt hf (by decide)) (fk_1201 hf) b6 rfl dX10_tellOne_367 ?_
  refine j_bipush (v := 25) dX10_tellOne_368 (by decide) ?_
  refine j_isub dX10_tellOne_370 ?_
  refine j_istore_n (by decide) rfl dX10_tellOne_371 ?_
  refine j_iload_n 0 rfl dX10_tellOne_372 ?_
  refine j_if_lt (tgt := 390) dX10_tellOne_373 (by decide) (fun c => ?_) (fun c => ?_)
  · rw [if_pos c] at h
    refine j_ls [1, 0] rfl ?_
    exact fX10_tellOne_J390_ok hf Q P hP   ((A 1201 (A 1198 11).toNatClampNeg) - 25) A Lg h
  · rw [if_neg c] at h
    refine j_aload_n 1 rfl dX10_tellOne_376 ?_
    refine j_getfr fl_X10_20_9 rfl (m_lt hf (by decide)) (fk_1198 hf) (fg_1198_5 hf) dX10_tellOne_377 ?_
    refine j_aload_n 1 rfl dX10_tellOne_380 ?_
    refine j_getfi fl_X10_215_9 rfl (m_lt hf (by decide)) (fk_1198 hf) dX10_tellOne_381 ?_
    obtain ⟨b7, h⟩ := h
    refine j_ialdJ (j := (A 1198 11).toNatClampNeg) (m_lt hf (by decide)) (fk_1201 hf) b7 rfl dX10_tellOne_384 ?_
    refine j_bipush (v := 28) dX10_tellOne_385 (by decide) ?_
    refine j_icmp_le (tgt := 395) dX10_tellOne_387 (by decide) (fun c => ?_) (fun c => ?_)
    · rw [if_pos c] at h
      refine j_ls [1, 0] rfl ?_
      exact fX10_tellOne_J395_ok hf Q P hP   ((A 1201 (A 1198 11).toNatClampNeg) - 25) A Lg h
    · rw [if_neg c] at h
      refine j_ls [1, 0] rfl ?_
      exact fX10_tellOne_J390_ok hf Q P hP   ((A 1201 (A 1198 11).toNatClampNeg) - 25) A Lg h
theorem myX10_read : jY yX10_read cX10_read 2 (some .int) 0 := ⟨q1765, q139, by decide +kernel, by decide +kernel, by decide⟩
def fX10_read_L223   (Q : Int32 → pA → pL → Prop) : Nat → Int32 → pA → pL → Prop
  | 0, _, _, _ => False
  | n9 + 1, l1, A, Lg =>
    (if 3 ≤ l1 then Q 0 A Lg else (vp_in l1 3) ∧ (∀ A2 : pA, A2 = pup A 1244 (l1).toNatClampNeg (vp_nar .boolean 0) → fX10_read_L223   Q n9 (l1 + 1) A2 Lg))
theorem fX10_read_L223_ok {Γ : jG} {n : Nat} {K : Nat → pKd} {G : pG} (hf : mOK n K G) (Q : Int32 → pA → pL → Prop) (P : jO → pS → Prop) (hP : P = (fun o u => ∃ (r : Int32) (A' : pA) (Lg' : pL), o = .inl (some (.int r)) ∧ u = (n, K, A', Lg', G) ∧ Q r A' Lg'))    : ∀ (n9 : Nat) (l1 : Int32) (A : pA) (Lg : pL), fX10_read_L223   Q n9 l1 A Lg → J Γ RX10 cX10_read 2 (some .int) "read" [] 8 0 0 223 [(0, .ref 1198), (1, .int l1)] [] (n, K, A, Lg, G) P := by
  intro n9
  induction n9 with
  | zero => intro l1 A Lg h; exact h.elim
  | succ n9 ih =>
    intro l1 A Lg h
    unfold fX10_read_L223 at h
    refine j_iload_n 1 rfl dX10_read_223 ?_
    refine j_iconst (v := 3) dX10_read_224 (by decide) ?_
    refine j_icmp_ge (tgt := 241) dX10_read_225 (by decide) (fun c => ?_) (fun c => ?_)
    · rw [if_pos c] at h
      refine j_iconst (v := 0) dX10_read_241 (by decide) ?_
      refine j_iret rfl ?_ dX10_read_242
      rw [hP]
      exact ⟨0, A, Lg, rfl, rfl, h⟩
    · rw [if_neg c] at h
      refine j_aload_n 0 rfl dX10_read_228 ?_
      refine j_getfr fl_X10_155_9 rfl (m_lt hf (by decide)) (fk_1198 hf) (fg_1198_65 hf) dX10_read_229 ?_
      refine j_iload_n 1 rfl dX10_read_232 ?_
      refine j_iconst (v := 0) dX10_read_233 (by decide) ?_
      obtain ⟨b1, h⟩ := h
      refine j_zastJ (j := (l1).toNatClampNeg) (m_lt hf (by decide)) (fk_1244 hf) b1 rfl dX10_read_234 (fun A2 eA2 => ?_)
      replace h := h A2 eA2
      refine j_iinc (v := l1 + 1) 1 rfl rfl (by decide) rfl dX10_read_235 ?_
      refine j_goto (tgt := 223) dX10_read_238 (by decide) ?_
      refine j_ls [1, 0] rfl ?_
      exact ih (l1 + 1) A2 Lg h
def fX10_read_J164   (Q : Int32 → pA → pL → Prop) (s0 : Int32) (A : pA) (Lg : pL) : Prop :=
    ∀ A3 : pA, A3 = pup A 1198 17 s0 → (if (A3 1198 13) ≤ 0 then (if (A3 1198 15) ≤ 0 then ∀ A4 : pA, A4 = pup A3 1198 18 (A3 1198 19) → fX10_fillsSteps A4 (fun A5 => fX10_begins A5 (fun A6 => fX10_keepsRow A6 (fun A7 => ∀ A8 : pA, A8 = pup A7 1198 58 0 → ∀ A9 : pA, A9 = pup A8 1198 61 0 → ∃ m10, fX10_read_L223   Q m10 0 A9 Lg))) else Q (A3 1198 15) A3 Lg) else Q (A3 1198 13) A3 Lg)
theorem fX10_read_J164_ok {Γ : jG} {n : Nat} {K : Nat → pKd} {G : pG} (hf : mOK n K G) (Q : Int32 → pA → pL → Prop) (P : jO → pS → Prop) (hP : P = (fun o u => ∃ (r : Int32) (A' : pA) (Lg' : pL), o = .inl (some (.int r)) ∧ u = (n, K, A', Lg', G) ∧ Q r A' Lg'))   (s0 : Int32) (A : pA) (Lg : pL) (h : fX10_read_J164   Q s0 A Lg) : J Γ RX10 cX10_read 2 (some .int) "read" [] 8 0 0 164 [(0, .ref 1198)] [.int s0, .ref 1198] (n, K, A, Lg, G) P := by
  unfold fX10_read_J164 at h
  refine j_putfiE (fp_X10_37_9 _) rfl rfl rfl (m_lt hf (by decide)) (fk_1198 hf) dX10_read_164 (fun A3 eA3 => ?_)
  replace h := h A3 eA3
  refine j_aload_n 0 rfl dX10_read_167 ?_
  refine j_getfi fl_X10_212_9 rfl (m_lt hf (by decide)) (fk_1198 hf) dX10_read_168 ?_
  refine j_if_le (tgt := 179) dX10_read_171 (by decide) (fun c => ?_) (fun c => ?_)
  · rw [if_pos c] at h
    refine j_aload_n 0 rfl dX10_read_179 ?_
    refine j_getfi fl_X10_221_9 rfl (m_lt hf (by decide)) (fk_1198 hf) dX10_read_180 ?_
    refine j_if_le (tgt := 191) dX10_read_183 (by decide) (fun c => ?_) (fun c => ?_)
    · rw [if_pos c] at h
      refine j_aload_n 0 rfl dX10_read_191 ?_
      refine j_aload_n 0 rfl dX10_read_192 ?_
      refine j_getfi fl_X10_245_9 rfl (m_lt hf (by decide)) (fk_1198 hf) dX10_read_193 ?_
      refine j_putfiE (fp_X10_242_9 _) rfl rfl rfl (m_lt hf (by decide)) (fk_1198 hf) dX10_read_196 (fun A4 eA4 => ?_)
      replace h := h A4 eA4
      refine j_aload_n 0 rfl dX10_read_199 ?_
      refine j_callV (b := 1198) (As := []) (st := []) (C := RX10) (kc' := 0) (ks' := 0) (tX10_fillsSteps hf  _ h) myX10_fillsSteps rfl q1876 q1878 qs84 (by decide) (fun s9 H9 hK9 hR9 h69 => jIs_in hK9 hR9 h69 (m_lt hf (by decide)) (fk_1198 hf) rfl) rfl (Nat.le_of_ble_eq_true rfl) rfl (by decide) (Nat.le_refl 0) (Nat.le_refl 0) dX10_read_200 (fun v9 u9 hq => ?_) (fun k9 u9 hq => by obtain ⟨_, e9, _⟩ := hq; cases e9)
      obtain ⟨A5, e9, rfl, h⟩ := hq
      obtain rfl := Sum.inl.inj e9
      show J Γ RX10 cX10_read 2 (some .int) "read" [] 8 0 0 203 [(0, .ref 1198)] [] (n, K, A5, Lg, G) P
      refine j_aload_n 0 rfl dX10_read_203 ?_
      refine j_callV (b := 1198) (As := []) (st := []) (C := RX10) (kc' := 0) (ks' := 0) (tX10_begins hf  _ h) myX10_begins rfl q1540 q1542 qs55 (by decide) (fun s9 H9 hK9 hR9 h69 => jIs_in hK9 hR9 h69 (m_lt hf (by decide)) (fk_1198 hf) rfl) rfl (Nat.le_of_ble_eq_true rfl) rfl (by decide) (Nat.le_refl 0) (Nat.le_refl 0) dX10_read_204 (fun v9 u9 hq => ?_) (fun k9 u9 hq => by obtain ⟨_, e9, _⟩ := hq; cases e9)
      obtain ⟨A6, e9, rfl, h⟩ := hq
      obtain rfl := Sum.inl.inj e9
      show J Γ RX10 cX10_read 2 (some .int) "read" [] 8 0 0 207 [(0, .ref 1198)] [] (n, K, A6, Lg, G) P
      refine j_aload_n 0 rfl dX10_read_207 ?_
      refine j_callV (b := 1198) (As := []) (st := []) (C := RX10) (kc' := 0) (ks' := 0) (tX10_keepsRow hf  _ h) myX10_keepsRow rfl q1544 q1546 qs56 (by decide) (fun s9 H9 hK9 hR9 h69 => jIs_in hK9 hR9 h69 (m_lt hf (by decide)) (fk_1198 hf) rfl) rfl (Nat.le_of_ble_eq_true rfl) rfl (by decide) (Nat.le_refl 0) (Nat.le_refl 0) dX10_read_208 (fun v9 u9 hq => ?_) (fun k9 u9 hq => by obtain ⟨_, e9, _⟩ := hq; cases e9)
      obtain ⟨A7, e9, rfl, h⟩ := hq
      obtain rfl := Sum.inl.inj e9
      show J Γ RX10 cX10_read 2 (some .int) "read" [] 8 0 0 211 [(0, .ref 1198)] [] (n, K, A7, Lg, G) P
      refine j_aload_n 0 rfl dX10_read_211 ?_
      refine j_iconst (v := 0) dX10_read_212 (by decide) ?_
      refine j_putfiE (fp_X10_263_9 _) rfl rfl rfl (m_lt hf (by decide)) (fk_1198 hf) dX10_read_213 (fun A8 eA8 => ?_)
      replace h := h A8 eA8
      refine j_aload_n 0 rfl dX10_read_216 ?_
      refine j_iconst (v := 0) dX10_read_217 (by decide) ?_
      refine j_putfiE (fp_X10_266_9 _) rfl rfl rfl (m_lt hf (by decide)) (fk_1198 hf) dX10_read_218 (fun A9 eA9 => ?_)
      replace h := h A9 eA9
      refine j_iconst (v := 0) dX10_read_221 (by decide) ?_
      refine j_istore_n (by decide) rfl dX10_read_222 ?_
      refine j_ls [1, 0] rfl ?_
      obtain ⟨m10, h⟩ := h
      exact fX10_read_L223_ok hf Q P hP   m10 0 A9 Lg h
    · rw [if_neg c] at h
      refine j_aload_n 0 rfl dX10_read_186 ?_
      refine j_getfi fl_X10_221_9 rfl (m_lt hf (by decide)) (fk_1198 hf) dX10_read_187 ?_
      refine j_iret rfl ?_ dX10_read_190
      rw [hP]
      exact ⟨A3 1198 15, A3, Lg, rfl, rfl, h⟩
  · rw [if_neg c] at h
    refine j_aload_n 0 rfl dX10_read_174 ?_
    refine j_getfi fl_X10_212_9 rfl (m_lt hf (by decide)) (fk_1198 hf) dX10_read_175 ?_
    refine j_iret rfl ?_ dX10_read_178
    rw [hP]
    exact ⟨A3 1198 13, A3, Lg, rfl, rfl, h⟩
def fX10_read_J134   (Q : Int32 → pA → pL → Prop) (A : pA) (Lg : pL) : Prop :=
    (if (A 1198 13) ≤ 0 then (if (A 1198 15) ≤ 0 then fX10_read_J164   Q (-1) A Lg else fX10_read_J164   Q (A 1198 16) A Lg) else fX10_read_J164   Q (A 1198 14) A Lg)
theorem fX10_read_J134_ok {Γ : jG} {n : Nat} {K : Nat → pKd} {G : pG} (hf : mOK n K G) (Q : Int32 → pA → pL → Prop) (P : jO → pS → Prop) (hP : P = (fun o u => ∃ (r : Int32) (A' : pA) (Lg' : pL), o = .inl (some (.int r)) ∧ u = (n, K, A', Lg', G) ∧ Q r A' Lg'))   (A : pA) (Lg : pL) (h : fX10_read_J134   Q A Lg) : J Γ RX10 cX10_read 2 (some .int) "read" [] 8 0 0 134 [(0, .ref 1198)] [] (n, K, A, Lg, G) P := by
  unfold fX10_read_J134 at h
  refine j_aload_n 0 rfl dX10_read_134 ?_
  refine j_aload_n 0 rfl dX10_read_135 ?_
  refine j_getfi fl_X10_212_9 rfl (m_lt hf (by decide)) (fk_1198 hf) dX10_read_136 ?_
  refine j_if_le (tgt := 149) dX10_read_139 (by decide) (fun c => ?_) (fun c => ?_)
  · rw [if_pos c] at h
    refine j_aload_n 0 rfl dX10_read_149 ?_
    refine j_getfi fl_X10_221_9 rfl (m_lt hf (by decide)) (fk_1198 hf) dX10_read_150 ?_
    refine j_if_le (tgt := 163) dX10_read_153 (by decide) (fun c => ?_) (fun c => ?_)
    · rw [if_pos c] at h
      refine j_iconst (v := (-1)) dX10_read_163 (by decide) ?_
      exact fX10_read_J164_ok hf Q P hP   (-1) A Lg h
    · rw [if_neg c] at h
      refine j_aload_n 0 rfl dX10_read_156 ?_
      refine j_getfi fl_X10_224_9 rfl (m_lt hf (by decide)) (fk_1198 hf) dX10_read_157 ?_
      refine j_goto (tgt := 164) dX10_read_160 (by decide) ?_
      exact fX10_read_J164_ok hf Q P hP   (A 1198 16) A Lg h
  · rw [if_neg c] at h
    refine j_aload_n 0 rfl dX10_read_142 ?_
    refine j_getfi fl_X10_218_9 rfl (m_lt hf (by decide)) (fk_1198 hf) dX10_read_143 ?_
    refine j_goto (tgt := 164) dX10_read_146 (by decide) ?_
    exact fX10_read_J164_ok hf Q P hP   (A 1198 14) A Lg h
def fX10_read_L112   (Q : Int32 → pA → pL → Prop) : Nat → pA → pL → Prop
  | 0, _, _ => False
  | n9 + 1, A, Lg =>
    (if (A 1198 13) = 0 then fX10_is A 0 (fun r11 => (if r11 = 0 then fX10_tellOne A Lg (fun A12 Lg13 => fX10_read_L112   Q n9 A12 Lg13) else fX10_read_J134   Q A Lg)) else fX10_read_J134   Q A Lg)
theorem fX10_read_L112_ok {Γ : jG} {n : Nat} {K : Nat → pKd} {G : pG} (hf : mOK n K G) (Q : Int32 → pA → pL → Prop) (P : jO → pS → Prop) (hP : P = (fun o u => ∃ (r : Int32) (A' : pA) (Lg' : pL), o = .inl (some (.int r)) ∧ u = (n, K, A', Lg', G) ∧ Q r A' Lg'))    : ∀ (n9 : Nat) (A : pA) (Lg : pL), fX10_read_L112   Q n9 A Lg → J Γ RX10 cX10_read 2 (some .int) "read" [] 8 0 0 112 [(0, .ref 1198)] [] (n, K, A, Lg, G) P := by
  intro n9
  induction n9 with
  | zero => intro A Lg h; exact h.elim
  | succ n9 ih =>
    intro A Lg h
    unfold fX10_read_L112 at h
    refine j_aload_n 0 rfl dX10_read_112 ?_
    refine j_getfi fl_X10_212_9 rfl (m_lt hf (by decide)) (fk_1198 hf) dX10_read_113 ?_
    refine j_if_ne (tgt := 134) dX10_read_116 (by decide) (fun c => ?_) (fun c => ?_)
    · rw [if_neg c] at h
      exact fX10_read_J134_ok hf Q P hP   A Lg h
    · rw [if_pos c] at h
      refine j_aload_n 0 rfl dX10_read_119 ?_
      refine j_iconst (v := 0) dX10_read_120 (by decide) ?_
      refine j_callV (b := 1198) (As := [.int 0]) (st := []) (C := RX10) (kc' := 0) (ks' := 0) (tX10_is hf 0 _ h) myX10_is rfl q1788 q1790 qs62 (by decide) (fun s9 H9 hK9 hR9 h69 => jIs_in hK9 hR9 h69 (m_lt hf (by decide)) (fk_1198 hf) rfl) rfl (Nat.le_of_ble_eq_true rfl) rfl (by decide) (Nat.le_refl 0) (Nat.le_refl 0) dX10_read_121 (fun v9 u9 hq => ?_) (fun k9 u9 hq => by obtain ⟨_, e9, _⟩ := hq; cases e9)
      obtain ⟨r11, e9, rfl, h⟩ := hq
      obtain rfl := Sum.inl.inj e9
      show J Γ RX10 cX10_read 2 (some .int) "read" [] 8 0 0 124 [(0, .ref 1198)] [.int r11] (n, K, A, Lg, G) P
      refine j_if_ne (tgt := 134) dX10_read_124 (by decide) (fun c => ?_) (fun c => ?_)
      · rw [if_neg c] at h
        exact fX10_read_J134_ok hf Q P hP   A Lg h
      · rw [if_pos c] at h
        refine j_aload_n 0 rfl dX10_read_127 ?_
        refine j_callV (b := 1198) (As := []) (st := []) (C := RX10) (kc' := 0) (ks' := 0) (tX10_tellOne hf  _ h) myX10_tellOne rfl q1792 q1794 qs63 (by decide) (fun s9 H9 hK9 hR9 h69 => jIs_in hK9 hR9 h69 (m_lt hf (by decide)) (fk_1198 hf) rfl) rfl (Nat.le_of_ble_eq_true rfl) rfl (by decide) (Nat.le_refl 0) (Nat.le_refl 0) dX10_read_128 (fun v9 u9 hq => ?_) (fun k9 u9 hq => by obtain ⟨_, _, e9, _⟩ := hq; cases e9)
        obtain ⟨A12, Lg13, e9, rfl, h⟩ := hq
        obtain rfl := Sum.inl.inj e9
        show J Γ RX10 cX10_read 2 (some .int) "read" [] 8 0 0 131 [(0, .ref 1198)] [] (n, K, A12, Lg13, G) P
        refine j_goto (tgt := 112) dX10_read_131 (by decide) ?_
        exact ih A12 Lg13 h
def fX10_read_L10   (Q : Int32 → pA → pL → Prop) : Nat → Int32 → pA → pL → Prop
  | 0, _, _, _ => False
  | n9 + 1, l1, A, Lg =>
    (if (A 1198 4) ≤ l1 then ∀ A14 : pA, A14 = pup A 1198 2 0 → fX10_cut A14 Lg (fun A15 Lg16 => ∀ A17 : pA, A17 = pup A15 1198 11 0 → ∀ A18 : pA, A18 = pup A17 1198 12 0 → ∀ A19 : pA, A19 = pup A18 1198 13 0 → ∀ A20 : pA, A20 = pup A19 1198 15 0 → ∀ A21 : pA, A21 = pup A20 1198 19 (1 - (A20 1198 18)) → ∀ A22 : pA, A22 = pup A21 1198 20 0 → fX10_plain A22 (A22 1198 19) (fun A23 => ∀ A24 : pA, A24 = pup A23 1198 41 (130 * (A23 1198 19)) → ∀ A25 : pA, A25 = pup A24 1198 47 (420 * (A24 1198 19)) → ∃ m26, fX10_read_L112   Q m26 A25 Lg16)) else (vp_in l1 2000) ∧ ((vp_in l1 2000) ∧ (∀ A29 : pA, A29 = pup A 1200 (l1).toNatClampNeg (vp_nar .byte (A 1199 (l1).toNatClampNeg)) → fX10_read_L10   Q n9 (l1 + 1) A29 Lg)))
theorem fX10_read_L10_ok {Γ : jG} {n : Nat} {K : Nat → pKd} {G : pG} (hf : mOK n K G) (Q : Int32 → pA → pL → Prop) (P : jO → pS → Prop) (hP : P = (fun o u => ∃ (r : Int32) (A' : pA) (Lg' : pL), o = .inl (some (.int r)) ∧ u = (n, K, A', Lg', G) ∧ Q r A' Lg'))    : ∀ (n9 : Nat) (l1 : Int32) (A : pA) (Lg : pL), fX10_read_L10   Q n9 l1 A Lg → J Γ RX10 cX10_read 2 (some .int) "read" [] 8 0 0 10 [(0, .ref 1198), (1, .int l1)] [] (n, K, A, Lg, G) P := by
  intro n9
  induction n9 with
  | zero => intro l1 A Lg h; exact h.elim
  | succ n9 ih =>
    intro l1 A Lg h
    unfold fX10_read_L10 at h
    refine j_iload_n 1 rfl dX10_read_10 ?_
    refine j_aload_n 0 rfl dX10_read_11 ?_
    refine j_getfi fl_X10_181_9 rfl (m_lt hf (by decide)) (fk_1198 hf) dX10_read_12 ?_
    refine j_icmp_ge (tgt := 36) dX10_read_15 (by decide) (fun c => ?_) (fun c => ?_)
    · rw [if_pos c] at h
      refine j_aload_n 0 rfl dX10_read_36 ?_
      refine j_iconst (v := 0) dX10_read_37 (by decide) ?_
      refine j_putfiE (fp_X10_175_9 _) rfl rfl rfl (m_lt hf (by decide)) (fk_1198 hf) dX10_read_38 (fun A14 eA14 => ?_)
      replace h := h A14 eA14
      refine j_aload_n 0 rfl dX10_read_41 ?_
      refine j_callV (b := 1198) (As := []) (st := []) (C := RX10) (kc' := 0) (ks' := 0) (tX10_cut hf  _ h) myX10_cut rfl q1766 q1768 qs58 (by decide) (fun s9 H9 hK9 hR9 h69 => jIs_in hK9 hR9 h69 (m_lt hf (by decide)) (fk_1198 hf) rfl) rfl (Nat.le_of_ble_eq_true rfl) rfl (by decide) (Nat.le_refl 0) (Nat.le_refl 0) dX10_read_42 (fun v9 u9 hq => ?_) (fun k9 u9 hq => by obtain ⟨_, _, e9, _⟩ := hq; cases e9)
      obtain ⟨A15, Lg16, e9, rfl, h⟩ := hq
      obtain rfl := Sum.inl.inj e9
      show J Γ RX10 cX10_read 2 (some .int) "read" [] 8 0 0 45 [(0, .ref 1198), (1, .int l1)] [] (n, K, A15, Lg16, G) P
      refine j_aload_n 0 rfl dX10_read_45 ?_
      refine j_iconst (v := 0) dX10_read_46 (by decide) ?_
      refine j_putfiE (fp_X10_215_9 _) rfl rfl rfl (m_lt hf (by decide)) (fk_1198 hf) dX10_read_47 (fun A17 eA17 => ?_)
      replace h := h A17 eA17
      refine j_aload_n 0 rfl dX10_read_50 ?_
      refine j_iconst (v := 0) dX10_read_51 (by decide) ?_
      refine j_putfiE (fp_X10_239_9 _) rfl rfl rfl (m_lt hf (by decide)) (fk_1198 hf) dX10_read_52 (fun A18 eA18 => ?_)
      replace h := h A18 eA18
      refine j_aload_n 0 rfl dX10_read_55 ?_
      refine j_iconst (v := 0) dX10_read_56 (by decide) ?_
      refine j_putfiE (fp_X10_212_9 _) rfl rfl rfl (m_lt hf (by decide)) (fk_1198 hf) dX10_read_57 (fun A19 eA19 => ?_)
      replace h := h A19 eA19
      refine j_aload_n 0 rfl dX10_read_60 ?_
      refine j_iconst (v := 0) dX10_read_61 (by decide) ?_
      refine j_putfiE (fp_X10_221_9 _) rfl rfl rfl (m_lt hf (by decide)) (fk_1198 hf) dX10_read_62 (fun A20 eA20 => ?_)
      replace h := h A20 eA20
      refine j_aload_n 0 rfl dX10_read_65 ?_
      refine j_iconst (v := 1) dX10_read_66 (by decide) ?_
      refine j_aload_n 0 rfl dX10_read_67 ?_
      refine j_getfi fl_X10_242_9 rfl (m_lt hf (by decide)) (fk_1198 hf) dX10_read_68 ?_
      refine j_isub dX10_read_71 ?_
      refine j_putfiE (fp_X10_245_9 _) rfl rfl rfl (m_lt hf (by decide)) (fk_1198 hf) dX10_read_72 (fun A21 eA21 => ?_)
      replace h := h A21 eA21
      refine j_aload_n 0 rfl dX10_read_75 ?_
      refine j_iconst (v := 0) dX10_read_76 (by decide) ?_
      refine j_putfiE (fp_X10_248_9 _) rfl rfl rfl (m_lt hf (by decide)) (fk_1198 hf) dX10_read_77 (fun A22 eA22 => ?_)
      replace h := h A22 eA22
      refine j_aload_n 0 rfl dX10_read_80 ?_
      refine j_aload_n 0 rfl dX10_read_81 ?_
      refine j_getfi fl_X10_245_9 rfl (m_lt hf (by decide)) (fk_1198 hf) dX10_read_82 ?_
      refine j_callV (b := 1198) (As := [.int (A22 1198 19)]) (st := []) (C := RX10) (kc' := 0) (ks' := 0) (tX10_plain hf (A22 1198 19) _ h) myX10_plain rfl q1529 q1531 qs54 (by decide) (fun s9 H9 hK9 hR9 h69 => jIs_in hK9 hR9 h69 (m_lt hf (by decide)) (fk_1198 hf) rfl) rfl (Nat.le_of_ble_eq_true rfl) rfl (by decide) (Nat.le_refl 0) (Nat.le_refl 0) dX10_read_85 (fun v9 u9 hq => ?_) (fun k9 u9 hq => by obtain ⟨_, e9, _⟩ := hq; cases e9)
      obtain ⟨A23, e9, rfl, h⟩ := hq
      obtain rfl := Sum.inl.inj e9
      show J Γ RX10 cX10_read 2 (some .int) "read" [] 8 0 0 88 [(0, .ref 1198), (1, .int l1)] [] (n, K, A23, Lg16, G) P
      refine j_aload_n 0 rfl dX10_read_88 ?_
      refine j_sipush (v := 130) dX10_read_89 (by decide) ?_
      refine j_aload_n 0 rfl dX10_read_92 ?_
      refine j_getfi fl_X10_245_9 rfl (m_lt hf (by decide)) (fk_1198 hf) dX10_read_93 ?_
      refine j_imul dX10_read_96 ?_
      refine j_putfiE (fp_X10_251_9 _) rfl rfl rfl (m_lt hf (by decide)) (fk_1198 hf) dX10_read_97 (fun A24 eA24 => ?_)
      replace h := h A24 eA24
      refine j_aload_n 0 rfl dX10_read_100 ?_
      refine j_sipush (v := 420) dX10_read_101 (by decide) ?_
      refine j_aload_n 0 rfl dX10_read_104 ?_
      refine j_getfi fl_X10_245_9 rfl (m_lt hf (by decide)) (fk_1198 hf) dX10_read_105 ?_
      refine j_imul dX10_read_108 ?_
      refine j_putfiE (fp_X10_254_9 _) rfl rfl rfl (m_lt hf (by decide)) (fk_1198 hf) dX10_read_109 (fun A25 eA25 => ?_)
      replace h := h A25 eA25
      refine j_ls [0] rfl ?_
      obtain ⟨m26, h⟩ := h
      exact fX10_read_L112_ok hf Q P hP   m26 A25 Lg16 h
    · rw [if_neg c] at h
      refine j_aload_n 0 rfl dX10_read_18 ?_
      refine j_getfr fl_X10_17_9 rfl (m_lt hf (by decide)) (fk_1198 hf) (fg_1198_3 hf) dX10_read_19 ?_
      refine j_iload_n 1 rfl dX10_read_22 ?_
      refine j_aload_n 0 rfl dX10_read_23 ?_
      refine j_getfr fl_X10_13_9 rfl (m_lt hf (by decide)) (fk_1198 hf) (fg_1198_1 hf) dX10_read_24 ?_
      refine j_iload_n 1 rfl dX10_read_27 ?_
      obtain ⟨b27, h⟩ := h
      refine j_baldJ (j := (l1).toNatClampNeg) (m_lt hf (by decide)) (fk_1199 hf) b27 rfl dX10_read_28 ?_
      obtain ⟨b28, h⟩ := h
      refine j_bastJ (j := (l1).toNatClampNeg) (m_lt hf (by decide)) (fk_1200 hf) b28 rfl dX10_read_29 (fun A29 eA29 => ?_)
      replace h := h A29 eA29
      refine j_iinc (v := l1 + 1) 1 rfl rfl (by decide) rfl dX10_read_30 ?_
      refine j_goto (tgt := 10) dX10_read_33 (by decide) ?_
      refine j_ls [1, 0] rfl ?_
      exact ih (l1 + 1) A29 Lg h
def fX10_read (A : pA) (Lg : pL) (Q : Int32 → pA → pL → Prop) : Prop :=
    ∀ A30 : pA, A30 = pup A 1198 4 (A 1198 2) → ∃ m31, fX10_read_L10   Q m31 0 A30 Lg
theorem tX10_read {Γ : jG} {n : Nat} {K : Nat → pKd} {G : pG} (hf : mOK n K G) {A : pA} {Lg : pL}  (Q : Int32 → pA → pL → Prop) (h : fX10_read A Lg Q) : jMet Γ yX10_read cX10_read 2 (some .int) [] 8 0 0 [.ref 1198] (n, K, A, Lg, G) (fun o u => ∃ (r : Int32) (A' : pA) (Lg' : pL), o = .inl (some (.int r)) ∧ u = (n, K, A', Lg', G) ∧ Q r A' Lg') := by
  unfold fX10_read at h
  obtain ⟨P, hP⟩ : ∃ P : jO → pS → Prop, P = (fun o u => ∃ (r : Int32) (A' : pA) (Lg' : pL), o = .inl (some (.int r)) ∧ u = (n, K, A', Lg', G) ∧ Q r A' Lg') := ⟨_, rfl⟩
  rw [← hP]
  refine jMet_of rfl rfl rfl (Nat.le_of_ble_eq_true rfl) ?_
  show J Γ RX10 cX10_read 2 (some .int) "read" [] 8 0 0 0 [(0, .ref 1198)] [] (n, K, A, Lg, G) P
  refine j_aload_n 0 rfl dX10_read_0 ?_
  refine j_aload_n 0 rfl dX10_read_1 ?_
  refine j_getfi fl_X10_175_9 rfl (m_lt hf (by decide)) (fk_1198 hf) dX10_read_2 ?_
  refine j_putfiE (fp_X10_181_9 _) rfl rfl rfl (m_lt hf (by decide)) (fk_1198 hf) dX10_read_5 (fun A30 eA30 => ?_)
  replace h := h A30 eA30
  refine j_iconst (v := 0) dX10_read_8 (by decide) ?_
  refine j_istore_n (by decide) rfl dX10_read_9 ?_
  refine j_ls [1, 0] rfl ?_
  obtain ⟨m31, h⟩ := h
  exact fX10_read_L10_ok hf Q P hP   m31 0 A30 Lg h
theorem myX10_place : jY yX10_place cX10_place 1 (some .int) 0 := ⟨q1883, q139, by decide +kernel, by decide +kernel, by decide⟩
def fX10_place (A : pA) (Q : Int32 → Prop) : Prop :=
    Q (A 1198 17)
theorem tX10_place {Γ : jG} {n : Nat} {K : Nat → pKd} {G : pG} {Lg : pL} (hf : mOK n K G) {A : pA}  (Q : Int32 → Prop) (h : fX10_place A Q) : jMet Γ yX10_place cX10_place 1 (some .int) [] 1 0 0 [.ref 1198] (n, K, A, Lg, G) (fun o u => ∃ (r : Int32), o = .inl (some (.int r)) ∧ u = (n, K, A, Lg, G) ∧ Q r) := by
  unfold fX10_place at h
  obtain ⟨P, hP⟩ : ∃ P : jO → pS → Prop, P = (fun o u => ∃ (r : Int32), o = .inl (some (.int r)) ∧ u = (n, K, A, Lg, G) ∧ Q r) := ⟨_, rfl⟩
  rw [← hP]
  refine jMet_of rfl rfl rfl (Nat.le_of_ble_eq_true rfl) ?_
  show J Γ RX10 cX10_place 1 (some .int) "place" [] 1 0 0 0 [(0, .ref 1198)] [] (n, K, A, Lg, G) P
  refine j_aload_n 0 rfl dX10_place_0 ?_
  refine j_getfi fl_X10_37_9 rfl (m_lt hf (by decide)) (fk_1198 hf) dX10_place_1 ?_
  refine j_iret rfl ?_ dX10_place_4
  rw [hP]
  exact ⟨A 1198 17, rfl, rfl, h⟩
theorem myX10_bitsOf : jY yX10_bitsOf cX10_bitsOf 6 (some .int) 3 := ⟨q1902, q139, by decide +kernel, by decide +kernel, by decide⟩
def fX10_bitsOf_J34 (A : pA) (k6 : Int32 → Int32 → Int32 → Int32 → Int32 → Prop) (Q : Int32 → Prop) (l1 : Int32) (l2 : Int32) (l3 : Int32) (l4 : Int32) (l5 : Int32) : Prop :=
    k6 l1 l2 l3 l4 (l5 + 1)
theorem fX10_bitsOf_J34_ok {Γ : jG} {n : Nat} {K : Nat → pKd} {G : pG} {A : pA} {Lg : pL} (hf : mOK n K G) (Q : Int32 → Prop) (P : jO → pS → Prop) (hP : P = (fun o u => ∃ (r : Int32), o = .inl (some (.int r)) ∧ u = (n, K, A, Lg, G) ∧ Q r)) (k6 : Int32 → Int32 → Int32 → Int32 → Int32 → Prop) (ok6 : ∀ (l1 : Int32) (l2 : Int32) (l3 : Int32) (l4 : Int32) (l5 : Int32), k6 l1 l2 l3 l4 l5 → J Γ RX10 cX10_bitsOf 6 (some .int) "bitsOf" [] 1 0 0 6 [(0, .ref 1198), (1, .int l1), (2, .int l2), (3, .int l3), (4, .int l4), (5, .int l5)] [] (n, K, A, Lg, G) P) (l1 : Int32) (l2 : Int32) (l3 : Int32) (l4 : Int32) (l5 : Int32) (h : fX10_bitsOf_J34 A k6 Q l1 l2 l3 l4 l5) : J Γ RX10 cX10_bitsOf 6 (some .int) "bitsOf" [] 1 0 0 34 [(0, .ref 1198), (1, .int l1), (2, .int l2), (3, .int l3), (4, .int l4), (5, .int l5)] [] (n, K, A, Lg, G) P := by
  unfold fX10_bitsOf_J34 at h
  refine j_iinc (v := l5 + 1) 5 rfl rfl (by decide) rfl dX10_bitsOf_34 ?_
  refine j_goto (tgt := 6) dX10_bitsOf_37 (by decide) ?_
  refine j_ls [1, 2, 3, 4, 5, 0] rfl ?_
  exact ok6 l1 l2 l3 l4 (l5 + 1) h
def fX10_bitsOf_L6 (A : pA)  (Q : Int32 → Prop) : Nat → Int32 → Int32 → Int32 → Int32 → Int32 → Prop
  | 0, _, _, _, _, _ => False
  | n9 + 1, l1, l2, l3, l4, l5 =>
    (if l2 ≤ l5 then Q l4 else (vp_in (l1 + l5) 77) ∧ ((if (A 1238 (l1 + l5).toNatClampNeg) = l3 then fX10_bitsOf_J34 A (fun x0 x1 x2 x3 x4 => fX10_bitsOf_L6 A  Q n9 x0 x1 x2 x3 x4) Q l1 l2 l3 (l4 ||| ((1 : Int32) <<< (l5 &&& 31))) l5 else fX10_bitsOf_J34 A (fun x0 x1 x2 x3 x4 => fX10_bitsOf_L6 A  Q n9 x0 x1 x2 x3 x4) Q l1 l2 l3 l4 l5)))
theorem fX10_bitsOf_L6_ok {Γ : jG} {n : Nat} {K : Nat → pKd} {G : pG} {A : pA} {Lg : pL} (hf : mOK n K G) (Q : Int32 → Prop) (P : jO → pS → Prop) (hP : P = (fun o u => ∃ (r : Int32), o = .inl (some (.int r)) ∧ u = (n, K, A, Lg, G) ∧ Q r))    : ∀ (n9 : Nat) (l1 : Int32) (l2 : Int32) (l3 : Int32) (l4 : Int32) (l5 : Int32), fX10_bitsOf_L6 A  Q n9 l1 l2 l3 l4 l5 → J Γ RX10 cX10_bitsOf 6 (some .int) "bitsOf" [] 1 0 0 6 [(0, .ref 1198), (1, .int l1), (2, .int l2), (3, .int l3), (4, .int l4), (5, .int l5)] [] (n, K, A, Lg, G) P := by
  intro n9
  induction n9 with
  | zero => intro l1 l2 l3 l4 l5 h; exact h.elim
  | succ n9 ih =>
    intro l1 l2 l3 l4 l5 h
    unfold fX10_bitsOf_L6 at h
    refine j_iload 5 rfl dX10_bitsOf_6 ?_
    refine j_iload_n 2 rfl dX10_bitsOf_8 ?_
    refine j_icmp_ge (tgt := 40) dX10_bitsOf_9 (by decide) (fun c => ?_) (fun c => ?_)
    · rw [if_pos c] at h
      refine j_iload 4 rfl dX10_bitsOf_40 ?_
      refine j_iret rfl ?_ dX10_bitsOf_42
      rw [hP]
      exact ⟨l4, rfl, rfl, h⟩
    · rw [if_neg c] at h
      refine j_aload_n 0 rfl dX10_bitsOf_12 ?_
      refine j_getfr fl_X10_137_9 rfl (m_lt hf (by decide)) (fk_1198 hf) (fg_1198_57 hf) dX10_bitsOf_13 ?_
      refine j_iload_n 1 rfl dX10_bitsOf_16 ?_
      refine j_iload 5 rfl dX10_bitsOf_17 ?_
      refine j_iadd dX10_bitsOf_19 ?_
      obtain ⟨b1, h⟩ := h
      refine j_ialdJ (j := (l1 + l5).toNatClampNeg) (m_lt hf (by decide)) (fk_1238 hf) b1 rfl dX10_bitsOf_20 ?_
      refine j_iload_n 3 rfl dX10_bitsOf_21 ?_
      refine j_icmp_ne (tgt := 34) dX10_bitsOf_22 (by decide) (fun c => ?_) (fun c => ?_)
      · rw [if_neg c] at h
        exact fX10_bitsOf_J34_ok hf Q P hP (fun x0 x1 x2 x3 x4 => fX10_bitsOf_L6 A  Q n9 x0 x1 x2 x3 x4) (fun x0 x1 x2 x3 x4 h9 => ih x0 x1 x2 x3 x4 h9) l1 l2 l3 l4 l5 h
      · rw [if_pos c] at h
        refine j_iload 4 rfl dX10_bitsOf_25 ?_
        refine j_iconst (v := 1) dX10_bitsOf_27 (by decide) ?_
        refine j_iload 5 rfl dX10_bitsOf_28 ?_
        refine j_ishl dX10_bitsOf_30 ?_
        refine j_ior dX10_bitsOf_31 ?_
        refine j_istore (by decide) rfl dX10_bitsOf_32 ?_
        refine j_ls [1, 2, 3, 4, 0, 5] rfl ?_
        exact fX10_bitsOf_J34_ok hf Q P hP (fun x0 x1 x2 x3 x4 => fX10_bitsOf_L6 A  Q n9 x0 x1 x2 x3 x4) (fun x0 x1 x2 x3 x4 h9 => ih x0 x1 x2 x3 x4 h9) l1 l2 l3 (l4 ||| ((1 : Int32) <<< (l5 &&& 31))) l5 h
def fX10_bitsOf (A : pA) (p1 : Int32) (p2 : Int32) (p3 : Int32) (Q : Int32 → Prop) : Prop :=
    ∃ m2, fX10_bitsOf_L6 A  Q m2 p1 p2 p3 0 0
theorem tX10_bitsOf {Γ : jG} {n : Nat} {K : Nat → pKd} {G : pG} {Lg : pL} (hf : mOK n K G) {A : pA} (p1 : Int32) (p2 : Int32) (p3 : Int32) (Q : Int32 → Prop) (h : fX10_bitsOf A p1 p2 p3 Q) : jMet Γ yX10_bitsOf cX10_bitsOf 6 (some .int) [] 1 0 0 [.ref 1198, .int p1, .int p2, .int p3] (n, K, A, Lg, G) (fun o u => ∃ (r : Int32), o = .inl (some (.int r)) ∧ u = (n, K, A, Lg, G) ∧ Q r) := by
  unfold fX10_bitsOf at h
  obtain ⟨P, hP⟩ : ∃ P : jO → pS → Prop, P = (fun o u => ∃ (r : Int32), o = .inl (some (.int r)) ∧ u = (n, K, A, Lg, G) ∧ Q r) := ⟨_, rfl⟩
  rw [← hP]
  refine jMet_of rfl rfl rfl (Nat.le_of_ble_eq_true rfl) ?_
  show J Γ RX10 cX10_bitsOf 6 (some .int) "bitsOf" [] 1 0 0 0 [(0, .ref 1198), (1, .int p1), (2, .int p2), (3, .int p3)] [] (n, K, A, Lg, G) P
  refine j_iconst (v := 0) dX10_bitsOf_0 (by decide) ?_
  refine j_istore (by decide) rfl dX10_bitsOf_1 ?_
  refine j_iconst (v := 0) dX10_bitsOf_3 (by decide) ?_
  refine j_istore (by decide) rfl dX10_bitsOf_4 ?_
  refine j_ls [2, 3, 4, 5, 1, 0] rfl ?_
  obtain ⟨m2, h⟩ := h
  exact fX10_bitsOf_L6_ok hf Q P hP   m2 p1 p2 p3 0 0 h
theorem myX10_copies : jY yX10_copies cX10_copies 2 none 0 := ⟨q1898, q139, by decide +kernel, by decide +kernel, by decide⟩
def fX10_copies_L2   (Q : pA → Prop) : Nat → Int32 → pA → Prop
  | 0, _, _ => False
  | n9 + 1, l1, A =>
    (if 77 ≤ l1 then Q A else (vp_in l1 77) ∧ ((vp_in l1 77) ∧ (∀ A3 : pA, A3 = pup A 1238 (l1).toNatClampNeg (A 1237 (l1).toNatClampNeg) → fX10_copies_L2   Q n9 (l1 + 1) A3)))
theorem fX10_copies_L2_ok {Γ : jG} {n : Nat} {K : Nat → pKd} {G : pG} {Lg : pL} (hf : mOK n K G) (Q : pA → Prop) (P : jO → pS → Prop) (hP : P = (fun o u => ∃ (A' : pA), o = .inl none ∧ u = (n, K, A', Lg, G) ∧ Q A'))    : ∀ (n9 : Nat) (l1 : Int32) (A : pA), fX10_copies_L2   Q n9 l1 A → J Γ RX10 cX10_copies 2 none "copies" [] 1 0 0 2 [(0, .ref 1198), (1, .int l1)] [] (n, K, A, Lg, G) P := by
  intro n9
  induction n9 with
  | zero => intro l1 A h; exact h.elim
  | succ n9 ih =>
    intro l1 A h
    unfold fX10_copies_L2 at h
    refine j_iload_n 1 rfl dX10_copies_2 ?_
    refine j_bipush (v := 77) dX10_copies_3 (by decide) ?_
    refine j_icmp_ge (tgt := 26) dX10_copies_5 (by decide) (fun c => ?_) (fun c => ?_)
    · rw [if_pos c] at h
      refine j_vret rfl ?_ dX10_copies_26
      rw [hP]
      exact ⟨A, rfl, rfl, h⟩
    · rw [if_neg c] at h
      refine j_aload_n 0 rfl dX10_copies_8 ?_
      refine j_getfr fl_X10_137_9 rfl (m_lt hf (by decide)) (fk_1198 hf) (fg_1198_57 hf) dX10_copies_9 ?_
      refine j_iload_n 1 rfl dX10_copies_12 ?_
      refine j_aload_n 0 rfl dX10_copies_13 ?_
      refine j_getfr fl_X10_134_9 rfl (m_lt hf (by decide)) (fk_1198 hf) (fg_1198_56 hf) dX10_copies_14 ?_
      refine j_iload_n 1 rfl dX10_copies_17 ?_
      obtain ⟨b1, h⟩ := h
      refine j_ialdJ (j := (l1).toNatClampNeg) (m_lt hf (by decide)) (fk_1237 hf) b1 rfl dX10_copies_18 ?_
      obtain ⟨b2, h⟩ := h
      refine j_iastJ (j := (l1).toNatClampNeg) (m_lt hf (by decide)) (fk_1238 hf) b2 rfl dX10_copies_19 (fun A3 eA3 => ?_)
      replace h := h A3 eA3
      refine j_iinc (v := l1 + 1) 1 rfl rfl (by decide) rfl dX10_copies_20 ?_
      refine j_goto (tgt := 2) dX10_copies_23 (by decide) ?_
      refine j_ls [1, 0] rfl ?_
      exact ih (l1 + 1) A3 h
def fX10_copies (A : pA) (Q : pA → Prop) : Prop :=
    ∃ m4, fX10_copies_L2   Q m4 0 A
theorem tX10_copies {Γ : jG} {n : Nat} {K : Nat → pKd} {G : pG} {Lg : pL} (hf : mOK n K G) {A : pA}  (Q : pA → Prop) (h : fX10_copies A Q) : jMet Γ yX10_copies cX10_copies 2 none [] 1 0 0 [.ref 1198] (n, K, A, Lg, G) (fun o u => ∃ (A' : pA), o = .inl none ∧ u = (n, K, A', Lg, G) ∧ Q A') := by
  unfold fX10_copies at h
  obtain ⟨P, hP⟩ : ∃ P : jO → pS → Prop, P = (fun o u => ∃ (A' : pA), o = .inl none ∧ u = (n, K, A', Lg, G) ∧ Q A') := ⟨_, rfl⟩
  rw [← hP]
  refine jMet_of rfl rfl rfl (Nat.le_of_ble_eq_true rfl) ?_
  show J Γ RX10 cX10_copies 2 none "copies" [] 1 0 0 0 [(0, .ref 1198)] [] (n, K, A, Lg, G) P
  refine j_iconst (v := 0) dX10_copies_0 (by decide) ?_
  refine j_istore_n (by decide) rfl dX10_copies_1 ?_
  refine j_ls [1, 0] rfl ?_
  obtain ⟨m4, h⟩ := h
  exact fX10_copies_L2_ok hf Q P hP   m4 0 A h
theorem myX10_errandsLeft : jY yX10_errandsLeft cX10_errandsLeft 5 (some .int) 2 := ⟨q1906, q139, by decide +kernel, by decide +kernel, by decide⟩
def fX10_errandsLeft_J85 (A : pA) (k5 : Int32 → Int32 → Int32 → Int32 → Prop) (Q : Int32 → Prop) (l1 : Int32) (l2 : Int32) (l3 : Int32) (l4 : Int32) : Prop :=
    k5 l1 l2 l3 (l4 + 1)
theorem fX10_errandsLeft_J85_ok {Γ : jG} {n : Nat} {K : Nat → pKd} {G : pG} {A : pA} {Lg : pL} (hf : mOK n K G) (Q : Int32 → Prop) (P : jO → pS → Prop) (hP : P = (fun o u => ∃ (r : Int32), o = .inl (some (.int r)) ∧ u = (n, K, A, Lg, G) ∧ Q r)) (k5 : Int32 → Int32 → Int32 → Int32 → Prop) (ok5 : ∀ (l1 : Int32) (l2 : Int32) (l3 : Int32) (l4 : Int32), k5 l1 l2 l3 l4 → J Γ RX10 cX10_errandsLeft 5 (some .int) "errandsLeft" [] 1 0 0 5 [(0, .ref 1198), (1, .int l1), (2, .int l2), (3, .int l3), (4, .int l4)] [] (n, K, A, Lg, G) P) (l1 : Int32) (l2 : Int32) (l3 : Int32) (l4 : Int32) (h : fX10_errandsLeft_J85 A k5 Q l1 l2 l3 l4) : J Γ RX10 cX10_errandsLeft 5 (some .int) "errandsLeft" [] 1 0 0 85 [(0, .ref 1198), (1, .int l1), (2, .int l2), (3, .int l3), (4, .int l4)] [] (n, K, A, Lg, G) P := by
  unfold fX10_errandsLeft_J85 at h
  refine j_iinc (v := l4 + 1) 4 rfl rfl (by decide) rfl dX10_errandsLeft_85 ?_
  refine j_goto (tgt := 5) dX10_errandsLeft_88 (by decide) ?_
  refine j_ls [1, 2, 3, 4, 0] rfl ?_
  exact ok5 l1 l2 l3 (l4 + 1) h
def fX10_errandsLeft_J82 (A : pA) (k5 : Int32 → Int32 → Int32 → Int32 → Prop) (Q : Int32 → Prop) (l1 : Int32) (l2 : Int32) (l3 : Int32) (l4 : Int32) : Prop :=
    fX10_errandsLeft_J85 A k5 Q l1 l2 (l3 + 1) l4
theorem fX10_errandsLeft_J82_ok {Γ : jG} {n : Nat} {K : Nat → pKd} {G : pG} {A : pA} {Lg : pL} (hf : mOK n K G) (Q : Int32 → Prop) (P : jO → pS → Prop) (hP : P = (fun o u => ∃ (r : Int32), o = .inl (some (.int r)) ∧ u = (n, K, A, Lg, G) ∧ Q r)) (k5 : Int32 → Int32 → Int32 → Int32 → Prop) (ok5 : ∀ (l1 : Int32) (l2 : Int32) (l3 : Int32) (l4 : Int32), k5 l1 l2 l3 l4 → J Γ RX10 cX10_errandsLeft 5 (some .int) "errandsLeft" [] 1 0 0 5 [(0, .ref 1198), (1, .int l1), (2, .int l2), (3, .int l3), (4, .int l4)] [] (n, K, A, Lg, G) P) (l1 : Int32) (l2 : Int32) (l3 : Int32) (l4 : Int32) (h : fX10_errandsLeft_J82 A k5 Q l1 l2 l3 l4) : J Γ RX10 cX10_errandsLeft 5 (some .int) "errandsLeft" [] 1 0 0 82 [(0, .ref 1198), (1, .int l1), (2, .int l2), (3, .int l3), (4, .int l4)] [] (n, K, A, Lg, G) P := by
  unfold fX10_errandsLeft_J82 at h
  refine j_iinc (v := l3 + 1) 3 rfl rfl (by decide) rfl dX10_errandsLeft_82 ?_
  refine j_ls [1, 2, 3, 0, 4] rfl ?_
  exact fX10_errandsLeft_J85_ok hf Q P hP k5 ok5 l1 l2 (l3 + 1) l4 h
def fX10_errandsLeft_J58 (A : pA) (k5 : Int32 → Int32 → Int32 → Int32 → Prop) (Q : Int32 → Prop) (l1 : Int32) (l2 : Int32) (l3 : Int32) (l4 : Int32) : Prop :=
    (if l2 = (-1) then fX10_errandsLeft_J82 A k5 Q l1 l2 l3 l4 else (vp_in ((8 * (A 1198 18)) + l4) 16) ∧ ((if (A 1220 ((8 * (A 1198 18)) + l4).toNatClampNeg) = l2 then fX10_errandsLeft_J82 A k5 Q l1 l2 l3 l4 else fX10_errandsLeft_J85 A k5 Q l1 l2 l3 l4)))
theorem fX10_errandsLeft_J58_ok {Γ : jG} {n : Nat} {K : Nat → pKd} {G : pG} {A : pA} {Lg : pL} (hf : mOK n K G) (Q : Int32 → Prop) (P : jO → pS → Prop) (hP : P = (fun o u => ∃ (r : Int32), o = .inl (some (.int r)) ∧ u = (n, K, A, Lg, G) ∧ Q r)) (k5 : Int32 → Int32 → Int32 → Int32 → Prop) (ok5 : ∀ (l1 : Int32) (l2 : Int32) (l3 : Int32) (l4 : Int32), k5 l1 l2 l3 l4 → J Γ RX10 cX10_errandsLeft 5 (some .int) "errandsLeft" [] 1 0 0 5 [(0, .ref 1198), (1, .int l1), (2, .int l2), (3, .int l3), (4, .int l4)] [] (n, K, A, Lg, G) P) (l1 : Int32) (l2 : Int32) (l3 : Int32) (l4 : Int32) (h : fX10_errandsLeft_J58 A k5 Q l1 l2 l3 l4) : J Γ RX10 cX10_errandsLeft 5 (some .int) "errandsLeft" [] 1 0 0 58 [(0, .ref 1198), (1, .int l1), (2, .int l2), (3, .int l3), (4, .int l4)] [] (n, K, A, Lg, G) P := by
  unfold fX10_errandsLeft_J58 at h
  refine j_iload_n 2 rfl dX10_errandsLeft_58 ?_
  refine j_iconst (v := (-1)) dX10_errandsLeft_59 (by decide) ?_
  refine j_icmp_eq (tgt := 82) dX10_errandsLeft_60 (by decide) (fun c => ?_) (fun c => ?_)
  · rw [if_pos c] at h
    exact fX10_errandsLeft_J82_ok hf Q P hP k5 ok5 l1 l2 l3 l4 h
  · rw [if_neg c] at h
    refine j_aload_n 0 rfl dX10_errandsLeft_63 ?_
    refine j_getfr fl_X10_82_9 rfl (m_lt hf (by decide)) (fk_1198 hf) (fg_1198_35 hf) dX10_errandsLeft_64 ?_
    refine j_bipush (v := 8) dX10_errandsLeft_67 (by decide) ?_
    refine j_aload_n 0 rfl dX10_errandsLeft_69 ?_
    refine j_getfi fl_X10_242_9 rfl (m_lt hf (by decide)) (fk_1198 hf) dX10_errandsLeft_70 ?_
    refine j_imul dX10_errandsLeft_73 ?_
    refine j_iload 4 rfl dX10_errandsLeft_74 ?_
    refine j_iadd dX10_errandsLeft_76 ?_
    obtain ⟨b1, h⟩ := h
    refine j_ialdJ (j := ((8 * (A 1198 18)) + l4).toNatClampNeg) (m_lt hf (by decide)) (fk_1220 hf) b1 rfl dX10_errandsLeft_77 ?_
    refine j_iload_n 2 rfl dX10_errandsLeft_78 ?_
    refine j_icmp_ne (tgt := 85) dX10_errandsLeft_79 (by decide) (fun c => ?_) (fun c => ?_)
    · rw [if_neg c] at h
      exact fX10_errandsLeft_J85_ok hf Q P hP k5 ok5 l1 l2 l3 l4 h
    · rw [if_pos c] at h
      exact fX10_errandsLeft_J82_ok hf Q P hP k5 ok5 l1 l2 l3 l4 h
def fX10_errandsLeft_L5 (A : pA)  (Q : Int32 → Prop) : Nat → Int32 → Int32 → Int32 → Int32 → Prop
  | 0, _, _, _, _ => False
  | n9 + 1, l1, l2, l3, l4 =>
    (vp_in (A 1198 18) 2) ∧ ((if (A 1218 (A 1198 18).toNatClampNeg) ≤ l4 then Q l3 else (if (((A 1238 75) >>> (l4 &&& 31)) &&& 1) = 0 then (if l1 = (-1) then fX10_errandsLeft_J58 A (fun x0 x1 x2 x3 => fX10_errandsLeft_L5 A  Q n9 x0 x1 x2 x3) Q l1 l2 l3 l4 else (vp_in ((8 * (A 1198 18)) + l4) 16) ∧ ((if (A 1219 ((8 * (A 1198 18)) + l4).toNatClampNeg) = l1 then fX10_errandsLeft_J58 A (fun x0 x1 x2 x3 => fX10_errandsLeft_L5 A  Q n9 x0 x1 x2 x3) Q l1 l2 l3 l4 else fX10_errandsLeft_J85 A (fun x0 x1 x2 x3 => fX10_errandsLeft_L5 A  Q n9 x0 x1 x2 x3) Q l1 l2 l3 l4))) else fX10_errandsLeft_J85 A (fun x0 x1 x2 x3 => fX10_errandsLeft_L5 A  Q n9 x0 x1 x2 x3) Q l1 l2 l3 l4)))
theorem fX10_errandsLeft_L5_ok {Γ : jG} {n : Nat} {K : Nat → pKd} {G : pG} {A : pA} {Lg : pL} (hf : mOK n K G) (Q : Int32 → Prop) (P : jO → pS → Prop) (hP : P = (fun o u => ∃ (r : Int32), o = .inl (some (.int r)) ∧ u = (n, K, A, Lg, G) ∧ Q r))    : ∀ (n9 : Nat) (l1 : Int32) (l2 : Int32) (l3 : Int32) (l4 : Int32), fX10_errandsLeft_L5 A  Q n9 l1 l2 l3 l4 → J Γ RX10 cX10_errandsLeft 5 (some .int) "errandsLeft" [] 1 0 0 5 [(0, .ref 1198), (1, .int l1), (2, .int l2), (3, .int l3), (4, .int l4)] [] (n, K, A, Lg, G) P := by
  intro n9
  induction n9 with
  | zero => intro l1 l2 l3 l4 h; exact h.elim
  | succ n9 ih =>
    intro l1 l2 l3 l4 h
    unfold fX10_errandsLeft_L5 at h
    refine j_iload 4 rfl dX10_errandsLeft_5 ?_
    refine j_aload_n 0 rfl dX10_errandsLeft_7 ?_
    refine j_getfr fl_X10_76_9 rfl (m_lt hf (by decide)) (fk_1198 hf) (fg_1198_33 hf) dX10_errandsLeft_8 ?_
    refine j_aload_n 0 rfl dX10_errandsLeft_11 ?_
    refine j_getfi fl_X10_242_9 rfl (m_lt hf (by decide)) (fk_1198 hf) dX10_errandsLeft_12 ?_
    obtain ⟨b2, h⟩ := h
    refine j_ialdJ (j := (A 1198 18).toNatClampNeg) (m_lt hf (by decide)) (fk_1218 hf) b2 rfl dX10_errandsLeft_15 ?_
    refine j_icmp_ge (tgt := 91) dX10_errandsLeft_16 (by decide) (fun c => ?_) (fun c => ?_)
    · rw [if_pos c] at h
      refine j_iload_n 3 rfl dX10_errandsLeft_91 ?_
      refine j_iret rfl ?_ dX10_errandsLeft_92
      rw [hP]
      exact ⟨l3, rfl, rfl, h⟩
    · rw [if_neg c] at h
      refine j_aload_n 0 rfl dX10_errandsLeft_19 ?_
      refine j_getfr fl_X10_137_9 rfl (m_lt hf (by decide)) (fk_1198 hf) (fg_1198_57 hf) dX10_errandsLeft_20 ?_
      refine j_bipush (v := 75) dX10_errandsLeft_23 (by decide) ?_
      refine j_ialdJ (j := 75) (m_lt hf (by decide)) (fk_1238 hf) (by unfold vp_in; decide) rfl dX10_errandsLeft_25 ?_
      refine j_iload 4 rfl dX10_errandsLeft_26 ?_
      refine j_ishr dX10_errandsLeft_28 ?_
      refine j_iconst (v := 1) dX10_errandsLeft_29 (by decide) ?_
      refine j_iand dX10_errandsLeft_30 ?_
      refine j_if_ne (tgt := 85) dX10_errandsLeft_31 (by decide) (fun c => ?_) (fun c => ?_)
      · rw [if_neg c] at h
        exact fX10_errandsLeft_J85_ok hf Q P hP (fun x0 x1 x2 x3 => fX10_errandsLeft_L5 A  Q n9 x0 x1 x2 x3) (fun x0 x1 x2 x3 h9 => ih x0 x1 x2 x3 h9) l1 l2 l3 l4 h
      · rw [if_pos c] at h
        refine j_iload_n 1 rfl dX10_errandsLeft_34 ?_
        refine j_iconst (v := (-1)) dX10_errandsLeft_35 (by decide) ?_
        refine j_icmp_eq (tgt := 58) dX10_errandsLeft_36 (by decide) (fun c => ?_) (fun c => ?_)
        · rw [if_pos c] at h
          exact fX10_errandsLeft_J58_ok hf Q P hP (fun x0 x1 x2 x3 => fX10_errandsLeft_L5 A  Q n9 x0 x1 x2 x3) (fun x0 x1 x2 x3 h9 => ih x0 x1 x2 x3 h9) l1 l2 l3 l4 h
        · rw [if_neg c] at h
          refine j_aload_n 0 rfl dX10_errandsLeft_39 ?_
          refine j_getfr fl_X10_79_9 rfl (m_lt hf (by decide)) (fk_1198 hf) (fg_1198_34 hf) dX10_errandsLeft_40 ?_
          refine j_bipush (v := 8) dX10_errandsLeft_43 (by decide) ?_
          refine j_aload_n 0 rfl dX10_errandsLeft_45 ?_
          refine j_getfi fl_X10_242_9 rfl (m_lt hf (by decide)) (fk_1198 hf) dX10_errandsLeft_46 ?_
          refine j_imul dX10_errandsLeft_49 ?_
          refine j_iload 4 rfl dX10_errandsLeft_50 ?_
          refine j_iadd dX10_errandsLeft_52 ?_
          obtain ⟨b3, h⟩ := h
          refine j_ialdJ (j := ((8 * (A 1198 18)) + l4).toNatClampNeg) (m_lt hf (by decide)) (fk_1219 hf) b3 rfl dX10_errandsLeft_53 ?_
          refine j_iload_n 1 rfl dX10_errandsLeft_54 ?_
          refine j_icmp_ne (tgt := 85) dX10_errandsLeft_55 (by decide) (fun c => ?_) (fun c => ?_)
          · rw [if_neg c] at h
            exact fX10_errandsLeft_J85_ok hf Q P hP (fun x0 x1 x2 x3 => fX10_errandsLeft_L5 A  Q n9 x0 x1 x2 x3) (fun x0 x1 x2 x3 h9 => ih x0 x1 x2 x3 h9) l1 l2 l3 l4 h
          · rw [if_pos c] at h
            exact fX10_errandsLeft_J58_ok hf Q P hP (fun x0 x1 x2 x3 => fX10_errandsLeft_L5 A  Q n9 x0 x1 x2 x3) (fun x0 x1 x2 x3 h9 => ih x0 x1 x2 x3 h9) l1 l2 l3 l4 h
def fX10_errandsLeft (A : pA) (p1 : Int32) (p2 : Int32) (Q : Int32 → Prop) : Prop :=
    ∃ m4, fX10_errandsLeft_L5 A  Q m4 p1 p2 0 0
theorem tX10_errandsLeft {Γ : jG} {n : Nat} {K : Nat → pKd} {G : pG} {Lg : pL} (hf : mOK n K G) {A : pA} (p1 : Int32) (p2 : Int32) (Q : Int32 → Prop) (h : fX10_errandsLeft A p1 p2 Q) : jMet Γ yX10_errandsLeft cX10_errandsLeft 5 (some .int) [] 1 0 0 [.ref 1198, .int p1, .int p2] (n, K, A, Lg, G) (fun o u => ∃ (r : Int32), o = .inl (some (.int r)) ∧ u = (n, K, A, Lg, G) ∧ Q r) := by
  unfold fX10_errandsLeft at h
  obtain ⟨P, hP⟩ : ∃ P : jO → pS → Prop, P = (fun o u => ∃ (r : Int32), o = .inl (some (.int r)) ∧ u = (n, K, A, Lg, G) ∧ Q r) := ⟨_, rfl⟩
  rw [← hP]
  refine jMet_of rfl rfl rfl (Nat.le_of_ble_eq_true rfl) ?_
  show J Γ RX10 cX10_errandsLeft 5 (some .int) "errandsLeft" [] 1 0 0 0 [(0, .ref 1198), (1, .int p1), (2, .int p2)] [] (n, K, A, Lg, G) P
  refine j_iconst (v := 0) dX10_errandsLeft_0 (by decide) ?_
  refine j_istore_n (by decide) rfl dX10_errandsLeft_1 ?_
  refine j_iconst (v := 0) dX10_errandsLeft_2 (by decide) ?_
  refine j_istore (by decide) rfl dX10_errandsLeft_3 ?_
  refine j_ls [2, 3, 4, 1, 0] rfl ?_
  obtain ⟨m4, h⟩ := h
  exact fX10_errandsLeft_L5_ok hf Q P hP   m4 p1 p2 0 0 h
theorem myX10_in : jY yX10_in cX10_in 3 (some .boolean) 3 := ⟨q1894, q139, by decide +kernel, by decide +kernel, by decide⟩
def fX10_in (A : pA) (p0 : Int32) (p1 : Int32) (p2 : Int32) (Q : Int32 → Prop) : Prop :=
    (if p0 < p1 then Q 0 else (if p2 < p0 then Q 0 else Q 1))
theorem tX10_in {Γ : jG} {n : Nat} {K : Nat → pKd} {G : pG} {Lg : pL} (hf : mOK n K G) {A : pA} (p0 : Int32) (p1 : Int32) (p2 : Int32) (Q : Int32 → Prop) (h : fX10_in A p0 p1 p2 Q) : jMet Γ yX10_in cX10_in 3 (some .boolean) [] 1 0 0 [.int p0, .int p1, .int p2] (n, K, A, Lg, G) (fun o u => ∃ (r : Int32), o = .inl (some (.int r)) ∧ u = (n, K, A, Lg, G) ∧ Q r) := by
  unfold fX10_in at h
  obtain ⟨P, hP⟩ : ∃ P : jO → pS → Prop, P = (fun o u => ∃ (r : Int32), o = .inl (some (.int r)) ∧ u = (n, K, A, Lg, G) ∧ Q r) := ⟨_, rfl⟩
  rw [← hP]
  refine jMet_of rfl rfl rfl (Nat.le_of_ble_eq_true rfl) ?_
  show J Γ RX10 cX10_in 3 (some .boolean) "in" [] 1 0 0 0 [(0, .int p0), (1, .int p1), (2, .int p2)] [] (n, K, A, Lg, G) P
  refine j_iload_n 0 rfl dX10_in_0 ?_
  refine j_iload_n 1 rfl dX10_in_1 ?_
  refine j_icmp_lt (tgt := 14) dX10_in_2 (by decide) (fun c => ?_) (fun c => ?_)
  · rw [if_pos c] at h
    refine j_iconst (v := 0) dX10_in_14 (by decide) ?_
    refine j_zret rfl (by decide) ?_ dX10_in_15
    rw [hP]
    exact ⟨0, rfl, rfl, h⟩
  · rw [if_neg c] at h
    refine j_iload_n 0 rfl dX10_in_5 ?_
    refine j_iload_n 2 rfl dX10_in_6 ?_
    refine j_icmp_gt (tgt := 14) dX10_in_7 (by decide) (fun c => ?_) (fun c => ?_)
    · rw [if_pos c] at h
      refine j_iconst (v := 0) dX10_in_14 (by decide) ?_
      refine j_zret rfl (by decide) ?_ dX10_in_15
      rw [hP]
      exact ⟨0, rfl, rfl, h⟩
    · rw [if_neg c] at h
      refine j_iconst (v := 1) dX10_in_10 (by decide) ?_
      refine j_goto (tgt := 15) dX10_in_11 (by decide) ?_
      refine j_zret rfl (by decide) ?_ dX10_in_15
      rw [hP]
      exact ⟨1, rfl, rfl, h⟩
theorem myX10_isPlace : jY yX10_isPlace cX10_isPlace 2 (some .boolean) 1 := ⟨q1891, q139, by decide +kernel, by decide +kernel, by decide⟩
def fX10_isPlace (A : pA) (p1 : Int32) (Q : Int32 → Prop) : Prop :=
    (vp_in (A 1198 18) 2) ∧ (fX10_in A p1 0 ((A 1208 (A 1198 18).toNatClampNeg) - 1) (fun r2 => (narrow .boolean (.int r2) = .int r2) ∧ (Q r2)))
theorem tX10_isPlace {Γ : jG} {n : Nat} {K : Nat → pKd} {G : pG} {Lg : pL} (hf : mOK n K G) {A : pA} (p1 : Int32) (Q : Int32 → Prop) (h : fX10_isPlace A p1 Q) : jMet Γ yX10_isPlace cX10_isPlace 2 (some .boolean) [] 2 0 0 [.ref 1198, .int p1] (n, K, A, Lg, G) (fun o u => ∃ (r : Int32), o = .inl (some (.int r)) ∧ u = (n, K, A, Lg, G) ∧ Q r) := by
  unfold fX10_isPlace at h
  obtain ⟨P, hP⟩ : ∃ P : jO → pS → Prop, P = (fun o u => ∃ (r : Int32), o = .inl (some (.int r)) ∧ u = (n, K, A, Lg, G) ∧ Q r) := ⟨_, rfl⟩
  rw [← hP]
  refine jMet_of rfl rfl rfl (Nat.le_of_ble_eq_true rfl) ?_
  show J Γ RX10 cX10_isPlace 2 (some .boolean) "isPlace" [] 2 0 0 0 [(0, .ref 1198), (1, .int p1)] [] (n, K, A, Lg, G) P
  refine j_iload_n 1 rfl dX10_isPlace_0 ?_
  refine j_iconst (v := 0) dX10_isPlace_1 (by decide) ?_
  refine j_aload_n 0 rfl dX10_isPlace_2 ?_
  refine j_getfr fl_X10_46_9 rfl (m_lt hf (by decide)) (fk_1198 hf) (fg_1198_23 hf) dX10_isPlace_3 ?_
  refine j_aload_n 0 rfl dX10_isPlace_6 ?_
  refine j_getfi fl_X10_242_9 rfl (m_lt hf (by decide)) (fk_1198 hf) dX10_isPlace_7 ?_
  obtain ⟨b1, h⟩ := h
  refine j_ialdJ (j := (A 1198 18).toNatClampNeg) (m_lt hf (by decide)) (fk_1208 hf) b1 rfl dX10_isPlace_10 ?_
  refine j_iconst (v := 1) dX10_isPlace_11 (by decide) ?_
  refine j_isub dX10_isPlace_12 ?_
  refine j_callS (As := [.int p1, .int 0, .int ((A 1208 (A 1198 18).toNatClampNeg) - 1)]) (st := []) (kc' := 0) (ks' := 0) (tX10_in hf p1 0 ((A 1208 (A 1198 18).toNatClampNeg) - 1) _ h) myX10_in q1892 q1893 rfl (Nat.le_of_ble_eq_true rfl) rfl (by decide) (Nat.le_refl 0) (Nat.le_refl 0) dX10_isPlace_13 (fun v9 u9 hq => ?_) (fun k9 u9 hq => by obtain ⟨_, e9, _⟩ := hq; cases e9)
  obtain ⟨r2, e9, rfl, h⟩ := hq
  obtain rfl := Sum.inl.inj e9
  show J Γ RX10 cX10_isPlace 2 (some .boolean) "isPlace" [] 2 0 0 16 [(0, .ref 1198), (1, .int p1)] [.int r2] (n, K, A, Lg, G) P
  obtain ⟨b3, h⟩ := h
  refine j_zret rfl b3 ?_ dX10_isPlace_16
  rw [hP]
  exact ⟨r2, rfl, rfl, h⟩
theorem myX10_spot : jY yX10_spot cX10_spot 3 (some .int) 2 := ⟨q1887, q139, by decide +kernel, by decide +kernel, by decide⟩
def fX10_spot (A : pA) (p1 : Int32) (p2 : Int32) (Q : Int32 → pA → Prop) : Prop :=
    fX10_isPlace A p1 (fun r1 => (if r1 = 0 then Q (-1) A else fX10_copies A (fun A2 => (if p2 = 0 then (vp_in ((7 * (A2 1198 18)) + p1) 14) ∧ (Q (A2 1209 ((7 * (A2 1198 18)) + p1).toNatClampNeg) A2) else (if p2 = 1 then (vp_in (A2 1198 18) 2) ∧ (fX10_bitsOf A2 0 (A2 1211 (A2 1198 18).toNatClampNeg) p1 (fun r7 => Q r7 A2)) else (if p2 = 2 then (vp_in (A2 1198 18) 2) ∧ (fX10_bitsOf A2 15 (A2 1215 (A2 1198 18).toNatClampNeg) p1 (fun r10 => Q r10 A2)) else (if p2 = 3 then fX10_errandsLeft A2 (-1) p1 (fun r12 => Q r12 A2) else (Q (-1) A2))))))))
theorem tX10_spot {Γ : jG} {n : Nat} {K : Nat → pKd} {G : pG} {Lg : pL} (hf : mOK n K G) {A : pA} (p1 : Int32) (p2 : Int32) (Q : Int32 → pA → Prop) (h : fX10_spot A p1 p2 Q) : jMet Γ yX10_spot cX10_spot 3 (some .int) [] 3 0 0 [.ref 1198, .int p1, .int p2] (n, K, A, Lg, G) (fun o u => ∃ (r : Int32) (A' : pA), o = .inl (some (.int r)) ∧ u = (n, K, A', Lg, G) ∧ Q r A') := by
  unfold fX10_spot at h
  obtain ⟨P, hP⟩ : ∃ P : jO → pS → Prop, P = (fun o u => ∃ (r : Int32) (A' : pA), o = .inl (some (.int r)) ∧ u = (n, K, A', Lg, G) ∧ Q r A') := ⟨_, rfl⟩
  rw [← hP]
  refine jMet_of rfl rfl rfl (Nat.le_of_ble_eq_true rfl) ?_
  show J Γ RX10 cX10_spot 3 (some .int) "spot" [] 3 0 0 0 [(0, .ref 1198), (1, .int p1), (2, .int p2)] [] (n, K, A, Lg, G) P
  refine j_aload_n 0 rfl dX10_spot_0 ?_
  refine j_iload_n 1 rfl dX10_spot_1 ?_
  refine j_callV (b := 1198) (As := [.int p1]) (st := []) (C := RX10) (kc' := 0) (ks' := 0) (tX10_isPlace hf p1 _ h) myX10_isPlace rfl q1888 q1890 qs85 (by decide) (fun s9 H9 hK9 hR9 h69 => jIs_in hK9 hR9 h69 (m_lt hf (by decide)) (fk_1198 hf) rfl) rfl (Nat.le_of_ble_eq_true rfl) rfl (by decide) (Nat.le_refl 0) (Nat.le_refl 0) dX10_spot_2 (fun v9 u9 hq => ?_) (fun k9 u9 hq => by obtain ⟨_, e9, _⟩ := hq; cases e9)
  obtain ⟨r1, e9, rfl, h⟩ := hq
  obtain rfl := Sum.inl.inj e9
  show J Γ RX10 cX10_spot 3 (some .int) "spot" [] 3 0 0 5 [(0, .ref 1198), (1, .int p1), (2, .int p2)] [.int r1] (n, K, A, Lg, G) P
  refine j_if_ne (tgt := 10) dX10_spot_5 (by decide) (fun c => ?_) (fun c => ?_)
  · rw [if_neg c] at h
    refine j_aload_n 0 rfl dX10_spot_10 ?_
    refine j_callV (b := 1198) (As := []) (st := []) (C := RX10) (kc' := 0) (ks' := 0) (tX10_copies hf  _ h) myX10_copies rfl q1895 q1897 qs86 (by decide) (fun s9 H9 hK9 hR9 h69 => jIs_in hK9 hR9 h69 (m_lt hf (by decide)) (fk_1198 hf) rfl) rfl (Nat.le_of_ble_eq_true rfl) rfl (by decide) (Nat.le_refl 0) (Nat.le_refl 0) dX10_spot_11 (fun v9 u9 hq => ?_) (fun k9 u9 hq => by obtain ⟨_, e9, _⟩ := hq; cases e9)
    obtain ⟨A2, e9, rfl, h⟩ := hq
    obtain rfl := Sum.inl.inj e9
    show J Γ RX10 cX10_spot 3 (some .int) "spot" [] 3 0 0 14 [(0, .ref 1198), (1, .int p1), (2, .int p2)] [] (n, K, A2, Lg, G) P
    refine j_iload_n 2 rfl dX10_spot_14 ?_
    by_cases c3 : p2 = 0
    · rw [if_pos c3] at h
      have c3T : (p2 : Int32).toInt = 0 := by rw [c3]; rfl
      refine j_tableIn (off := 29) (tgt := 44) (by rw [c3T]; decide) (by rw [c3T]; decide) (by rw [c3T]; rfl) dX10_spot_15 (by decide) ?_
      refine j_aload_n 0 rfl dX10_spot_44 ?_
      refine j_getfr fl_X10_49_9 rfl (m_lt hf (by decide)) (fk_1198 hf) (fg_1198_24 hf) dX10_spot_45 ?_
      refine j_bipush (v := 7) dX10_spot_48 (by decide) ?_
      refine j_aload_n 0 rfl dX10_spot_50 ?_
      refine j_getfi fl_X10_242_9 rfl (m_lt hf (by decide)) (fk_1198 hf) dX10_spot_51 ?_
      refine j_imul dX10_spot_54 ?_
      refine j_iload_n 1 rfl dX10_spot_55 ?_
      refine j_iadd dX10_spot_56 ?_
      obtain ⟨b4, h⟩ := h
      refine j_ialdJ (j := ((7 * (A2 1198 18)) + p1).toNatClampNeg) (m_lt hf (by decide)) (fk_1209 hf) b4 rfl dX10_spot_57 ?_
      refine j_iret rfl ?_ dX10_spot_58
      rw [hP]
      exact ⟨A2 1209 ((7 * (A2 1198 18)) + p1).toNatClampNeg, A2, rfl, rfl, h⟩
    rw [if_neg c3] at h
    by_cases c5 : p2 = 1
    · rw [if_pos c5] at h
      have c5T : (p2 : Int32).toInt = 1 := by rw [c5]; rfl
      refine j_tableIn (off := 44) (tgt := 59) (by rw [c5T]; decide) (by rw [c5T]; decide) (by rw [c5T]; rfl) dX10_spot_15 (by decide) ?_
      refine j_aload_n 0 rfl dX10_spot_59 ?_
      refine j_iconst (v := 0) dX10_spot_60 (by decide) ?_
      refine j_aload_n 0 rfl dX10_spot_61 ?_
      refine j_getfr fl_X10_55_9 rfl (m_lt hf (by decide)) (fk_1198 hf) (fg_1198_26 hf) dX10_spot_62 ?_
      refine j_aload_n 0 rfl dX10_spot_65 ?_
      refine j_getfi fl_X10_242_9 rfl (m_lt hf (by decide)) (fk_1198 hf) dX10_spot_66 ?_
      obtain ⟨b6, h⟩ := h
      refine j_ialdJ (j := (A2 1198 18).toNatClampNeg) (m_lt hf (by decide)) (fk_1211 hf) b6 rfl dX10_spot_69 ?_
      refine j_iload_n 1 rfl dX10_spot_70 ?_
      refine j_callV (b := 1198) (As := [.int 0, .int (A2 1211 (A2 1198 18).toNatClampNeg), .int p1]) (st := []) (C := RX10) (kc' := 0) (ks' := 0) (tX10_bitsOf hf 0 (A2 1211 (A2 1198 18).toNatClampNeg) p1 _ h) myX10_bitsOf rfl q1899 q1901 qs87 (by decide) (fun s9 H9 hK9 hR9 h69 => jIs_in hK9 hR9 h69 (m_lt hf (by decide)) (fk_1198 hf) rfl) rfl (Nat.le_of_ble_eq_true rfl) rfl (by decide) (Nat.le_refl 0) (Nat.le_refl 0) dX10_spot_71 (fun v9 u9 hq => ?_) (fun k9 u9 hq => by obtain ⟨_, e9, _⟩ := hq; cases e9)
      obtain ⟨r7, e9, rfl, h⟩ := hq
      obtain rfl := Sum.inl.inj e9
      show J Γ RX10 cX10_spot 3 (some .int) "spot" [] 3 0 0 74 [(0, .ref 1198), (1, .int p1), (2, .int p2)] [.int r7] (n, K, A2, Lg, G) P
      refine j_iret rfl ?_ dX10_spot_74
      rw [hP]
      exact ⟨r7, A2, rfl, rfl, h⟩
    rw [if_neg c5] at h
    by_cases c8 : p2 = 2
    · rw [if_pos c8] at h
      have c8T : (p2 : Int32).toInt = 2 := by rw [c8]; rfl
      refine j_tableIn (off := 60) (tgt := 75) (by rw [c8T]; decide) (by rw [c8T]; decide) (by rw [c8T]; rfl) dX10_spot_15 (by decide) ?_
      refine j_aload_n 0 rfl dX10_spot_75 ?_
      refine j_bipush (v := 15) dX10_spot_76 (by decide) ?_
      refine j_aload_n 0 rfl dX10_spot_78 ?_
      refine j_getfr fl_X10_67_9 rfl (m_lt hf (by decide)) (fk_1198 hf) (fg_1198_30 hf) dX10_spot_79 ?_
      refine j_aload_n 0 rfl dX10_spot_82 ?_
      refine j_getfi fl_X10_242_9 rfl (m_lt hf (by decide)) (fk_1198 hf) dX10_spot_83 ?_
      obtain ⟨b9, h⟩ := h
      refine j_ialdJ (j := (A2 1198 18).toNatClampNeg) (m_lt hf (by decide)) (fk_1215 hf) b9 rfl dX10_spot_86 ?_
      refine j_iload_n 1 rfl dX10_spot_87 ?_
      refine j_callV (b := 1198) (As := [.int 15, .int (A2 1215 (A2 1198 18).toNatClampNeg), .int p1]) (st := []) (C := RX10) (kc' := 0) (ks' := 0) (tX10_bitsOf hf 15 (A2 1215 (A2 1198 18).toNatClampNeg) p1 _ h) myX10_bitsOf rfl q1899 q1901 qs87 (by decide) (fun s9 H9 hK9 hR9 h69 => jIs_in hK9 hR9 h69 (m_lt hf (by decide)) (fk_1198 hf) rfl) rfl (Nat.le_of_ble_eq_true rfl) rfl (by decide) (Nat.le_refl 0) (Nat.le_refl 0) dX10_spot_88 (fun v9 u9 hq => ?_) (fun k9 u9 hq => by obtain ⟨_, e9, _⟩ := hq; cases e9)
      obtain ⟨r10, e9, rfl, h⟩ := hq
      obtain rfl := Sum.inl.inj e9
      show J Γ RX10 cX10_spot 3 (some .int) "spot" [] 3 0 0 91 [(0, .ref 1198), (1, .int p1), (2, .int p2)] [.int r10] (n, K, A2, Lg, G) P
      refine j_iret rfl ?_ dX10_spot_91
      rw [hP]
      exact ⟨r10, A2, rfl, rfl, h⟩
    rw [if_neg c8] at h
    by_cases c11 : p2 = 3
    · rw [if_pos c11] at h
      have c11T : (p2 : Int32).toInt = 3 := by rw [c11]; rfl
      refine j_tableIn (off := 77) (tgt := 92) (by rw [c11T]; decide) (by rw [c11T]; decide) (by rw [c11T]; rfl) dX10_spot_15 (by decide) ?_
      refine j_aload_n 0 rfl dX10_spot_92 ?_
      refine j_iconst (v := (-1)) dX10_spot_93 (by decide) ?_
      refine j_iload_n 1 rfl dX10_spot_94 ?_
      refine j_callV (b := 1198) (As := [.int (-1), .int p1]) (st := []) (C := RX10) (kc' := 0) (ks' := 0) (tX10_errandsLeft hf (-1) p1 _ h) myX10_errandsLeft rfl q1903 q1905 qs88 (by decide) (fun s9 H9 hK9 hR9 h69 => jIs_in hK9 hR9 h69 (m_lt hf (by decide)) (fk_1198 hf) rfl) rfl (Nat.le_of_ble_eq_true rfl) rfl (by decide) (Nat.le_refl 0) (Nat.le_refl 0) dX10_spot_95 (fun v9 u9 hq => ?_) (fun k9 u9 hq => by obtain ⟨_, e9, _⟩ := hq; cases e9)
      obtain ⟨r12, e9, rfl, h⟩ := hq
      obtain rfl := Sum.inl.inj e9
      show J Γ RX10 cX10_spot 3 (some .int) "spot" [] 3 0 0 98 [(0, .ref 1198), (1, .int p1), (2, .int p2)] [.int r12] (n, K, A2, Lg, G) P
      refine j_iret rfl ?_ dX10_spot_98
      rw [hP]
      exact ⟨r12, A2, rfl, rfl, h⟩
    rw [if_neg c11] at h
    refine j_tableOut (tgt := 99) (by have c3T := lv_neT c3 (a := 0) rfl; have c5T := lv_neT c5 (a := 1) rfl; have c8T := lv_neT c8 (a := 2) rfl; have c11T := lv_neT c11 (a := 3) rfl; omega) dX10_spot_15 (by decide) ?_
    refine j_iconst (v := (-1)) dX10_spot_99 (by decide) ?_
    refine j_iret rfl ?_ dX10_spot_100
    rw [hP]
    exact ⟨(-1), A2, rfl, rfl, h⟩
  · rw [if_pos c] at h
    refine j_iconst (v := (-1)) dX10_spot_8 (by decide) ?_
    refine j_iret rfl ?_ dX10_spot_9
    rw [hP]
    exact ⟨(-1), A, rfl, rfl, h⟩
theorem myX10_isDog : jY yX10_isDog cX10_isDog 2 (some .boolean) 1 := ⟨q1914, q139, by decide +kernel, by decide +kernel, by decide⟩
def fX10_isDog (A : pA) (p1 : Int32) (Q : Int32 → Prop) : Prop :=
    (vp_in (A 1198 18) 2) ∧ (fX10_in A p1 0 ((A 1211 (A 1198 18).toNatClampNeg) - 1) (fun r2 => (narrow .boolean (.int r2) = .int r2) ∧ (Q r2)))
theorem tX10_isDog {Γ : jG} {n : Nat} {K : Nat → pKd} {G : pG} {Lg : pL} (hf : mOK n K G) {A : pA} (p1 : Int32) (Q : Int32 → Prop) (h : fX10_isDog A p1 Q) : jMet Γ yX10_isDog cX10_isDog 2 (some .boolean) [] 2 0 0 [.ref 1198, .int p1] (n, K, A, Lg, G) (fun o u => ∃ (r : Int32), o = .inl (some (.int r)) ∧ u = (n, K, A, Lg, G) ∧ Q r) := by
  unfold fX10_isDog at h
  obtain ⟨P, hP⟩ : ∃ P : jO → pS → Prop, P = (fun o u => ∃ (r : Int32), o = .inl (some (.int r)) ∧ u = (n, K, A, Lg, G) ∧ Q r) := ⟨_, rfl⟩
  rw [← hP]
  refine jMet_of rfl rfl rfl (Nat.le_of_ble_eq_true rfl) ?_
  show J Γ RX10 cX10_isDog 2 (some .boolean) "isDog" [] 2 0 0 0 [(0, .ref 1198), (1, .int p1)] [] (n, K, A, Lg, G) P
  refine j_iload_n 1 rfl dX10_isDog_0 ?_
  refine j_iconst (v := 0) dX10_isDog_1 (by decide) ?_
  refine j_aload_n 0 rfl dX10_isDog_2 ?_
  refine j_getfr fl_X10_55_9 rfl (m_lt hf (by decide)) (fk_1198 hf) (fg_1198_26 hf) dX10_isDog_3 ?_
  refine j_aload_n 0 rfl dX10_isDog_6 ?_
  refine j_getfi fl_X10_242_9 rfl (m_lt hf (by decide)) (fk_1198 hf) dX10_isDog_7 ?_
  obtain ⟨b1, h⟩ := h
  refine j_ialdJ (j := (A 1198 18).toNatClampNeg) (m_lt hf (by decide)) (fk_1211 hf) b1 rfl dX10_isDog_10 ?_
  refine j_iconst (v := 1) dX10_isDog_11 (by decide) ?_
  refine j_isub dX10_isDog_12 ?_
  refine j_callS (As := [.int p1, .int 0, .int ((A 1211 (A 1198 18).toNatClampNeg) - 1)]) (st := []) (kc' := 0) (ks' := 0) (tX10_in hf p1 0 ((A 1211 (A 1198 18).toNatClampNeg) - 1) _ h) myX10_in q1892 q1893 rfl (Nat.le_of_ble_eq_true rfl) rfl (by decide) (Nat.le_refl 0) (Nat.le_refl 0) dX10_isDog_13 (fun v9 u9 hq => ?_) (fun k9 u9 hq => by obtain ⟨_, e9, _⟩ := hq; cases e9)
  obtain ⟨r2, e9, rfl, h⟩ := hq
  obtain rfl := Sum.inl.inj e9
  show J Γ RX10 cX10_isDog 2 (some .boolean) "isDog" [] 2 0 0 16 [(0, .ref 1198), (1, .int p1)] [.int r2] (n, K, A, Lg, G) P
  obtain ⟨b3, h⟩ := h
  refine j_zret rfl b3 ?_ dX10_isDog_16
  rw [hP]
  exact ⟨r2, rfl, rfl, h⟩
theorem myX10_dog : jY yX10_dog cX10_dog 3 (some .int) 2 := ⟨q1910, q139, by decide +kernel, by decide +kernel, by decide⟩
def fX10_dog (A : pA) (p1 : Int32) (p2 : Int32) (Q : Int32 → Prop) : Prop :=
    fX10_isDog A p1 (fun r1 => (if r1 = 0 then Q (-1) else (if p2 = 0 then (vp_in ((5 * (A 1198 18)) + p1) 10) ∧ (Q (A 1212 ((5 * (A 1198 18)) + p1).toNatClampNeg)) else (if p2 = 1 then (vp_in ((5 * (A 1198 18)) + p1) 10) ∧ (Q (A 1213 ((5 * (A 1198 18)) + p1).toNatClampNeg)) else (if p2 = 2 then (vp_in ((5 * (A 1198 18)) + p1) 10) ∧ (Q (A 1214 ((5 * (A 1198 18)) + p1).toNatClampNeg)) else (if p2 = 3 then (vp_in ((5 * (p2 - 3)) + p1) 77) ∧ (Q (A 1237 ((5 * (p2 - 3)) + p1).toNatClampNeg)) else (if p2 = 4 then (vp_in ((5 * (p2 - 3)) + p1) 77) ∧ (Q (A 1237 ((5 * (p2 - 3)) + p1).toNatClampNeg)) else (if p2 = 5 then (vp_in ((5 * (p2 - 3)) + p1) 77) ∧ (Q (A 1237 ((5 * (p2 - 3)) + p1).toNatClampNeg)) else (Q (-1))))))))))
theorem tX10_dog {Γ : jG} {n : Nat} {K : Nat → pKd} {G : pG} {Lg : pL} (hf : mOK n K G) {A : pA} (p1 : Int32) (p2 : Int32) (Q : Int32 → Prop) (h : fX10_dog A p1 p2 Q) : jMet Γ yX10_dog cX10_dog 3 (some .int) [] 3 0 0 [.ref 1198, .int p1, .int p2] (n, K, A, Lg, G) (fun o u => ∃ (r : Int32), o = .inl (some (.int r)) ∧ u = (n, K, A, Lg, G) ∧ Q r) := by
  unfold fX10_dog at h
  obtain ⟨P, hP⟩ : ∃ P : jO → pS → Prop, P = (fun o u => ∃ (r : Int32), o = .inl (some (.int r)) ∧ u = (n, K, A, Lg, G) ∧ Q r) := ⟨_, rfl⟩
  rw [← hP]
  refine jMet_of rfl rfl rfl (Nat.le_of_ble_eq_true rfl) ?_
  show J Γ RX10 cX10_dog 3 (some .int) "dog" [] 3 0 0 0 [(0, .ref 1198), (1, .int p1), (2, .int p2)] [] (n, K, A, Lg, G) P
  refine j_aload_n 0 rfl dX10_dog_0 ?_
  refine j_iload_n 1 rfl dX10_dog_1 ?_
  refine j_callV (b := 1198) (As := [.int p1]) (st := []) (C := RX10) (kc' := 0) (ks' := 0) (tX10_isDog hf p1 _ h) myX10_isDog rfl q1911 q1913 qs89 (by decide) (fun s9 H9 hK9 hR9 h69 => jIs_in hK9 hR9 h69 (m_lt hf (by decide)) (fk_1198 hf) rfl) rfl (Nat.le_of_ble_eq_true rfl) rfl (by decide) (Nat.le_refl 0) (Nat.le_refl 0) dX10_dog_2 (fun v9 u9 hq => ?_) (fun k9 u9 hq => by obtain ⟨_, e9, _⟩ := hq; cases e9)
  obtain ⟨r1, e9, rfl, h⟩ := hq
  obtain rfl := Sum.inl.inj e9
  show J Γ RX10 cX10_dog 3 (some .int) "dog" [] 3 0 0 5 [(0, .ref 1198), (1, .int p1), (2, .int p2)] [.int r1] (n, K, A, Lg, G) P
  refine j_if_ne (tgt := 10) dX10_dog_5 (by decide) (fun c => ?_) (fun c => ?_)
  · rw [if_neg c] at h
    refine j_iload_n 2 rfl dX10_dog_10 ?_
    by_cases c2 : p2 = 0
    · rw [if_pos c2] at h
      have c2T : (p2 : Int32).toInt = 0 := by rw [c2]; rfl
      refine j_tableIn (off := 37) (tgt := 48) (by rw [c2T]; decide) (by rw [c2T]; decide) (by rw [c2T]; rfl) dX10_dog_11 (by decide) ?_
      refine j_aload_n 0 rfl dX10_dog_48 ?_
      refine j_getfr fl_X10_58_9 rfl (m_lt hf (by decide)) (fk_1198 hf) (fg_1198_27 hf) dX10_dog_49 ?_
      refine j_iconst (v := 5) dX10_dog_52 (by decide) ?_
      refine j_aload_n 0 rfl dX10_dog_53 ?_
      refine j_getfi fl_X10_242_9 rfl (m_lt hf (by decide)) (fk_1198 hf) dX10_dog_54 ?_
      refine j_imul dX10_dog_57 ?_
      refine j_iload_n 1 rfl dX10_dog_58 ?_
      refine j_iadd dX10_dog_59 ?_
      obtain ⟨b3, h⟩ := h
      refine j_ialdJ (j := ((5 * (A 1198 18)) + p1).toNatClampNeg) (m_lt hf (by decide)) (fk_1212 hf) b3 rfl dX10_dog_60 ?_
      refine j_iret rfl ?_ dX10_dog_61
      rw [hP]
      exact ⟨A 1212 ((5 * (A 1198 18)) + p1).toNatClampNeg, rfl, rfl, h⟩
    rw [if_neg c2] at h
    by_cases c4 : p2 = 1
    · rw [if_pos c4] at h
      have c4T : (p2 : Int32).toInt = 1 := by rw [c4]; rfl
      refine j_tableIn (off := 51) (tgt := 62) (by rw [c4T]; decide) (by rw [c4T]; decide) (by rw [c4T]; rfl) dX10_dog_11 (by decide) ?_
      refine j_aload_n 0 rfl dX10_dog_62 ?_
      refine j_getfr fl_X10_61_9 rfl (m_lt hf (by decide)) (fk_1198 hf) (fg_1198_28 hf) dX10_dog_63 ?_
      refine j_iconst (v := 5) dX10_dog_66 (by decide) ?_
      refine j_aload_n 0 rfl dX10_dog_67 ?_
      refine j_getfi fl_X10_242_9 rfl (m_lt hf (by decide)) (fk_1198 hf) dX10_dog_68 ?_
      refine j_imul dX10_dog_71 ?_
      refine j_iload_n 1 rfl dX10_dog_72 ?_
      refine j_iadd dX10_dog_73 ?_
      obtain ⟨b5, h⟩ := h
      refine j_ialdJ (j := ((5 * (A 1198 18)) + p1).toNatClampNeg) (m_lt hf (by decide)) (fk_1213 hf) b5 rfl dX10_dog_74 ?_
      refine j_iret rfl ?_ dX10_dog_75
      rw [hP]
      exact ⟨A 1213 ((5 * (A 1198 18)) + p1).toNatClampNeg, rfl, rfl, h⟩
    rw [if_neg c4] at h
    by_cases c6 : p2 = 2
    · rw [if_pos c6] at h
      have c6T : (p2 : Int32).toInt = 2 := by rw [c6]; rfl
      refine j_tableIn (off := 65) (tgt := 76) (by rw [c6T]; decide) (by rw [c6T]; decide) (by rw [c6T]; rfl) dX10_dog_11 (by decide) ?_
      refine j_aload_n 0 rfl dX10_dog_76 ?_
      refine j_getfr fl_X10_64_9 rfl (m_lt hf (by decide)) (fk_1198 hf) (fg_1198_29 hf) dX10_dog_77 ?_
      refine j_iconst (v := 5) dX10_dog_80 (by decide) ?_
      refine j_aload_n 0 rfl dX10_dog_81 ?_
      refine j_getfi fl_X10_242_9 rfl (m_lt hf (by decide)) (fk_1198 hf) dX10_dog_82 ?_
      refine j_imul dX10_dog_85 ?_
      refine j_iload_n 1 rfl dX10_dog_86 ?_
      refine j_iadd dX10_dog_87 ?_
      obtain ⟨b7, h⟩ := h
      refine j_ialdJ (j := ((5 * (A 1198 18)) + p1).toNatClampNeg) (m_lt hf (by decide)) (fk_1214 hf) b7 rfl dX10_dog_88 ?_
      refine j_iret rfl ?_ dX10_dog_89
      rw [hP]
      exact ⟨A 1214 ((5 * (A 1198 18)) + p1).toNatClampNeg, rfl, rfl, h⟩
    rw [if_neg c6] at h
    by_cases c8 : p2 = 3
    · rw [if_pos c8] at h
      have c8T : (p2 : Int32).toInt = 3 := by rw [c8]; rfl
      refine j_tableIn (off := 79) (tgt := 90) (by rw [c8T]; decide) (by rw [c8T]; decide) (by rw [c8T]; rfl) dX10_dog_11 (by decide) ?_
      refine j_aload_n 0 rfl dX10_dog_90 ?_
      refine j_getfr fl_X10_134_9 rfl (m_lt hf (by decide)) (fk_1198 hf) (fg_1198_56 hf) dX10_dog_91 ?_
      refine j_iconst (v := 5) dX10_dog_94 (by decide) ?_
      refine j_iload_n 2 rfl dX10_dog_95 ?_
      refine j_iconst (v := 3) dX10_dog_96 (by decide) ?_
      refine j_isub dX10_dog_97 ?_
      refine j_imul dX10_dog_98 ?_
      refine j_iload_n 1 rfl dX10_dog_99 ?_
      refine j_iadd dX10_dog_100 ?_
      obtain ⟨b9, h⟩ := h
      refine j_ialdJ (j := ((5 * (p2 - 3)) + p1).toNatClampNeg) (m_lt hf (by decide)) (fk_1237 hf) b9 rfl dX10_dog_101 ?_
      refine j_iret rfl ?_ dX10_dog_102
      rw [hP]
      exact ⟨A 1237 ((5 * (p2 - 3)) + p1).toNatClampNeg, rfl, rfl, h⟩
    rw [if_neg c8] at h
    by_cases c10 : p2 = 4
    · rw [if_pos c10] at h
      have c10T : (p2 : Int32).toInt = 4 := by rw [c10]; rfl
      refine j_tableIn (off := 79) (tgt := 90) (by rw [c10T]; decide) (by rw [c10T]; decide) (by rw [c10T]; rfl) dX10_dog_11 (by decide) ?_
      refine j_aload_n 0 rfl dX10_dog_90 ?_
      refine j_getfr fl_X10_134_9 rfl (m_lt hf (by decide)) (fk_1198 hf) (fg_1198_56 hf) dX10_dog_91 ?_
      refine j_iconst (v := 5) dX10_dog_94 (by decide) ?_
      refine j_iload_n 2 rfl dX10_dog_95 ?_
      refine j_iconst (v := 3) dX10_dog_96 (by decide) ?_
      refine j_isub dX10_dog_97 ?_
      refine j_imul dX10_dog_98 ?_
      refine j_iload_n 1 rfl dX10_dog_99 ?_
      refine j_iadd dX10_dog_100 ?_
      obtain ⟨b11, h⟩ := h
      refine j_ialdJ (j := ((5 * (p2 - 3)) + p1).toNatClampNeg) (m_lt hf (by decide)) (fk_1237 hf) b11 rfl dX10_dog_101 ?_
      refine j_iret rfl ?_ dX10_dog_102
      rw [hP]
      exact ⟨A 1237 ((5 * (p2 - 3)) + p1).toNatClampNeg, rfl, rfl, h⟩
    rw [if_neg c10] at h
    by_cases c12 : p2 = 5
    · rw [if_pos c12] at h
      have c12T : (p2 : Int32).toInt = 5 := by rw [c12]; rfl
      refine j_tableIn (off := 79) (tgt := 90) (by rw [c12T]; decide) (by rw [c12T]; decide) (by rw [c12T]; rfl) dX10_dog_11 (by decide) ?_
      refine j_aload_n 0 rfl dX10_dog_90 ?_
      refine j_getfr fl_X10_134_9 rfl (m_lt hf (by decide)) (fk_1198 hf) (fg_1198_56 hf) dX10_dog_91 ?_
      refine j_iconst (v := 5) dX10_dog_94 (by decide) ?_
      refine j_iload_n 2 rfl dX10_dog_95 ?_
      refine j_iconst (v := 3) dX10_dog_96 (by decide) ?_
      refine j_isub dX10_dog_97 ?_
      refine j_imul dX10_dog_98 ?_
      refine j_iload_n 1 rfl dX10_dog_99 ?_
      refine j_iadd dX10_dog_100 ?_
      obtain ⟨b13, h⟩ := h
      refine j_ialdJ (j := ((5 * (p2 - 3)) + p1).toNatClampNeg) (m_lt hf (by decide)) (fk_1237 hf) b13 rfl dX10_dog_101 ?_
      refine j_iret rfl ?_ dX10_dog_102
      rw [hP]
      exact ⟨A 1237 ((5 * (p2 - 3)) + p1).toNatClampNeg, rfl, rfl, h⟩
    rw [if_neg c12] at h
    refine j_tableOut (tgt := 103) (by have c2T := lv_neT c2 (a := 0) rfl; have c4T := lv_neT c4 (a := 1) rfl; have c6T := lv_neT c6 (a := 2) rfl; have c8T := lv_neT c8 (a := 3) rfl; have c10T := lv_neT c10 (a := 4) rfl; have c12T := lv_neT c12 (a := 5) rfl; omega) dX10_dog_11 (by decide) ?_
    refine j_iconst (v := (-1)) dX10_dog_103 (by decide) ?_
    refine j_iret rfl ?_ dX10_dog_104
    rw [hP]
    exact ⟨(-1), rfl, rfl, h⟩
  · rw [if_pos c] at h
    refine j_iconst (v := (-1)) dX10_dog_8 (by decide) ?_
    refine j_iret rfl ?_ dX10_dog_9
    rw [hP]
    exact ⟨(-1), rfl, rfl, h⟩
theorem myX10_isPerson : jY yX10_isPerson cX10_isPerson 2 (some .boolean) 1 := ⟨q1922, q139, by decide +kernel, by decide +kernel, by decide⟩
def fX10_isPerson (A : pA) (p1 : Int32) (Q : Int32 → Prop) : Prop :=
    (vp_in (A 1198 18) 2) ∧ (fX10_in A p1 0 ((A 1215 (A 1198 18).toNatClampNeg) - 1) (fun r2 => (narrow .boolean (.int r2) = .int r2) ∧ (Q r2)))
theorem tX10_isPerson {Γ : jG} {n : Nat} {K : Nat → pKd} {G : pG} {Lg : pL} (hf : mOK n K G) {A : pA} (p1 : Int32) (Q : Int32 → Prop) (h : fX10_isPerson A p1 Q) : jMet Γ yX10_isPerson cX10_isPerson 2 (some .boolean) [] 2 0 0 [.ref 1198, .int p1] (n, K, A, Lg, G) (fun o u => ∃ (r : Int32), o = .inl (some (.int r)) ∧ u = (n, K, A, Lg, G) ∧ Q r) := by
  unfold fX10_isPerson at h
  obtain ⟨P, hP⟩ : ∃ P : jO → pS → Prop, P = (fun o u => ∃ (r : Int32), o = .inl (some (.int r)) ∧ u = (n, K, A, Lg, G) ∧ Q r) := ⟨_, rfl⟩
  rw [← hP]
  refine jMet_of rfl rfl rfl (Nat.le_of_ble_eq_true rfl) ?_
  show J Γ RX10 cX10_isPerson 2 (some .boolean) "isPerson" [] 2 0 0 0 [(0, .ref 1198), (1, .int p1)] [] (n, K, A, Lg, G) P
  refine j_iload_n 1 rfl dX10_isPerson_0 ?_
  refine j_iconst (v := 0) dX10_isPerson_1 (by decide) ?_
  refine j_aload_n 0 rfl dX10_isPerson_2 ?_
  refine j_getfr fl_X10_67_9 rfl (m_lt hf (by decide)) (fk_1198 hf) (fg_1198_30 hf) dX10_isPerson_3 ?_
  refine j_aload_n 0 rfl dX10_isPerson_6 ?_
  refine j_getfi fl_X10_242_9 rfl (m_lt hf (by decide)) (fk_1198 hf) dX10_isPerson_7 ?_
  obtain ⟨b1, h⟩ := h
  refine j_ialdJ (j := (A 1198 18).toNatClampNeg) (m_lt hf (by decide)) (fk_1215 hf) b1 rfl dX10_isPerson_10 ?_
  refine j_iconst (v := 1) dX10_isPerson_11 (by decide) ?_
  refine j_isub dX10_isPerson_12 ?_
  refine j_callS (As := [.int p1, .int 0, .int ((A 1215 (A 1198 18).toNatClampNeg) - 1)]) (st := []) (kc' := 0) (ks' := 0) (tX10_in hf p1 0 ((A 1215 (A 1198 18).toNatClampNeg) - 1) _ h) myX10_in q1892 q1893 rfl (Nat.le_of_ble_eq_true rfl) rfl (by decide) (Nat.le_refl 0) (Nat.le_refl 0) dX10_isPerson_13 (fun v9 u9 hq => ?_) (fun k9 u9 hq => by obtain ⟨_, e9, _⟩ := hq; cases e9)
  obtain ⟨r2, e9, rfl, h⟩ := hq
  obtain rfl := Sum.inl.inj e9
  show J Γ RX10 cX10_isPerson 2 (some .boolean) "isPerson" [] 2 0 0 16 [(0, .ref 1198), (1, .int p1)] [.int r2] (n, K, A, Lg, G) P
  obtain ⟨b3, h⟩ := h
  refine j_zret rfl b3 ?_ dX10_isPerson_16
  rw [hP]
  exact ⟨r2, rfl, rfl, h⟩
theorem myX10_person : jY yX10_person cX10_person 3 (some .int) 2 := ⟨q1918, q139, by decide +kernel, by decide +kernel, by decide⟩
def fX10_person (A : pA) (p1 : Int32) (p2 : Int32) (Q : Int32 → pA → Prop) : Prop :=
    fX10_isPerson A p1 (fun r1 => (if r1 = 0 then Q (-1) A else fX10_copies A (fun A2 => (if p2 = 0 then (vp_in ((4 * (A2 1198 18)) + p1) 8) ∧ (Q (A2 1216 ((4 * (A2 1198 18)) + p1).toNatClampNeg) A2) else (if p2 = 1 then (vp_in (23 + p1) 77) ∧ (Q (A2 1238 (23 + p1).toNatClampNeg) A2) else (if p2 = 2 then (vp_in (15 + p1) 77) ∧ (Q (A2 1238 (15 + p1).toNatClampNeg) A2) else (if p2 = 3 then (vp_in (19 + p1) 77) ∧ (Q (A2 1238 (19 + p1).toNatClampNeg) A2) else (if p2 = 4 then (vp_in (27 + p1) 77) ∧ (Q (A2 1238 (27 + p1).toNatClampNeg) A2) else (if p2 = 5 then fX10_errandsLeft A2 p1 (-1) (fun r14 => Q r14 A2) else (if p2 = 6 then (vp_in (31 + p1) 77) ∧ (Q (A2 1238 (31 + p1).toNatClampNeg) A2) else (Q (-1) A2)))))))))))
theorem tX10_person {Γ : jG} {n : Nat} {K : Nat → pKd} {G : pG} {Lg : pL} (hf : mOK n K G) {A : pA} (p1 : Int32) (p2 : Int32) (Q : Int32 → pA → Prop) (h : fX10_person A p1 p2 Q) : jMet Γ yX10_person cX10_person 3 (some .int) [] 3 0 0 [.ref 1198, .int p1, .int p2] (n, K, A, Lg, G) (fun o u => ∃ (r : Int32) (A' : pA), o = .inl (some (.int r)) ∧ u = (n, K, A', Lg, G) ∧ Q r A') := by
  unfold fX10_person at h
  obtain ⟨P, hP⟩ : ∃ P : jO → pS → Prop, P = (fun o u => ∃ (r : Int32) (A' : pA), o = .inl (some (.int r)) ∧ u = (n, K, A', Lg, G) ∧ Q r A') := ⟨_, rfl⟩
  rw [← hP]
  refine jMet_of rfl rfl rfl (Nat.le_of_ble_eq_true rfl) ?_
  show J Γ RX10 cX10_person 3 (some .int) "person" [] 3 0 0 0 [(0, .ref 1198), (1, .int p1), (2, .int p2)] [] (n, K, A, Lg, G) P
  refine j_aload_n 0 rfl dX10_person_0 ?_
  refine j_iload_n 1 rfl dX10_person_1 ?_
  refine j_callV (b := 1198) (As := [.int p1]) (st := []) (C := RX10) (kc' := 0) (ks' := 0) (tX10_isPerson hf p1 _ h) myX10_isPerson rfl q1919 q1921 qs90 (by decide) (fun s9 H9 hK9 hR9 h69 => jIs_in hK9 hR9 h69 (m_lt hf (by decide)) (fk_1198 hf) rfl) rfl (Nat.le_of_ble_eq_true rfl) rfl (by decide) (Nat.le_refl 0) (Nat.le_refl 0) dX10_person_2 (fun v9 u9 hq => ?_) (fun k9 u9 hq => by obtain ⟨_, e9, _⟩ := hq; cases e9)
  obtain ⟨r1, e9, rfl, h⟩ := hq
  obtain rfl := Sum.inl.inj e9
  show J Γ RX10 cX10_person 3 (some .int) "person" [] 3 0 0 5 [(0, .ref 1198), (1, .int p1), (2, .int p2)] [.int r1] (n, K, A, Lg, G) P
  refine j_if_ne (tgt := 10) dX10_person_5 (by decide) (fun c => ?_) (fun c => ?_)
  · rw [if_neg c] at h
    refine j_aload_n 0 rfl dX10_person_10 ?_
    refine j_callV (b := 1198) (As := []) (st := []) (C := RX10) (kc' := 0) (ks' := 0) (tX10_copies hf  _ h) myX10_copies rfl q1895 q1897 qs86 (by decide) (fun s9 H9 hK9 hR9 h69 => jIs_in hK9 hR9 h69 (m_lt hf (by decide)) (fk_1198 hf) rfl) rfl (Nat.le_of_ble_eq_true rfl) rfl (by decide) (Nat.le_refl 0) (Nat.le_refl 0) dX10_person_11 (fun v9 u9 hq => ?_) (fun k9 u9 hq => by obtain ⟨_, e9, _⟩ := hq; cases e9)
    obtain ⟨A2, e9, rfl, h⟩ := hq
    obtain rfl := Sum.inl.inj e9
    show J Γ RX10 cX10_person 3 (some .int) "person" [] 3 0 0 14 [(0, .ref 1198), (1, .int p1), (2, .int p2)] [] (n, K, A2, Lg, G) P
    refine j_iload_n 2 rfl dX10_person_14 ?_
    by_cases c3 : p2 = 0
    · rw [if_pos c3] at h
      have c3T : (p2 : Int32).toInt = 0 := by rw [c3]; rfl
      refine j_tableIn (off := 41) (tgt := 56) (by rw [c3T]; decide) (by rw [c3T]; decide) (by rw [c3T]; rfl) dX10_person_15 (by decide) ?_
      refine j_aload_n 0 rfl dX10_person_56 ?_
      refine j_getfr fl_X10_70_9 rfl (m_lt hf (by decide)) (fk_1198 hf) (fg_1198_31 hf) dX10_person_57 ?_
      refine j_iconst (v := 4) dX10_person_60 (by decide) ?_
      refine j_aload_n 0 rfl dX10_person_61 ?_
      refine j_getfi fl_X10_242_9 rfl (m_lt hf (by decide)) (fk_1198 hf) dX10_person_62 ?_
      refine j_imul dX10_person_65 ?_
      refine j_iload_n 1 rfl dX10_person_66 ?_
      refine j_iadd dX10_person_67 ?_
      obtain ⟨b4, h⟩ := h
      refine j_ialdJ (j := ((4 * (A2 1198 18)) + p1).toNatClampNeg) (m_lt hf (by decide)) (fk_1216 hf) b4 rfl dX10_person_68 ?_
      refine j_iret rfl ?_ dX10_person_69
      rw [hP]
      exact ⟨A2 1216 ((4 * (A2 1198 18)) + p1).toNatClampNeg, A2, rfl, rfl, h⟩
    rw [if_neg c3] at h
    by_cases c5 : p2 = 1
    · rw [if_pos c5] at h
      have c5T : (p2 : Int32).toInt = 1 := by rw [c5]; rfl
      refine j_tableIn (off := 55) (tgt := 70) (by rw [c5T]; decide) (by rw [c5T]; decide) (by rw [c5T]; rfl) dX10_person_15 (by decide) ?_
      refine j_aload_n 0 rfl dX10_person_70 ?_
      refine j_getfr fl_X10_137_9 rfl (m_lt hf (by decide)) (fk_1198 hf) (fg_1198_57 hf) dX10_person_71 ?_
      refine j_bipush (v := 23) dX10_person_74 (by decide) ?_
      refine j_iload_n 1 rfl dX10_person_76 ?_
      refine j_iadd dX10_person_77 ?_
      obtain ⟨b6, h⟩ := h
      refine j_ialdJ (j := (23 + p1).toNatClampNeg) (m_lt hf (by decide)) (fk_1238 hf) b6 rfl dX10_person_78 ?_
      refine j_iret rfl ?_ dX10_person_79
      rw [hP]
      exact ⟨A2 1238 (23 + p1).toNatClampNeg, A2, rfl, rfl, h⟩
    rw [if_neg c5] at h
    by_cases c7 : p2 = 2
    · rw [if_pos c7] at h
      have c7T : (p2 : Int32).toInt = 2 := by rw [c7]; rfl
      refine j_tableIn (off := 65) (tgt := 80) (by rw [c7T]; decide) (by rw [c7T]; decide) (by rw [c7T]; rfl) dX10_person_15 (by decide) ?_
      refine j_aload_n 0 rfl dX10_person_80 ?_
      refine j_getfr fl_X10_137_9 rfl (m_lt hf (by decide)) (fk_1198 hf) (fg_1198_57 hf) dX10_person_81 ?_
      refine j_bipush (v := 15) dX10_person_84 (by decide) ?_
      refine j_iload_n 1 rfl dX10_person_86 ?_
      refine j_iadd dX10_person_87 ?_
      obtain ⟨b8, h⟩ := h
      refine j_ialdJ (j := (15 + p1).toNatClampNeg) (m_lt hf (by decide)) (fk_1238 hf) b8 rfl dX10_person_88 ?_
      refine j_iret rfl ?_ dX10_person_89
      rw [hP]
      exact ⟨A2 1238 (15 + p1).toNatClampNeg, A2, rfl, rfl, h⟩
    rw [if_neg c7] at h
    by_cases c9 : p2 = 3
    · rw [if_pos c9] at h
      have c9T : (p2 : Int32).toInt = 3 := by rw [c9]; rfl
      refine j_tableIn (off := 75) (tgt := 90) (by rw [c9T]; decide) (by rw [c9T]; decide) (by rw [c9T]; rfl) dX10_person_15 (by decide) ?_
      refine j_aload_n 0 rfl dX10_person_90 ?_
      refine j_getfr fl_X10_137_9 rfl (m_lt hf (by decide)) (fk_1198 hf) (fg_1198_57 hf) dX10_person_91 ?_
      refine j_bipush (v := 19) dX10_person_94 (by decide) ?_
      refine j_iload_n 1 rfl dX10_person_96 ?_
      refine j_iadd dX10_person_97 ?_
      obtain ⟨b10, h⟩ := h
      refine j_ialdJ (j := (19 + p1).toNatClampNeg) (m_lt hf (by decide)) (fk_1238 hf) b10 rfl dX10_person_98 ?_
      refine j_iret rfl ?_ dX10_person_99
      rw [hP]
      exact ⟨A2 1238 (19 + p1).toNatClampNeg, A2, rfl, rfl, h⟩
    rw [if_neg c9] at h
    by_cases c11 : p2 = 4
    · rw [if_pos c11] at h
      have c11T : (p2 : Int32).toInt = 4 := by rw [c11]; rfl
      refine j_tableIn (off := 85) (tgt := 100) (by rw [c11T]; decide) (by rw [c11T]; decide) (by rw [c11T]; rfl) dX10_person_15 (by decide) ?_
      refine j_aload_n 0 rfl dX10_person_100 ?_
      refine j_getfr fl_X10_137_9 rfl (m_lt hf (by decide)) (fk_1198 hf) (fg_1198_57 hf) dX10_person_101 ?_
      refine j_bipush (v := 27) dX10_person_104 (by decide) ?_
      refine j_iload_n 1 rfl dX10_person_106 ?_
      refine j_iadd dX10_person_107 ?_
      obtain ⟨b12, h⟩ := h
      refine j_ialdJ (j := (27 + p1).toNatClampNeg) (m_lt hf (by decide)) (fk_1238 hf) b12 rfl dX10_person_108 ?_
      refine j_iret rfl ?_ dX10_person_109
      rw [hP]
      exact ⟨A2 1238 (27 + p1).toNatClampNeg, A2, rfl, rfl, h⟩
    rw [if_neg c11] at h
    by_cases c13 : p2 = 5
    · rw [if_pos c13] at h
      have c13T : (p2 : Int32).toInt = 5 := by rw [c13]; rfl
      refine j_tableIn (off := 95) (tgt := 110) (by rw [c13T]; decide) (by rw [c13T]; decide) (by rw [c13T]; rfl) dX10_person_15 (by decide) ?_
      refine j_aload_n 0 rfl dX10_person_110 ?_
      refine j_iload_n 1 rfl dX10_person_111 ?_
      refine j_iconst (v := (-1)) dX10_person_112 (by decide) ?_
      refine j_callV (b := 1198) (As := [.int p1, .int (-1)]) (st := []) (C := RX10) (kc' := 0) (ks' := 0) (tX10_errandsLeft hf p1 (-1) _ h) myX10_errandsLeft rfl q1903 q1905 qs88 (by decide) (fun s9 H9 hK9 hR9 h69 => jIs_in hK9 hR9 h69 (m_lt hf (by decide)) (fk_1198 hf) rfl) rfl (Nat.le_of_ble_eq_true rfl) rfl (by decide) (Nat.le_refl 0) (Nat.le_refl 0) dX10_person_113 (fun v9 u9 hq => ?_) (fun k9 u9 hq => by obtain ⟨_, e9, _⟩ := hq; cases e9)
      obtain ⟨r14, e9, rfl, h⟩ := hq
      obtain rfl := Sum.inl.inj e9
      show J Γ RX10 cX10_person 3 (some .int) "person" [] 3 0 0 116 [(0, .ref 1198), (1, .int p1), (2, .int p2)] [.int r14] (n, K, A2, Lg, G) P
      refine j_iret rfl ?_ dX10_person_116
      rw [hP]
      exact ⟨r14, A2, rfl, rfl, h⟩
    rw [if_neg c13] at h
    by_cases c15 : p2 = 6
    · rw [if_pos c15] at h
      have c15T : (p2 : Int32).toInt = 6 := by rw [c15]; rfl
      refine j_tableIn (off := 102) (tgt := 117) (by rw [c15T]; decide) (by rw [c15T]; decide) (by rw [c15T]; rfl) dX10_person_15 (by decide) ?_
      refine j_aload_n 0 rfl dX10_person_117 ?_
      refine j_getfr fl_X10_137_9 rfl (m_lt hf (by decide)) (fk_1198 hf) (fg_1198_57 hf) dX10_person_118 ?_
      refine j_bipush (v := 31) dX10_person_121 (by decide) ?_
      refine j_iload_n 1 rfl dX10_person_123 ?_
      refine j_iadd dX10_person_124 ?_
      obtain ⟨b16, h⟩ := h
      refine j_ialdJ (j := (31 + p1).toNatClampNeg) (m_lt hf (by decide)) (fk_1238 hf) b16 rfl dX10_person_125 ?_
      refine j_iret rfl ?_ dX10_person_126
      rw [hP]
      exact ⟨A2 1238 (31 + p1).toNatClampNeg, A2, rfl, rfl, h⟩
    rw [if_neg c15] at h
    refine j_tableOut (tgt := 127) (by have c3T := lv_neT c3 (a := 0) rfl; have c5T := lv_neT c5 (a := 1) rfl; have c7T := lv_neT c7 (a := 2) rfl; have c9T := lv_neT c9 (a := 3) rfl; have c11T := lv_neT c11 (a := 4) rfl; have c13T := lv_neT c13 (a := 5) rfl; have c15T := lv_neT c15 (a := 6) rfl; omega) dX10_person_15 (by decide) ?_
    refine j_iconst (v := (-1)) dX10_person_127 (by decide) ?_
    refine j_iret rfl ?_ dX10_person_128
    rw [hP]
    exact ⟨(-1), A2, rfl, rfl, h⟩
  · rw [if_pos c] at h
    refine j_iconst (v := (-1)) dX10_person_8 (by decide) ?_
    refine j_iret rfl ?_ dX10_person_9
    rw [hP]
    exact ⟨(-1), A, rfl, rfl, h⟩
