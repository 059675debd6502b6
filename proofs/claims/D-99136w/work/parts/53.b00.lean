set_option maxRecDepth 100000
set_option maxHeartbeats 4000000
abbrev RL : String := "DogsHourLaw"
def fL_law_J1186 (Γ : jG) (k18 : Int32 → Nat → (Nat → pKd) → pA → pL → pG → Nat → Nat → Prop) (Q : Int32 → Nat → (Nat → pKd) → pA → pL → pG → Prop) (l3 : Int32) (n : Nat) (K : Nat → pKd) (A : pA) (Lg : pL) (G : pG) (kc : Nat) (ks : Nat) : Prop :=
    k18 (l3 + 6) n K A Lg G kc ks
theorem fL_law_J1186_ok {Γ : jG} (Q : Int32 → Nat → (Nat → pKd) → pA → pL → pG → Prop) (P : jO → pS → Prop) (hP : P = (fun o u => ∃ (r : Int32) (n' : Nat) (K' : Nat → pKd) (A' : pA) (Lg' : pL) (G' : pG), o = .inl (some (.int r)) ∧ u = (n', K', A', Lg', G') ∧ Q r n' K' A' Lg' G')) (k18 : Int32 → Nat → (Nat → pKd) → pA → pL → pG → Nat → Nat → Prop) (ok18 : ∀ (l3 : Int32) (n : Nat) (K : Nat → pKd) (A : pA) (Lg : pL) (G : pG) (kc : Nat) (ks : Nat), k18 l3 n K A Lg G kc ks → J Γ RL cL_law 4 (some .boolean) "law" [] 510 kc ks 18 [(0, .ref 1000201), (1, .ref 0), (2, .ref 1198), (3, .int l3)] [] (n, K, A, Lg, G) P) (l3 : Int32) (n : Nat) (K : Nat → pKd) (A : pA) (Lg : pL) (G : pG) (kc : Nat) (ks : Nat) (h : fL_law_J1186 Γ k18 Q l3 n K A Lg G kc ks) : J Γ RL cL_law 4 (some .boolean) "law" [] 510 kc ks 1186 [(0, .ref 1000201), (1, .ref 0), (2, .ref 1198), (3, .int l3)] [] (n, K, A, Lg, G) P := by
  unfold fL_law_J1186 at h
  refine j_iinc (v := l3 + 6) 3 rfl rfl (by decide) rfl dL_law_1186 ?_
  refine j_goto (tgt := 18) dL_law_1189 (by decide) ?_
  refine j_ls [1, 2, 3, 0] rfl ?_
  exact ok18 (l3 + 6) n K A Lg G kc ks h
def fL_law_J192 (Γ : jG) (k18 : Int32 → Nat → (Nat → pKd) → pA → pL → pG → Nat → Nat → Prop) (Q : Int32 → Nat → (Nat → pKd) → pA → pL → pG → Prop) (l3 : Int32) (n : Nat) (K : Nat → pKd) (A : pA) (Lg : pL) (G : pG) (kc : Nat) (ks : Nat) : Prop :=
    (vp_in (l3 + 1) (gN Γ)) ∧ ((vp_in (l3 + 2) (gN Γ)) ∧ ((vp_in (l3 + 3) (gN Γ)) ∧ ((vp_in (l3 + 4) (gN Γ)) ∧ ((vp_in (l3 + 5) (gN Γ)) ∧ (∃ tx6 : Nat, (G 0 3 = .ref tx6) ∧ ((xOK n K G tx6) ∧ ((fOK n K G) ∧ (fX0_feed tx6 A (gS Γ (l3 + 1).toNatClampNeg) (gS Γ (l3 + 2).toNatClampNeg) (gS Γ (l3 + 3).toNatClampNeg) (gS Γ (l3 + 4).toNatClampNeg) (gS Γ (l3 + 5).toNatClampNeg) (fun r7 A8 => (vp_in (l3 + 1) (gN Γ)) ∧ ((vp_in (l3 + 2) (gN Γ)) ∧ ((vp_in (l3 + 3) (gN Γ)) ∧ ((vp_in (l3 + 4) (gN Γ)) ∧ ((vp_in (l3 + 5) (gN Γ)) ∧ ((mOK n K G) ∧ (fX10_feed A8 (gS Γ (l3 + 1).toNatClampNeg) (gS Γ (l3 + 2).toNatClampNeg) (gS Γ (l3 + 3).toNatClampNeg) (gS Γ (l3 + 4).toNatClampNeg) (gS Γ (l3 + 5).toNatClampNeg) (fun r14 A15 => (if r7 = r14 then fL_law_J1186 Γ k18 Q l3 n K A15 Lg G kc ks else Q 0 n K A15 Lg G)))))))))))))))))
theorem fL_law_J192_ok {Γ : jG} (Q : Int32 → Nat → (Nat → pKd) → pA → pL → pG → Prop) (P : jO → pS → Prop) (hP : P = (fun o u => ∃ (r : Int32) (n' : Nat) (K' : Nat → pKd) (A' : pA) (Lg' : pL) (G' : pG), o = .inl (some (.int r)) ∧ u = (n', K', A', Lg', G') ∧ Q r n' K' A' Lg' G')) (k18 : Int32 → Nat → (Nat → pKd) → pA → pL → pG → Nat → Nat → Prop) (ok18 : ∀ (l3 : Int32) (n : Nat) (K : Nat → pKd) (A : pA) (Lg : pL) (G : pG) (kc : Nat) (ks : Nat), k18 l3 n K A Lg G kc ks → J Γ RL cL_law 4 (some .boolean) "law" [] 510 kc ks 18 [(0, .ref 1000201), (1, .ref 0), (2, .ref 1198), (3, .int l3)] [] (n, K, A, Lg, G) P) (l3 : Int32) (n : Nat) (K : Nat → pKd) (A : pA) (Lg : pL) (G : pG) (kc : Nat) (ks : Nat) (h : fL_law_J192 Γ k18 Q l3 n K A Lg G kc ks) : J Γ RL cL_law 4 (some .boolean) "law" [] 510 kc ks 192 [(0, .ref 1000201), (1, .ref 0), (2, .ref 1198), (3, .int l3)] [] (n, K, A, Lg, G) P := by
  unfold fL_law_J192 at h
  refine j_aload_n 1 rfl dL_law_192 ?_
  refine j_aload_n 0 rfl dL_law_193 ?_
  refine j_iload_n 3 rfl dL_law_194 ?_
  refine j_iconst (v := 1) dL_law_195 (by decide) ?_
  refine j_iadd dL_law_196 ?_
  obtain ⟨b1, h⟩ := h
  refine j_sald2 b1 dL_law_197 ?_
  refine j_aload_n 0 rfl dL_law_198 ?_
  refine j_iload_n 3 rfl dL_law_199 ?_
  refine j_iconst (v := 2) dL_law_200 (by decide) ?_
  refine j_iadd dL_law_201 ?_
  obtain ⟨b2, h⟩ := h
  refine j_sald2 b2 dL_law_202 ?_
  refine j_aload_n 0 rfl dL_law_203 ?_
  refine j_iload_n 3 rfl dL_law_204 ?_
  refine j_iconst (v := 3) dL_law_205 (by decide) ?_
  refine j_iadd dL_law_206 ?_
  obtain ⟨b3, h⟩ := h
  refine j_sald2 b3 dL_law_207 ?_
  refine j_aload_n 0 rfl dL_law_208 ?_
  refine j_iload_n 3 rfl dL_law_209 ?_
  refine j_iconst (v := 4) dL_law_210 (by decide) ?_
  refine j_iadd dL_law_211 ?_
  obtain ⟨b4, h⟩ := h
  refine j_sald2 b4 dL_law_212 ?_
  refine j_aload_n 0 rfl dL_law_213 ?_
  refine j_iload_n 3 rfl dL_law_214 ?_
  refine j_iconst (v := 5) dL_law_215 (by decide) ?_
  refine j_iadd dL_law_216 ?_
  obtain ⟨b5, h⟩ := h
  refine j_sald2 b5 dL_law_217 ?_
  obtain ⟨tx6, h⟩ := h
  obtain ⟨httx6, h⟩ := h
  obtain ⟨hxtx6, h⟩ := h
  obtain ⟨hf, h⟩ := h
  refine j_callV (b := 0) (As := [.int (gS Γ (l3 + 1).toNatClampNeg), .int (gS Γ (l3 + 2).toNatClampNeg), .int (gS Γ (l3 + 3).toNatClampNeg), .int (gS Γ (l3 + 4).toNatClampNeg), .int (gS Γ (l3 + 5).toNatClampNeg)]) (st := []) (C := RX0) (kc' := kc) (ks' := ks) (tX0_feed hf tx6 httx6 hxtx6 (gS Γ (l3 + 1).toNatClampNeg) (gS Γ (l3 + 2).toNatClampNeg) (gS Γ (l3 + 3).toNatClampNeg) (gS Γ (l3 + 4).toNatClampNeg) (gS Γ (l3 + 5).toNatClampNeg) _ h) myX0_feed rfl q611 q612 q613 (by decide) (fun s9 H9 hK9 hR9 h69 => jIs_in hK9 hR9 h69 (f_lt hf (by decide)) (fk_0 hf) rfl) rfl (Nat.le_of_ble_eq_true rfl) rfl (by decide) (Nat.le_refl _) (Nat.le_refl _) dL_law_218 (fun v9 u9 hq => ?_) (fun k9 u9 hq => by obtain ⟨_, _, e9, _⟩ := hq; cases e9)
  obtain ⟨r7, A8, e9, rfl, h⟩ := hq
  obtain rfl := Sum.inl.inj e9
  show J Γ RL cL_law 4 (some .boolean) "law" [] 510 kc ks 221 [(0, .ref 1000201), (1, .ref 0), (2, .ref 1198), (3, .int l3)] [.int r7] (n, K, A8, Lg, G) P
  refine j_aload_n 2 rfl dL_law_221 ?_
  refine j_aload_n 0 rfl dL_law_222 ?_
  refine j_iload_n 3 rfl dL_law_223 ?_
  refine j_iconst (v := 1) dL_law_224 (by decide) ?_
  refine j_iadd dL_law_225 ?_
  obtain ⟨b9, h⟩ := h
  refine j_sald2 b9 dL_law_226 ?_
  refine j_aload_n 0 rfl dL_law_227 ?_
  refine j_iload_n 3 rfl dL_law_228 ?_
  refine j_iconst (v := 2) dL_law_229 (by decide) ?_
  refine j_iadd dL_law_230 ?_
  obtain ⟨b10, h⟩ := h
  refine j_sald2 b10 dL_law_231 ?_
  refine j_aload_n 0 rfl dL_law_232 ?_
  refine j_iload_n 3 rfl dL_law_233 ?_
  refine j_iconst (v := 3) dL_law_234 (by decide) ?_
  refine j_iadd dL_law_235 ?_
  obtain ⟨b11, h⟩ := h
  refine j_sald2 b11 dL_law_236 ?_
  refine j_aload_n 0 rfl dL_law_237 ?_
  refine j_iload_n 3 rfl dL_law_238 ?_
  refine j_iconst (v := 4) dL_law_239 (by decide) ?_
  refine j_iadd dL_law_240 ?_
  obtain ⟨b12, h⟩ := h
  refine j_sald2 b12 dL_law_241 ?_
  refine j_aload_n 0 rfl dL_law_242 ?_
  refine j_iload_n 3 rfl dL_law_243 ?_
  refine j_iconst (v := 5) dL_law_244 (by decide) ?_
  refine j_iadd dL_law_245 ?_
  obtain ⟨b13, h⟩ := h
  refine j_sald2 b13 dL_law_246 ?_
  obtain ⟨hm, h⟩ := h
  refine j_callV (b := 1198) (As := [.int (gS Γ (l3 + 1).toNatClampNeg), .int (gS Γ (l3 + 2).toNatClampNeg), .int (gS Γ (l3 + 3).toNatClampNeg), .int (gS Γ (l3 + 4).toNatClampNeg), .int (gS Γ (l3 + 5).toNatClampNeg)]) (st := [.int r7]) (C := RX10) (kc' := kc) (ks' := ks) (tX10_feed hm (gS Γ (l3 + 1).toNatClampNeg) (gS Γ (l3 + 2).toNatClampNeg) (gS Γ (l3 + 3).toNatClampNeg) (gS Γ (l3 + 4).toNatClampNeg) (gS Γ (l3 + 5).toNatClampNeg) _ h) myX10_feed rfl q1750 q1751 q1752 (by decide) (fun s9 H9 hK9 hR9 h69 => jIs_in hK9 hR9 h69 (m_lt hm (by decide)) (fk_1198 hm) rfl) rfl (Nat.le_of_ble_eq_true rfl) rfl (by decide) (Nat.le_refl _) (Nat.le_refl _) dL_law_247 (fun v9 u9 hq => ?_) (fun k9 u9 hq => by obtain ⟨_, _, e9, _⟩ := hq; cases e9)
  obtain ⟨r14, A15, e9, rfl, h⟩ := hq
  obtain rfl := Sum.inl.inj e9
  show J Γ RL cL_law 4 (some .boolean) "law" [] 510 kc ks 250 [(0, .ref 1000201), (1, .ref 0), (2, .ref 1198), (3, .int l3)] [.int r14, .int r7] (n, K, A15, Lg, G) P
  refine j_icmp_eq (tgt := 1186) dL_law_250 (by decide) (fun c => ?_) (fun c => ?_)
  · rw [if_pos c] at h
    exact fL_law_J1186_ok  Q P hP k18 ok18 l3 n K A15 Lg G kc ks h
  · rw [if_neg c] at h
    refine j_iconst (v := 0) dL_law_253 (by decide) ?_
    refine j_zret rfl (by decide) ?_ dL_law_254
    rw [hP]
    exact ⟨0, n, K, A15, Lg, G, rfl, rfl, h⟩
def fL_law_J255 (Γ : jG) (k18 : Int32 → Nat → (Nat → pKd) → pA → pL → pG → Nat → Nat → Prop) (Q : Int32 → Nat → (Nat → pKd) → pA → pL → pG → Prop) (l3 : Int32) (n : Nat) (K : Nat → pKd) (A : pA) (Lg : pL) (G : pG) (kc : Nat) (ks : Nat) : Prop :=
    (vp_in (l3 + 1) (gN Γ)) ∧ (∃ tx17 : Nat, (G 0 3 = .ref tx17) ∧ ((xOK n K G tx17) ∧ ((fOK n K G) ∧ (fX0_back tx17 A (gS Γ (l3 + 1).toNatClampNeg) (fun r18 A19 => (vp_in (l3 + 1) (gN Γ)) ∧ ((mOK n K G) ∧ (fX10_back A19 (gS Γ (l3 + 1).toNatClampNeg) (fun r21 A22 => (if r18 = r21 then fL_law_J1186 Γ k18 Q l3 n K A22 Lg G kc ks else Q 0 n K A22 Lg G)))))))))
theorem fL_law_J255_ok {Γ : jG} (Q : Int32 → Nat → (Nat → pKd) → pA → pL → pG → Prop) (P : jO → pS → Prop) (hP : P = (fun o u => ∃ (r : Int32) (n' : Nat) (K' : Nat → pKd) (A' : pA) (Lg' : pL) (G' : pG), o = .inl (some (.int r)) ∧ u = (n', K', A', Lg', G') ∧ Q r n' K' A' Lg' G')) (k18 : Int32 → Nat → (Nat → pKd) → pA → pL → pG → Nat → Nat → Prop) (ok18 : ∀ (l3 : Int32) (n : Nat) (K : Nat → pKd) (A : pA) (Lg : pL) (G : pG) (kc : Nat) (ks : Nat), k18 l3 n K A Lg G kc ks → J Γ RL cL_law 4 (some .boolean) "law" [] 510 kc ks 18 [(0, .ref 1000201), (1, .ref 0), (2, .ref 1198), (3, .int l3)] [] (n, K, A, Lg, G) P) (l3 : Int32) (n : Nat) (K : Nat → pKd) (A : pA) (Lg : pL) (G : pG) (kc : Nat) (ks : Nat) (h : fL_law_J255 Γ k18 Q l3 n K A Lg G kc ks) : J Γ RL cL_law 4 (some .boolean) "law" [] 510 kc ks 255 [(0, .ref 1000201), (1, .ref 0), (2, .ref 1198), (3, .int l3)] [] (n, K, A, Lg, G) P := by
  unfold fL_law_J255 at h
  refine j_aload_n 1 rfl dL_law_255 ?_
  refine j_aload_n 0 rfl dL_law_256 ?_
  refine j_iload_n 3 rfl dL_law_257 ?_
  refine j_iconst (v := 1) dL_law_258 (by decide) ?_
  refine j_iadd dL_law_259 ?_
  obtain ⟨b16, h⟩ := h
  refine j_sald2 b16 dL_law_260 ?_
  obtain ⟨tx17, h⟩ := h
  obtain ⟨httx17, h⟩ := h
  obtain ⟨hxtx17, h⟩ := h
  obtain ⟨hf, h⟩ := h
  refine j_callV (b := 0) (As := [.int (gS Γ (l3 + 1).toNatClampNeg)]) (st := []) (C := RX0) (kc' := kc) (ks' := ks) (tX0_back hf tx17 httx17 hxtx17 (gS Γ (l3 + 1).toNatClampNeg) _ h) myX0_back rfl q619 q620 q621 (by decide) (fun s9 H9 hK9 hR9 h69 => jIs_in hK9 hR9 h69 (f_lt hf (by decide)) (fk_0 hf) rfl) rfl (Nat.le_of_ble_eq_true rfl) rfl (by decide) (Nat.le_refl _) (Nat.le_refl _) dL_law_261 (fun v9 u9 hq => ?_) (fun k9 u9 hq => by obtain ⟨_, _, e9, _⟩ := hq; cases e9)
  obtain ⟨r18, A19, e9, rfl, h⟩ := hq
  obtain rfl := Sum.inl.inj e9
  show J Γ RL cL_law 4 (some .boolean) "law" [] 510 kc ks 264 [(0, .ref 1000201), (1, .ref 0), (2, .ref 1198), (3, .int l3)] [.int r18] (n, K, A19, Lg, G) P
  refine j_aload_n 2 rfl dL_law_264 ?_
  refine j_aload_n 0 rfl dL_law_265 ?_
  refine j_iload_n 3 rfl dL_law_266 ?_
  refine j_iconst (v := 1) dL_law_267 (by decide) ?_
  refine j_iadd dL_law_268 ?_
  obtain ⟨b20, h⟩ := h
  refine j_sald2 b20 dL_law_269 ?_
  obtain ⟨hm, h⟩ := h
  refine j_callV (b := 1198) (As := [.int (gS Γ (l3 + 1).toNatClampNeg)]) (st := [.int r18]) (C := RX10) (kc' := kc) (ks' := ks) (tX10_back hm (gS Γ (l3 + 1).toNatClampNeg) _ h) myX10_back rfl q1758 q1759 q1760 (by decide) (fun s9 H9 hK9 hR9 h69 => jIs_in hK9 hR9 h69 (m_lt hm (by decide)) (fk_1198 hm) rfl) rfl (Nat.le_of_ble_eq_true rfl) rfl (by decide) (Nat.le_refl _) (Nat.le_refl _) dL_law_270 (fun v9 u9 hq => ?_) (fun k9 u9 hq => by obtain ⟨_, _, e9, _⟩ := hq; cases e9)
  obtain ⟨r21, A22, e9, rfl, h⟩ := hq
  obtain rfl := Sum.inl.inj e9
  show J Γ RL cL_law 4 (some .boolean) "law" [] 510 kc ks 273 [(0, .ref 1000201), (1, .ref 0), (2, .ref 1198), (3, .int l3)] [.int r21, .int r18] (n, K, A22, Lg, G) P
  refine j_icmp_eq (tgt := 1186) dL_law_273 (by decide) (fun c => ?_) (fun c => ?_)
  · rw [if_pos c] at h
    exact fL_law_J1186_ok  Q P hP k18 ok18 l3 n K A22 Lg G kc ks h
  · rw [if_neg c] at h
    refine j_iconst (v := 0) dL_law_276 (by decide) ?_
    refine j_zret rfl (by decide) ?_ dL_law_277
    rw [hP]
    exact ⟨0, n, K, A22, Lg, G, rfl, rfl, h⟩
def fL_law_J278 (Γ : jG) (k18 : Int32 → Nat → (Nat → pKd) → pA → pL → pG → Nat → Nat → Prop) (Q : Int32 → Nat → (Nat → pKd) → pA → pL → pG → Prop) (l3 : Int32) (n : Nat) (K : Nat → pKd) (A : pA) (Lg : pL) (G : pG) (kc : Nat) (ks : Nat) : Prop :=
    ∃ kY23 sY24 : Nat, kY23 ≤ kc ∧ sY24 ≤ ks ∧ ((fOK n K G) ∧ (fX0_read n K A Lg G kY23 sY24 (fun r25 n26 K27 A28 Lg29 G30 => (mOK n26 K27 G30) ∧ (fX10_read A28 Lg29 (fun r31 A32 Lg33 => (if r25 = r31 then fL_law_J1186 Γ k18 Q l3 n26 K27 A32 Lg33 G30 (kc - kY23) (ks - sY24) else Q 0 n26 K27 A32 Lg33 G30))))))
theorem fL_law_J278_ok {Γ : jG} (Q : Int32 → Nat → (Nat → pKd) → pA → pL → pG → Prop) (P : jO → pS → Prop) (hP : P = (fun o u => ∃ (r : Int32) (n' : Nat) (K' : Nat → pKd) (A' : pA) (Lg' : pL) (G' : pG), o = .inl (some (.int r)) ∧ u = (n', K', A', Lg', G') ∧ Q r n' K' A' Lg' G')) (k18 : Int32 → Nat → (Nat → pKd) → pA → pL → pG → Nat → Nat → Prop) (ok18 : ∀ (l3 : Int32) (n : Nat) (K : Nat → pKd) (A : pA) (Lg : pL) (G : pG) (kc : Nat) (ks : Nat), k18 l3 n K A Lg G kc ks → J Γ RL cL_law 4 (some .boolean) "law" [] 510 kc ks 18 [(0, .ref 1000201), (1, .ref 0), (2, .ref 1198), (3, .int l3)] [] (n, K, A, Lg, G) P) (l3 : Int32) (n : Nat) (K : Nat → pKd) (A : pA) (Lg : pL) (G : pG) (kc : Nat) (ks : Nat) (h : fL_law_J278 Γ k18 Q l3 n K A Lg G kc ks) : J Γ RL cL_law 4 (some .boolean) "law" [] 510 kc ks 278 [(0, .ref 1000201), (1, .ref 0), (2, .ref 1198), (3, .int l3)] [] (n, K, A, Lg, G) P := by
  unfold fL_law_J278 at h
  refine j_aload_n 1 rfl dL_law_278 ?_
  obtain ⟨kY23, sY24, kY23h, sY24h, h⟩ := h
  obtain ⟨hf, h⟩ := h
  refine j_callVW (b := 0) (As := []) (st := []) (C := RX0) (kc' := kc - kY23) (ks' := ks - sY24) (tX0_read   _ h) myX0_read rfl q623 q624 q625 (by decide) (fun s9 H9 hK9 hR9 h69 => jIs_in hK9 hR9 h69 (f_lt hf (by decide)) (fk_0 hf) rfl) rfl (Nat.le_of_ble_eq_true rfl) rfl (by decide) (by omega) (by omega) dL_law_279 (fun v9 u9 hq => ?_) (fun k9 u9 hq => by obtain ⟨_, _, _, _, _, _, e9, _⟩ := hq; cases e9)
  obtain ⟨r25, n26, K27, A28, Lg29, G30, e9, rfl, h⟩ := hq
  obtain rfl := Sum.inl.inj e9
  show J Γ RL cL_law 4 (some .boolean) "law" [] 510 (kc - kY23) (ks - sY24) 282 [(0, .ref 1000201), (1, .ref 0), (2, .ref 1198), (3, .int l3)] [.int r25] (n26, K27, A28, Lg29, G30) P
  refine j_aload_n 2 rfl dL_law_282 ?_
  obtain ⟨hm, h⟩ := h
  refine j_callV (b := 1198) (As := []) (st := [.int r25]) (C := RX10) (kc' := kc - kY23) (ks' := ks - sY24) (tX10_read hm  _ h) myX10_read rfl q1762 q1763 q1764 (by decide) (fun s9 H9 hK9 hR9 h69 => jIs_in hK9 hR9 h69 (m_lt hm (by decide)) (fk_1198 hm) rfl) rfl (Nat.le_of_ble_eq_true rfl) rfl (by decide) (Nat.le_refl _) (Nat.le_refl _) dL_law_283 (fun v9 u9 hq => ?_) (fun k9 u9 hq => by obtain ⟨_, _, _, e9, _⟩ := hq; cases e9)
  obtain ⟨r31, A32, Lg33, e9, rfl, h⟩ := hq
  obtain rfl := Sum.inl.inj e9
  show J Γ RL cL_law 4 (some .boolean) "law" [] 510 (kc - kY23) (ks - sY24) 286 [(0, .ref 1000201), (1, .ref 0), (2, .ref 1198), (3, .int l3)] [.int r31, .int r25] (n26, K27, A32, Lg33, G30) P
  refine j_icmp_eq (tgt := 1186) dL_law_286 (by decide) (fun c => ?_) (fun c => ?_)
  · rw [if_pos c] at h
    exact fL_law_J1186_ok  Q P hP k18 ok18 l3 n26 K27 A32 Lg33 G30 (kc - kY23) (ks - sY24) h
  · rw [if_neg c] at h
    refine j_iconst (v := 0) dL_law_289 (by decide) ?_
    refine j_zret rfl (by decide) ?_ dL_law_290
    rw [hP]
    exact ⟨0, n26, K27, A32, Lg33, G30, rfl, rfl, h⟩
def fL_law_J291 (Γ : jG) (k18 : Int32 → Nat → (Nat → pKd) → pA → pL → pG → Nat → Nat → Prop) (Q : Int32 → Nat → (Nat → pKd) → pA → pL → pG → Prop) (l3 : Int32) (n : Nat) (K : Nat → pKd) (A : pA) (Lg : pL) (G : pG) (kc : Nat) (ks : Nat) : Prop :=
    ∃ tx34 : Nat, (G 0 3 = .ref tx34) ∧ ((xOK n K G tx34) ∧ ((fOK n K G) ∧ (fX0_place tx34 A (fun r35 => (mOK n K G) ∧ (fX10_place A (fun r36 => (if r35 = r36 then fL_law_J1186 Γ k18 Q l3 n K A Lg G kc ks else Q 0 n K A Lg G)))))))
theorem fL_law_J291_ok {Γ : jG} (Q : Int32 → Nat → (Nat → pKd) → pA → pL → pG → Prop) (P : jO → pS → Prop) (hP : P = (fun o u => ∃ (r : Int32) (n' : Nat) (K' : Nat → pKd) (A' : pA) (Lg' : pL) (G' : pG), o = .inl (some (.int r)) ∧ u = (n', K', A', Lg', G') ∧ Q r n' K' A' Lg' G')) (k18 : Int32 → Nat → (Nat → pKd) → pA → pL → pG → Nat → Nat → Prop) (ok18 : ∀ (l3 : Int32) (n : Nat) (K : Nat → pKd) (A : pA) (Lg : pL) (G : pG) (kc : Nat) (ks : Nat), k18 l3 n K A Lg G kc ks → J Γ RL cL_law 4 (some .boolean) "law" [] 510 kc ks 18 [(0, .ref 1000201), (1, .ref 0), (2, .ref 1198), (3, .int l3)] [] (n, K, A, Lg, G) P) (l3 : Int32) (n : Nat) (K : Nat → pKd) (A : pA) (Lg : pL) (G : pG) (kc : Nat) (ks : Nat) (h : fL_law_J291 Γ k18 Q l3 n K A Lg G kc ks) : J Γ RL cL_law 4 (some .boolean) "law" [] 510 kc ks 291 [(0, .ref 1000201), (1, .ref 0), (2, .ref 1198), (3, .int l3)] [] (n, K, A, Lg, G) P := by
  unfold fL_law_J291 at h
  refine j_aload_n 1 rfl dL_law_291 ?_
  obtain ⟨tx34, h⟩ := h
  obtain ⟨httx34, h⟩ := h
  obtain ⟨hxtx34, h⟩ := h
  obtain ⟨hf, h⟩ := h
  refine j_callV (b := 0) (As := []) (st := []) (C := RX0) (kc' := kc) (ks' := ks) (tX0_place hf tx34 httx34 hxtx34 _ h) myX0_place rfl q1177 q1178 q1179 (by decide) (fun s9 H9 hK9 hR9 h69 => jIs_in hK9 hR9 h69 (f_lt hf (by decide)) (fk_0 hf) rfl) rfl (Nat.le_of_ble_eq_true rfl) rfl (by decide) (Nat.le_refl _) (Nat.le_refl _) dL_law_292 (fun v9 u9 hq => ?_) (fun k9 u9 hq => by obtain ⟨_, e9, _⟩ := hq; cases e9)
  obtain ⟨r35, e9, rfl, h⟩ := hq
  obtain rfl := Sum.inl.inj e9
  show J Γ RL cL_law 4 (some .boolean) "law" [] 510 kc ks 295 [(0, .ref 1000201), (1, .ref 0), (2, .ref 1198), (3, .int l3)] [.int r35] (n, K, A, Lg, G) P
  refine j_aload_n 2 rfl dL_law_295 ?_
  obtain ⟨hm, h⟩ := h
  refine j_callV (b := 1198) (As := []) (st := [.int r35]) (C := RX10) (kc' := kc) (ks' := ks) (tX10_place hm  _ h) myX10_place rfl q1880 q1881 q1882 (by decide) (fun s9 H9 hK9 hR9 h69 => jIs_in hK9 hR9 h69 (m_lt hm (by decide)) (fk_1198 hm) rfl) rfl (Nat.le_of_ble_eq_true rfl) rfl (by decide) (Nat.le_refl _) (Nat.le_refl _) dL_law_296 (fun v9 u9 hq => ?_) (fun k9 u9 hq => by obtain ⟨_, e9, _⟩ := hq; cases e9)
  obtain ⟨r36, e9, rfl, h⟩ := hq
  obtain rfl := Sum.inl.inj e9
  show J Γ RL cL_law 4 (some .boolean) "law" [] 510 kc ks 299 [(0, .ref 1000201), (1, .ref 0), (2, .ref 1198), (3, .int l3)] [.int r36, .int r35] (n, K, A, Lg, G) P
  refine j_icmp_eq (tgt := 1186) dL_law_299 (by decide) (fun c => ?_) (fun c => ?_)
  · rw [if_pos c] at h
    exact fL_law_J1186_ok  Q P hP k18 ok18 l3 n K A Lg G kc ks h
  · rw [if_neg c] at h
    refine j_iconst (v := 0) dL_law_302 (by decide) ?_
    refine j_zret rfl (by decide) ?_ dL_law_303
    rw [hP]
    exact ⟨0, n, K, A, Lg, G, rfl, rfl, h⟩
def fL_law_J304 (Γ : jG) (k18 : Int32 → Nat → (Nat → pKd) → pA → pL → pG → Nat → Nat → Prop) (Q : Int32 → Nat → (Nat → pKd) → pA → pL → pG → Prop) (l3 : Int32) (n : Nat) (K : Nat → pKd) (A : pA) (Lg : pL) (G : pG) (kc : Nat) (ks : Nat) : Prop :=
    (vp_in (l3 + 1) (gN Γ)) ∧ ((vp_in (l3 + 2) (gN Γ)) ∧ (∃ tx39 : Nat, (G 0 3 = .ref tx39) ∧ ((xOK n K G tx39) ∧ ((fOK n K G) ∧ (fX0_spot tx39 n K A G (gS Γ (l3 + 1).toNatClampNeg) (gS Γ (l3 + 2).toNatClampNeg) (fun r40 => (vp_in (l3 + 1) (gN Γ)) ∧ ((vp_in (l3 + 2) (gN Γ)) ∧ ((mOK n K G) ∧ (fX10_spot A (gS Γ (l3 + 1).toNatClampNeg) (gS Γ (l3 + 2).toNatClampNeg) (fun r43 A44 => (if r40 = r43 then fL_law_J1186 Γ k18 Q l3 n K A44 Lg G kc ks else Q 0 n K A44 Lg G)))))))))))
theorem fL_law_J304_ok {Γ : jG} (Q : Int32 → Nat → (Nat → pKd) → pA → pL → pG → Prop) (P : jO → pS → Prop) (hP : P = (fun o u => ∃ (r : Int32) (n' : Nat) (K' : Nat → pKd) (A' : pA) (Lg' : pL) (G' : pG), o = .inl (some (.int r)) ∧ u = (n', K', A', Lg', G') ∧ Q r n' K' A' Lg' G')) (k18 : Int32 → Nat → (Nat → pKd) → pA → pL → pG → Nat → Nat → Prop) (ok18 : ∀ (l3 : Int32) (n : Nat) (K : Nat → pKd) (A : pA) (Lg : pL) (G : pG) (kc : Nat) (ks : Nat), k18 l3 n K A Lg G kc ks → J Γ RL cL_law 4 (some .boolean) "law" [] 510 kc ks 18 [(0, .ref 1000201), (1, .ref 0), (2, .ref 1198), (3, .int l3)] [] (n, K, A, Lg, G) P) (l3 : Int32) (n : Nat) (K : Nat → pKd) (A : pA) (Lg : pL) (G : pG) (kc : Nat) (ks : Nat) (h : fL_law_J304 Γ k18 Q l3 n K A Lg G kc ks) : J Γ RL cL_law 4 (some .boolean) "law" [] 510 kc ks 304 [(0, .ref 1000201), (1, .ref 0), (2, .ref 1198), (3, .int l3)] [] (n, K, A, Lg, G) P := by
  unfold fL_law_J304 at h
  refine j_aload_n 1 rfl dL_law_304 ?_
  refine j_aload_n 0 rfl dL_law_305 ?_
  refine j_iload_n 3 rfl dL_law_306 ?_
  refine j_iconst (v := 1) dL_law_307 (by decide) ?_
  refine j_iadd dL_law_308 ?_
  obtain ⟨b37, h⟩ := h
  refine j_sald2 b37 dL_law_309 ?_
  refine j_aload_n 0 rfl dL_law_310 ?_
  refine j_iload_n 3 rfl dL_law_311 ?_
  refine j_iconst (v := 2) dL_law_312 (by decide) ?_
  refine j_iadd dL_law_313 ?_
  obtain ⟨b38, h⟩ := h
  refine j_sald2 b38 dL_law_314 ?_
  obtain ⟨tx39, h⟩ := h
  obtain ⟨httx39, h⟩ := h
  obtain ⟨hxtx39, h⟩ := h
  obtain ⟨hf, h⟩ := h
  refine j_callV (b := 0) (As := [.int (gS Γ (l3 + 1).toNatClampNeg), .int (gS Γ (l3 + 2).toNatClampNeg)]) (st := []) (C := RX0) (kc' := kc) (ks' := ks) (tX0_spot hf tx39 httx39 hxtx39 (gS Γ (l3 + 1).toNatClampNeg) (gS Γ (l3 + 2).toNatClampNeg) _ h) myX0_spot rfl q1181 q1182 q1183 (by decide) (fun s9 H9 hK9 hR9 h69 => jIs_in hK9 hR9 h69 (f_lt hf (by decide)) (fk_0 hf) rfl) rfl (Nat.le_of_ble_eq_true rfl) rfl (by decide) (Nat.le_refl _) (Nat.le_refl _) dL_law_315 (fun v9 u9 hq => ?_) (fun k9 u9 hq => by obtain ⟨_, e9, _⟩ := hq; cases e9)
  obtain ⟨r40, e9, rfl, h⟩ := hq
  obtain rfl := Sum.inl.inj e9
  show J Γ RL cL_law 4 (some .boolean) "law" [] 510 kc ks 318 [(0, .ref 1000201), (1, .ref 0), (2, .ref 1198), (3, .int l3)] [.int r40] (n, K, A, Lg, G) P
  refine j_aload_n 2 rfl dL_law_318 ?_
  refine j_aload_n 0 rfl dL_law_319 ?_
  refine j_iload_n 3 rfl dL_law_320 ?_
  refine j_iconst (v := 1) dL_law_321 (by decide) ?_
  refine j_iadd dL_law_322 ?_
  obtain ⟨b41, h⟩ := h
  refine j_sald2 b41 dL_law_323 ?_
  refine j_aload_n 0 rfl dL_law_324 ?_
  refine j_iload_n 3 rfl dL_law_325 ?_
  refine j_iconst (v := 2) dL_law_326 (by decide) ?_
  refine j_iadd dL_law_327 ?_
  obtain ⟨b42, h⟩ := h
  refine j_sald2 b42 dL_law_328 ?_
  obtain ⟨hm, h⟩ := h
  refine j_callV (b := 1198) (As := [.int (gS Γ (l3 + 1).toNatClampNeg), .int (gS Γ (l3 + 2).toNatClampNeg)]) (st := [.int r40]) (C := RX10) (kc' := kc) (ks' := ks) (tX10_spot hm (gS Γ (l3 + 1).toNatClampNeg) (gS Γ (l3 + 2).toNatClampNeg) _ h) myX10_spot rfl q1884 q1885 q1886 (by decide) (fun s9 H9 hK9 hR9 h69 => jIs_in hK9 hR9 h69 (m_lt hm (by decide)) (fk_1198 hm) rfl) rfl (Nat.le_of_ble_eq_true rfl) rfl (by decide) (Nat.le_refl _) (Nat.le_refl _) dL_law_329 (fun v9 u9 hq => ?_) (fun k9 u9 hq => by obtain ⟨_, _, e9, _⟩ := hq; cases e9)
  obtain ⟨r43, A44, e9, rfl, h⟩ := hq
  obtain rfl := Sum.inl.inj e9
  show J Γ RL cL_law 4 (some .boolean) "law" [] 510 kc ks 332 [(0, .ref 1000201), (1, .ref 0), (2, .ref 1198), (3, .int l3)] [.int r43, .int r40] (n, K, A44, Lg, G) P
  refine j_icmp_eq (tgt := 1186) dL_law_332 (by decide) (fun c => ?_) (fun c => ?_)
  · rw [if_pos c] at h
    exact fL_law_J1186_ok  Q P hP k18 ok18 l3 n K A44 Lg G kc ks h
  · rw [if_neg c] at h
    refine j_iconst (v := 0) dL_law_335 (by decide) ?_
    refine j_zret rfl (by decide) ?_ dL_law_336
    rw [hP]
    exact ⟨0, n, K, A44, Lg, G, rfl, rfl, h⟩
def fL_law_J337 (Γ : jG) (k18 : Int32 → Nat → (Nat → pKd) → pA → pL → pG → Nat → Nat → Prop) (Q : Int32 → Nat → (Nat → pKd) → pA → pL → pG → Prop) (l3 : Int32) (n : Nat) (K : Nat → pKd) (A : pA) (Lg : pL) (G : pG) (kc : Nat) (ks : Nat) : Prop :=
    (vp_in (l3 + 1) (gN Γ)) ∧ ((vp_in (l3 + 2) (gN Γ)) ∧ (∃ tx47 : Nat, (G 0 3 = .ref tx47) ∧ ((xOK n K G tx47) ∧ ((fOK n K G) ∧ (fX0_dog tx47 n K A G (gS Γ (l3 + 1).toNatClampNeg) (gS Γ (l3 + 2).toNatClampNeg) (fun r48 => (vp_in (l3 + 1) (gN Γ)) ∧ ((vp_in (l3 + 2) (gN Γ)) ∧ ((mOK n K G) ∧ (fX10_dog A (gS Γ (l3 + 1).toNatClampNeg) (gS Γ (l3 + 2).toNatClampNeg) (fun r51 => (if r48 = r51 then fL_law_J1186 Γ k18 Q l3 n K A Lg G kc ks else Q 0 n K A Lg G)))))))))))
theorem fL_law_J337_ok {Γ : jG} (Q : Int32 → Nat → (Nat → pKd) → pA → pL → pG → Prop) (P : jO → pS → Prop) (hP : P = (fun o u => ∃ (r : Int32) (n' : Nat) (K' : Nat → pKd) (A' : pA) (Lg' : pL) (G' : pG), o = .inl (some (.int r)) ∧ u = (n', K', A', Lg', G') ∧ Q r n' K' A' Lg' G')) (k18 : Int32 → Nat → (Nat → pKd) → pA → pL → pG → Nat → Nat → Prop) (ok18 : ∀ (l3 : Int32) (n : Nat) (K : Nat → pKd) (A : pA) (Lg : pL) (G : pG) (kc : Nat) (ks : Nat), k18 l3 n K A Lg G kc ks → J Γ RL cL_law 4 (some .boolean) "law" [] 510 kc ks 18 [(0, .ref 1000201), (1, .ref 0), (2, .ref 1198), (3, .int l3)] [] (n, K, A, Lg, G) P) (l3 : Int32) (n : Nat) (K : Nat → pKd) (A : pA) (Lg : pL) (G : pG) (kc : Nat) (ks : Nat) (h : fL_law_J337 Γ k18 Q l3 n K A Lg G kc ks) : J Γ RL cL_law 4 (some .boolean) "law" [] 510 kc ks 337 [(0, .ref 1000201), (1, .ref 0), (2, .ref 1198), (3, .int l3)] [] (n, K, A, Lg, G) P := by
  unfold fL_law_J337 at h
  refine j_aload_n 1 rfl dL_law_337 ?_
  refine j_aload_n 0 rfl dL_law_338 ?_
  refine j_iload_n 3 rfl dL_law_339 ?_
  refine j_iconst (v := 1) dL_law_340 (by decide) ?_
  refine j_iadd dL_law_341 ?_
  obtain ⟨b45, h⟩ := h
  refine j_sald2 b45 dL_law_342 ?_
  refine j_aload_n 0 rfl dL_law_343 ?_
  refine j_iload_n 3 rfl dL_law_344 ?_
  refine j_iconst (v := 2) dL_law_345 (by decide) ?_
  refine j_iadd dL_law_346 ?_
  obtain ⟨b46, h⟩ := h
  refine j_sald2 b46 dL_law_347 ?_
  obtain ⟨tx47, h⟩ := h
  obtain ⟨httx47, h⟩ := h
  obtain ⟨hxtx47, h⟩ := h
  obtain ⟨hf, h⟩ := h
  refine j_callV (b := 0) (As := [.int (gS Γ (l3 + 1).toNatClampNeg), .int (gS Γ (l3 + 2).toNatClampNeg)]) (st := []) (C := RX0) (kc' := kc) (ks' := ks) (tX0_dog hf tx47 httx47 hxtx47 (gS Γ (l3 + 1).toNatClampNeg) (gS Γ (l3 + 2).toNatClampNeg) _ h) myX0_dog rfl q1211 q1212 q1213 (by decide) (fun s9 H9 hK9 hR9 h69 => jIs_in hK9 hR9 h69 (f_lt hf (by decide)) (fk_0 hf) rfl) rfl (Nat.le_of_ble_eq_true rfl) rfl (by decide) (Nat.le_refl _) (Nat.le_refl _) dL_law_348 (fun v9 u9 hq => ?_) (fun k9 u9 hq => by obtain ⟨_, e9, _⟩ := hq; cases e9)
  obtain ⟨r48, e9, rfl, h⟩ := hq
  obtain rfl := Sum.inl.inj e9
  show J Γ RL cL_law 4 (some .boolean) "law" [] 510 kc ks 351 [(0, .ref 1000201), (1, .ref 0), (2, .ref 1198), (3, .int l3)] [.int r48] (n, K, A, Lg, G) P
  refine j_aload_n 2 rfl dL_law_351 ?_
  refine j_aload_n 0 rfl dL_law_352 ?_
  refine j_iload_n 3 rfl dL_law_353 ?_
  refine j_iconst (v := 1) dL_law_354 (by decide) ?_
  refine j_iadd dL_law_355 ?_
  obtain ⟨b49, h⟩ := h
  refine j_sald2 b49 dL_law_356 ?_
  refine j_aload_n 0 rfl dL_law_357 ?_
  refine j_iload_n 3 rfl dL_law_358 ?_
  refine j_iconst (v := 2) dL_law_359 (by decide) ?_
  refine j_iadd dL_law_360 ?_
  obtain ⟨b50, h⟩ := h
  refine j_sald2 b50 dL_law_361 ?_
  obtain ⟨hm, h⟩ := h
  refine j_callV (b := 1198) (As := [.int (gS Γ (l3 + 1).toNatClampNeg), .int (gS Γ (l3 + 2).toNatClampNeg)]) (st := [.int r48]) (C := RX10) (kc' := kc) (ks' := ks) (tX10_dog hm (gS Γ (l3 + 1).toNatClampNeg) (gS Γ (l3 + 2).toNatClampNeg) _ h) myX10_dog rfl q1907 q1908 q1909 (by decide) (fun s9 H9 hK9 hR9 h69 => jIs_in hK9 hR9 h69 (m_lt hm (by decide)) (fk_1198 hm) rfl) rfl (Nat.le_of_ble_eq_true rfl) rfl (by decide) (Nat.le_refl _) (Nat.le_refl _) dL_law_362 (fun v9 u9 hq => ?_) (fun k9 u9 hq => by obtain ⟨_, e9, _⟩ := hq; cases e9)
  obtain ⟨r51, e9, rfl, h⟩ := hq
  obtain rfl := Sum.inl.inj e9
  show J Γ RL cL_law 4 (some .boolean) "law" [] 510 kc ks 365 [(0, .ref 1000201), (1, .ref 0), (2, .ref 1198), (3, .int l3)] [.int r51, .int r48] (n, K, A, Lg, G) P
  refine j_icmp_eq (tgt := 1186) dL_law_365 (by decide) (fun c => ?_) (fun c => ?_)
  · rw [if_pos c] at h
    exact fL_law_J1186_ok  Q P hP k18 ok18 l3 n K A Lg G kc ks h
  · rw [if_neg c] at h
    refine j_iconst (v := 0) dL_law_368 (by decide) ?_
    refine j_zret rfl (by decide) ?_ dL_law_369
    rw [hP]
    exact ⟨0, n, K, A, Lg, G, rfl, rfl, h⟩
def fL_law_J370 (Γ : jG) (k18 : Int32 → Nat → (Nat → pKd) → pA → pL → pG → Nat → Nat → Prop) (Q : Int32 → Nat → (Nat → pKd) → pA → pL → pG → Prop) (l3 : Int32) (n : Nat) (K : Nat → pKd) (A : pA) (Lg : pL) (G : pG) (kc : Nat) (ks : Nat) : Prop :=
    (vp_in (l3 + 1) (gN Γ)) ∧ ((vp_in (l3 + 2) (gN Γ)) ∧ (∃ tx54 : Nat, (G 0 3 = .ref tx54) ∧ ((xOK n K G tx54) ∧ ((fOK n K G) ∧ (fX0_person tx54 n K A G (gS Γ (l3 + 1).toNatClampNeg) (gS Γ (l3 + 2).toNatClampNeg) (fun r55 => (vp_in (l3 + 1) (gN Γ)) ∧ ((vp_in (l3 + 2) (gN Γ)) ∧ ((mOK n K G) ∧ (fX10_person A (gS Γ (l3 + 1).toNatClampNeg) (gS Γ (l3 + 2).toNatClampNeg) (fun r58 A59 => (if r55 = r58 then fL_law_J1186 Γ k18 Q l3 n K A59 Lg G kc ks else Q 0 n K A59 Lg G)))))))))))
theorem fL_law_J370_ok {Γ : jG} (Q : Int32 → Nat → (Nat → pKd) → pA → pL → pG → Prop) (P : jO → pS → Prop) (hP : P = (fun o u => ∃ (r : Int32) (n' : Nat) (K' : Nat → pKd) (A' : pA) (Lg' : pL) (G' : pG), o = .inl (some (.int r)) ∧ u = (n', K', A', Lg', G') ∧ Q r n' K' A' Lg' G')) (k18 : Int32 → Nat → (Nat → pKd) → pA → pL → pG → Nat → Nat → Prop) (ok18 : ∀ (l3 : Int32) (n : Nat) (K : Nat → pKd) (A : pA) (Lg : pL) (G : pG) (kc : Nat) (ks : Nat), k18 l3 n K A Lg G kc ks → J Γ RL cL_law 4 (some .boolean) "law" [] 510 kc ks 18 [(0, .ref 1000201), (1, .ref 0), (2, .ref 1198), (3, .int l3)] [] (n, K, A, Lg, G) P) (l3 : Int32) (n : Nat) (K : Nat → pKd) (A : pA) (Lg : pL) (G : pG) (kc : Nat) (ks : Nat) (h : fL_law_J370 Γ k18 Q l3 n K A Lg G kc ks) : J Γ RL cL_law 4 (some .boolean) "law" [] 510 kc ks 370 [(0, .ref 1000201), (1, .ref 0), (2, .ref 1198), (3, .int l3)] [] (n, K, A, Lg, G) P := by
  unfold fL_law_J370 at h
  refine j_aload_n 1 rfl dL_law_370 ?_
  refine j_aload_n 0 rfl dL_law_371 ?_
  refine j_iload_n 3 rfl dL_law_372 ?_
  refine j_iconst (v := 1) dL_law_373 (by decide) ?_
  refine j_iadd dL_law_374 ?_
  obtain ⟨b52, h⟩ := h
  refine j_sald2 b52 dL_law_375 ?_
  refine j_aload_n 0 rfl dL_law_376 ?_
  refine j_iload_n 3 rfl dL_law_377 ?_
  refine j_iconst (v := 2) dL_law_378 (by decide) ?_
  refine j_iadd dL_law_379 ?_
  obtain ⟨b53, h⟩ := h
  refine j_sald2 b53 dL_law_380 ?_
  obtain ⟨tx54, h⟩ := h
  obtain ⟨httx54, h⟩ := h
  obtain ⟨hxtx54, h⟩ := h
  obtain ⟨hf, h⟩ := h
  refine j_callV (b := 0) (As := [.int (gS Γ (l3 + 1).toNatClampNeg), .int (gS Γ (l3 + 2).toNatClampNeg)]) (st := []) (C := RX0) (kc' := kc) (ks' := ks) (tX0_person hf tx54 httx54 hxtx54 (gS Γ (l3 + 1).toNatClampNeg) (gS Γ (l3 + 2).toNatClampNeg) _ h) myX0_person rfl q1220 q1221 q1222 (by decide) (fun s9 H9 hK9 hR9 h69 => jIs_in hK9 hR9 h69 (f_lt hf (by decide)) (fk_0 hf) rfl) rfl (Nat.le_of_ble_eq_true rfl) rfl (by decide) (Nat.le_refl _) (Nat.le_refl _) dL_law_381 (fun v9 u9 hq => ?_) (fun k9 u9 hq => by obtain ⟨_, e9, _⟩ := hq; cases e9)
  obtain ⟨r55, e9, rfl, h⟩ := hq
  obtain rfl := Sum.inl.inj e9
  show J Γ RL cL_law 4 (some .boolean) "law" [] 510 kc ks 384 [(0, .ref 1000201), (1, .ref 0), (2, .ref 1198), (3, .int l3)] [.int r55] (n, K, A, Lg, G) P
  refine j_aload_n 2 rfl dL_law_384 ?_
  refine j_aload_n 0 rfl dL_law_385 ?_
  refine j_iload_n 3 rfl dL_law_386 ?_
  refine j_iconst (v := 1) dL_law_387 (by decide) ?_
  refine j_iadd dL_law_388 ?_
  obtain ⟨b56, h⟩ := h
  refine j_sald2 b56 dL_law_389 ?_
  refine j_aload_n 0 rfl dL_law_390 ?_
  refine j_iload_n 3 rfl dL_law_391 ?_
  refine j_iconst (v := 2) dL_law_392 (by decide) ?_
  refine j_iadd dL_law_393 ?_
  obtain ⟨b57, h⟩ := h
  refine j_sald2 b57 dL_law_394 ?_
  obtain ⟨hm, h⟩ := h
  refine j_callV (b := 1198) (As := [.int (gS Γ (l3 + 1).toNatClampNeg), .int (gS Γ (l3 + 2).toNatClampNeg)]) (st := [.int r55]) (C := RX10) (kc' := kc) (ks' := ks) (tX10_person hm (gS Γ (l3 + 1).toNatClampNeg) (gS Γ (l3 + 2).toNatClampNeg) _ h) myX10_person rfl q1915 q1916 q1917 (by decide) (fun s9 H9 hK9 hR9 h69 => jIs_in hK9 hR9 h69 (m_lt hm (by decide)) (fk_1198 hm) rfl) rfl (Nat.le_of_ble_eq_true rfl) rfl (by decide) (Nat.le_refl _) (Nat.le_refl _) dL_law_395 (fun v9 u9 hq => ?_) (fun k9 u9 hq => by obtain ⟨_, _, e9, _⟩ := hq; cases e9)
  obtain ⟨r58, A59, e9, rfl, h⟩ := hq
  obtain rfl := Sum.inl.inj e9
  show J Γ RL cL_law 4 (some .boolean) "law" [] 510 kc ks 398 [(0, .ref 1000201), (1, .ref 0), (2, .ref 1198), (3, .int l3)] [.int r58, .int r55] (n, K, A59, Lg, G) P
  refine j_icmp_eq (tgt := 1186) dL_law_398 (by decide) (fun c => ?_) (fun c => ?_)
  · rw [if_pos c] at h
    exact fL_law_J1186_ok  Q P hP k18 ok18 l3 n K A59 Lg G kc ks h
  · rw [if_neg c] at h
    refine j_iconst (v := 0) dL_law_401 (by decide) ?_
    refine j_zret rfl (by decide) ?_ dL_law_402
    rw [hP]
    exact ⟨0, n, K, A59, Lg, G, rfl, rfl, h⟩
def fL_law_J403 (Γ : jG) (k18 : Int32 → Nat → (Nat → pKd) → pA → pL → pG → Nat → Nat → Prop) (Q : Int32 → Nat → (Nat → pKd) → pA → pL → pG → Prop) (l3 : Int32) (n : Nat) (K : Nat → pKd) (A : pA) (Lg : pL) (G : pG) (kc : Nat) (ks : Nat) : Prop :=
    (vp_in (l3 + 1) (gN Γ)) ∧ ((vp_in (l3 + 2) (gN Γ)) ∧ ((vp_in (l3 + 3) (gN Γ)) ∧ (∃ tx63 : Nat, (G 0 3 = .ref tx63) ∧ ((xOK n K G tx63) ∧ ((fOK n K G) ∧ (fX0_mind tx63 n K A G (gS Γ (l3 + 1).toNatClampNeg) (gS Γ (l3 + 2).toNatClampNeg) (gS Γ (l3 + 3).toNatClampNeg) (fun r64 A65 => (vp_in (l3 + 1) (gN Γ)) ∧ ((vp_in (l3 + 2) (gN Γ)) ∧ ((vp_in (l3 + 3) (gN Γ)) ∧ ((mOK n K G) ∧ (fX10_mind A65 (gS Γ (l3 + 1).toNatClampNeg) (gS Γ (l3 + 2).toNatClampNeg) (gS Γ (l3 + 3).toNatClampNeg) (fun r69 A70 => (if r64 = r69 then fL_law_J1186 Γ k18 Q l3 n K A70 Lg G kc ks else Q 0 n K A70 Lg G)))))))))))))
theorem fL_law_J403_ok {Γ : jG} (Q : Int32 → Nat → (Nat → pKd) → pA → pL → pG → Prop) (P : jO → pS → Prop) (hP : P = (fun o u => ∃ (r : Int32) (n' : Nat) (K' : Nat → pKd) (A' : pA) (Lg' : pL) (G' : pG), o = .inl (some (.int r)) ∧ u = (n', K', A', Lg', G') ∧ Q r n' K' A' Lg' G')) (k18 : Int32 → Nat → (Nat → pKd) → pA → pL → pG → Nat → Nat → Prop) (ok18 : ∀ (l3 : Int32) (n : Nat) (K : Nat → pKd) (A : pA) (Lg : pL) (G : pG) (kc : Nat) (ks : Nat), k18 l3 n K A Lg G kc ks → J Γ RL cL_law 4 (some .boolean) "law" [] 510 kc ks 18 [(0, .ref 1000201), (1, .ref 0), (2, .ref 1198), (3, .int l3)] [] (n, K, A, Lg, G) P) (l3 : Int32) (n : Nat) (K : Nat → pKd) (A : pA) (Lg : pL) (G : pG) (kc : Nat) (ks : Nat) (h : fL_law_J403 Γ k18 Q l3 n K A Lg G kc ks) : J Γ RL cL_law 4 (some .boolean) "law" [] 510 kc ks 403 [(0, .ref 1000201), (1, .ref 0), (2, .ref 1198), (3, .int l3)] [] (n, K, A, Lg, G) P := by
  unfold fL_law_J403 at h
  refine j_aload_n 1 rfl dL_law_403 ?_
  refine j_aload_n 0 rfl dL_law_404 ?_
  refine j_iload_n 3 rfl dL_law_405 ?_
  refine j_iconst (v := 1) dL_law_406 (by decide) ?_
  refine j_iadd dL_law_407 ?_
  obtain ⟨b60, h⟩ := h
  refine j_sald2 b60 dL_law_408 ?_
  refine j_aload_n 0 rfl dL_law_409 ?_
  refine j_iload_n 3 rfl dL_law_410 ?_
  refine j_iconst (v := 2) dL_law_411 (by decide) ?_
  refine j_iadd dL_law_412 ?_
  obtain ⟨b61, h⟩ := h
  refine j_sald2 b61 dL_law_413 ?_
  refine j_aload_n 0 rfl dL_law_414 ?_
  refine j_iload_n 3 rfl dL_law_415 ?_
  refine j_iconst (v := 3) dL_law_416 (by decide) ?_
  refine j_iadd dL_law_417 ?_
  obtain ⟨b62, h⟩ := h
  refine j_sald2 b62 dL_law_418 ?_
  obtain ⟨tx63, h⟩ := h
  obtain ⟨httx63, h⟩ := h
  obtain ⟨hxtx63, h⟩ := h
  obtain ⟨hf, h⟩ := h
  refine j_callV (b := 0) (As := [.int (gS Γ (l3 + 1).toNatClampNeg), .int (gS Γ (l3 + 2).toNatClampNeg), .int (gS Γ (l3 + 3).toNatClampNeg)]) (st := []) (C := RX0) (kc' := kc) (ks' := ks) (tX0_mind hf tx63 httx63 hxtx63 (gS Γ (l3 + 1).toNatClampNeg) (gS Γ (l3 + 2).toNatClampNeg) (gS Γ (l3 + 3).toNatClampNeg) _ h) myX0_mind rfl q1237 q1238 q1239 (by decide) (fun s9 H9 hK9 hR9 h69 => jIs_in hK9 hR9 h69 (f_lt hf (by decide)) (fk_0 hf) rfl) rfl (Nat.le_of_ble_eq_true rfl) rfl (by decide) (Nat.le_refl _) (Nat.le_refl _) dL_law_419 (fun v9 u9 hq => ?_) (fun k9 u9 hq => by obtain ⟨_, _, e9, _⟩ := hq; cases e9)
  obtain ⟨r64, A65, e9, rfl, h⟩ := hq
  obtain rfl := Sum.inl.inj e9
  show J Γ RL cL_law 4 (some .boolean) "law" [] 510 kc ks 422 [(0, .ref 1000201), (1, .ref 0), (2, .ref 1198), (3, .int l3)] [.int r64] (n, K, A65, Lg, G) P
  refine j_aload_n 2 rfl dL_law_422 ?_
  refine j_aload_n 0 rfl dL_law_423 ?_
  refine j_iload_n 3 rfl dL_law_424 ?_
  refine j_iconst (v := 1) dL_law_425 (by decide) ?_
  refine j_iadd dL_law_426 ?_
  obtain ⟨b66, h⟩ := h
  refine j_sald2 b66 dL_law_427 ?_
  refine j_aload_n 0 rfl dL_law_428 ?_
  refine j_iload_n 3 rfl dL_law_429 ?_
  refine j_iconst (v := 2) dL_law_430 (by decide) ?_
  refine j_iadd dL_law_431 ?_
  obtain ⟨b67, h⟩ := h
  refine j_sald2 b67 dL_law_432 ?_
  refine j_aload_n 0 rfl dL_law_433 ?_
  refine j_iload_n 3 rfl dL_law_434 ?_
  refine j_iconst (v := 3) dL_law_435 (by decide) ?_
  refine j_iadd dL_law_436 ?_
  obtain ⟨b68, h⟩ := h
  refine j_sald2 b68 dL_law_437 ?_
  obtain ⟨hm, h⟩ := h
  refine j_callV (b := 1198) (As := [.int (gS Γ (l3 + 1).toNatClampNeg), .int (gS Γ (l3 + 2).toNatClampNeg), .int (gS Γ (l3 + 3).toNatClampNeg)]) (st := [.int r64]) (C := RX10) (kc' := kc) (ks' := ks) (tX10_mind hm (gS Γ (l3 + 1).toNatClampNeg) (gS Γ (l3 + 2).toNatClampNeg) (gS Γ (l3 + 3).toNatClampNeg) _ h) myX10_mind rfl q1923 q1924 q1925 (by decide) (fun s9 H9 hK9 hR9 h69 => jIs_in hK9 hR9 h69 (m_lt hm (by decide)) (fk_1198 hm) rfl) rfl (Nat.le_of_ble_eq_true rfl) rfl (by decide) (Nat.le_refl _) (Nat.le_refl _) dL_law_438 (fun v9 u9 hq => ?_) (fun k9 u9 hq => by obtain ⟨_, _, e9, _⟩ := hq; cases e9)
  obtain ⟨r69, A70, e9, rfl, h⟩ := hq
  obtain rfl := Sum.inl.inj e9
  show J Γ RL cL_law 4 (some .boolean) "law" [] 510 kc ks 441 [(0, .ref 1000201), (1, .ref 0), (2, .ref 1198), (3, .int l3)] [.int r69, .int r64] (n, K, A70, Lg, G) P
  refine j_icmp_eq (tgt := 1186) dL_law_441 (by decide) (fun c => ?_) (fun c => ?_)
  · rw [if_pos c] at h
    exact fL_law_J1186_ok  Q P hP k18 ok18 l3 n K A70 Lg G kc ks h
  · rw [if_neg c] at h
    refine j_iconst (v := 0) dL_law_444 (by decide) ?_
    refine j_zret rfl (by decide) ?_ dL_law_445
    rw [hP]
    exact ⟨0, n, K, A70, Lg, G, rfl, rfl, h⟩
def fL_law_J446 (Γ : jG) (k18 : Int32 → Nat → (Nat → pKd) → pA → pL → pG → Nat → Nat → Prop) (Q : Int32 → Nat → (Nat → pKd) → pA → pL → pG → Prop) (l3 : Int32) (n : Nat) (K : Nat → pKd) (A : pA) (Lg : pL) (G : pG) (kc : Nat) (ks : Nat) : Prop :=
    (vp_in (l3 + 1) (gN Γ)) ∧ ((vp_in (l3 + 2) (gN Γ)) ∧ (∃ tx73 : Nat, (G 0 3 = .ref tx73) ∧ ((xOK n K G tx73) ∧ ((fOK n K G) ∧ (fX0_go tx73 A (gS Γ (l3 + 1).toNatClampNeg) (gS Γ (l3 + 2).toNatClampNeg) (fun r74 A75 => (vp_in (l3 + 1) (gN Γ)) ∧ ((vp_in (l3 + 2) (gN Γ)) ∧ ((mOK n K G) ∧ (fX10_go A75 (gS Γ (l3 + 1).toNatClampNeg) (gS Γ (l3 + 2).toNatClampNeg) (fun r78 A79 => (if r74 = r78 then fL_law_J1186 Γ k18 Q l3 n K A79 Lg G kc ks else Q 0 n K A79 Lg G)))))))))))
theorem fL_law_J446_ok {Γ : jG} (Q : Int32 → Nat → (Nat → pKd) → pA → pL → pG → Prop) (P : jO → pS → Prop) (hP : P = (fun o u => ∃ (r : Int32) (n' : Nat) (K' : Nat → pKd) (A' : pA) (Lg' : pL) (G' : pG), o = .inl (some (.int r)) ∧ u = (n', K', A', Lg', G') ∧ Q r n' K' A' Lg' G')) (k18 : Int32 → Nat → (Nat → pKd) → pA → pL → pG → Nat → Nat → Prop) (ok18 : ∀ (l3 : Int32) (n : Nat) (K : Nat → pKd) (A : pA) (Lg : pL) (G : pG) (kc : Nat) (ks : Nat), k18 l3 n K A Lg G kc ks → J Γ RL cL_law 4 (some .boolean) "law" [] 510 kc ks 18 [(0, .ref 1000201), (1, .ref 0), (2, .ref 1198), (3, .int l3)] [] (n, K, A, Lg, G) P) (l3 : Int32) (n : Nat) (K : Nat → pKd) (A : pA) (Lg : pL) (G : pG) (kc : Nat) (ks : Nat) (h : fL_law_J446 Γ k18 Q l3 n K A Lg G kc ks) : J Γ RL cL_law 4 (some .boolean) "law" [] 510 kc ks 446 [(0, .ref 1000201), (1, .ref 0), (2, .ref 1198), (3, .int l3)] [] (n, K, A, Lg, G) P := by
  unfold fL_law_J446 at h
  refine j_aload_n 1 rfl dL_law_446 ?_
  refine j_aload_n 0 rfl dL_law_447 ?_
  refine j_iload_n 3 rfl dL_law_448 ?_
  refine j_iconst (v := 1) dL_law_449 (by decide) ?_
  refine j_iadd dL_law_450 ?_
  obtain ⟨b71, h⟩ := h
  refine j_sald2 b71 dL_law_451 ?_
  refine j_aload_n 0 rfl dL_law_452 ?_
  refine j_iload_n 3 rfl dL_law_453 ?_
  refine j_iconst (v := 2) dL_law_454 (by decide) ?_
  refine j_iadd dL_law_455 ?_
  obtain ⟨b72, h⟩ := h
  refine j_sald2 b72 dL_law_456 ?_
  obtain ⟨tx73, h⟩ := h
  obtain ⟨httx73, h⟩ := h
  obtain ⟨hxtx73, h⟩ := h
  obtain ⟨hf, h⟩ := h
  refine j_callV (b := 0) (As := [.int (gS Γ (l3 + 1).toNatClampNeg), .int (gS Γ (l3 + 2).toNatClampNeg)]) (st := []) (C := RX0) (kc' := kc) (ks' := ks) (tX0_go hf tx73 httx73 hxtx73 (gS Γ (l3 + 1).toNatClampNeg) (gS Γ (l3 + 2).toNatClampNeg) _ h) myX0_go rfl q1285 q1286 q1287 (by decide) (fun s9 H9 hK9 hR9 h69 => jIs_in hK9 hR9 h69 (f_lt hf (by decide)) (fk_0 hf) rfl) rfl (Nat.le_of_ble_eq_true rfl) rfl (by decide) (Nat.le_refl _) (Nat.le_refl _) dL_law_457 (fun v9 u9 hq => ?_) (fun k9 u9 hq => by obtain ⟨_, _, e9, _⟩ := hq; cases e9)
  obtain ⟨r74, A75, e9, rfl, h⟩ := hq
  obtain rfl := Sum.inl.inj e9
  show J Γ RL cL_law 4 (some .boolean) "law" [] 510 kc ks 460 [(0, .ref 1000201), (1, .ref 0), (2, .ref 1198), (3, .int l3)] [.int r74] (n, K, A75, Lg, G) P
  refine j_aload_n 2 rfl dL_law_460 ?_
  refine j_aload_n 0 rfl dL_law_461 ?_
  refine j_iload_n 3 rfl dL_law_462 ?_
  refine j_iconst (v := 1) dL_law_463 (by decide) ?_
  refine j_iadd dL_law_464 ?_
  obtain ⟨b76, h⟩ := h
  refine j_sald2 b76 dL_law_465 ?_
  refine j_aload_n 0 rfl dL_law_466 ?_
  refine j_iload_n 3 rfl dL_law_467 ?_
  refine j_iconst (v := 2) dL_law_468 (by decide) ?_
  refine j_iadd dL_law_469 ?_
  obtain ⟨b77, h⟩ := h
  refine j_sald2 b77 dL_law_470 ?_
  obtain ⟨hm, h⟩ := h
  refine j_callV (b := 1198) (As := [.int (gS Γ (l3 + 1).toNatClampNeg), .int (gS Γ (l3 + 2).toNatClampNeg)]) (st := [.int r74]) (C := RX10) (kc' := kc) (ks' := ks) (tX10_go hm (gS Γ (l3 + 1).toNatClampNeg) (gS Γ (l3 + 2).toNatClampNeg) _ h) myX10_go rfl q1967 q1968 q1969 (by decide) (fun s9 H9 hK9 hR9 h69 => jIs_in hK9 hR9 h69 (m_lt hm (by decide)) (fk_1198 hm) rfl) rfl (Nat.le_of_ble_eq_true rfl) rfl (by decide) (Nat.le_refl _) (Nat.le_refl _) dL_law_471 (fun v9 u9 hq => ?_) (fun k9 u9 hq => by obtain ⟨_, _, e9, _⟩ := hq; cases e9)
  obtain ⟨r78, A79, e9, rfl, h⟩ := hq
  obtain rfl := Sum.inl.inj e9
  show J Γ RL cL_law 4 (some .boolean) "law" [] 510 kc ks 474 [(0, .ref 1000201), (1, .ref 0), (2, .ref 1198), (3, .int l3)] [.int r78, .int r74] (n, K, A79, Lg, G) P
  refine j_icmp_eq (tgt := 1186) dL_law_474 (by decide) (fun c => ?_) (fun c => ?_)
  · rw [if_pos c] at h
    exact fL_law_J1186_ok  Q P hP k18 ok18 l3 n K A79 Lg G kc ks h
  · rw [if_neg c] at h
    refine j_iconst (v := 0) dL_law_477 (by decide) ?_
    refine j_zret rfl (by decide) ?_ dL_law_478
    rw [hP]
    exact ⟨0, n, K, A79, Lg, G, rfl, rfl, h⟩
def fL_law_J479 (Γ : jG) (k18 : Int32 → Nat → (Nat → pKd) → pA → pL → pG → Nat → Nat → Prop) (Q : Int32 → Nat → (Nat → pKd) → pA → pL → pG → Prop) (l3 : Int32) (n : Nat) (K : Nat → pKd) (A : pA) (Lg : pL) (G : pG) (kc : Nat) (ks : Nat) : Prop :=
    (vp_in (l3 + 1) (gN Γ)) ∧ ((vp_in (l3 + 2) (gN Γ)) ∧ ((vp_in (l3 + 3) (gN Γ)) ∧ (∃ tx83 : Nat, (G 0 3 = .ref tx83) ∧ ((xOK n K G tx83) ∧ ((fOK n K G) ∧ (fX0_give tx83 A (gS Γ (l3 + 1).toNatClampNeg) (gS Γ (l3 + 2).toNatClampNeg) (gS Γ (l3 + 3).toNatClampNeg) (fun r84 A85 => (vp_in (l3 + 1) (gN Γ)) ∧ ((vp_in (l3 + 2) (gN Γ)) ∧ ((vp_in (l3 + 3) (gN Γ)) ∧ ((mOK n K G) ∧ (fX10_give A85 (gS Γ (l3 + 1).toNatClampNeg) (gS Γ (l3 + 2).toNatClampNeg) (gS Γ (l3 + 3).toNatClampNeg) (fun r89 A90 => (if r84 = r89 then fL_law_J1186 Γ k18 Q l3 n K A90 Lg G kc ks else Q 0 n K A90 Lg G)))))))))))))
theorem fL_law_J479_ok {Γ : jG} (Q : Int32 → Nat → (Nat → pKd) → pA → pL → pG → Prop) (P : jO → pS → Prop) (hP : P = (fun o u => ∃ (r : Int32) (n' : Nat) (K' : Nat → pKd) (A' : pA) (Lg' : pL) (G' : pG), o = .inl (some (.int r)) ∧ u = (n', K', A', Lg', G') ∧ Q r n' K' A' Lg' G')) (k18 : Int32 → Nat → (Nat → pKd) → pA → pL → pG → Nat → Nat → Prop) (ok18 : ∀ (l3 : Int32) (n : Nat) (K : Nat → pKd) (A : pA) (Lg : pL) (G : pG) (kc : Nat) (ks : Nat), k18 l3 n K A Lg G kc ks → J Γ RL cL_law 4 (some .boolean) "law" [] 510 kc ks 18 [(0, .ref 1000201), (1, .ref 0), (2, .ref 1198), (3, .int l3)] [] (n, K, A, Lg, G) P) (l3 : Int32) (n : Nat) (K : Nat → pKd) (A : pA) (Lg : pL) (G : pG) (kc : Nat) (ks : Nat) (h : fL_law_J479 Γ k18 Q l3 n K A Lg G kc ks) : J Γ RL cL_law 4 (some .boolean) "law" [] 510 kc ks 479 [(0, .ref 1000201), (1, .ref 0), (2, .ref 1198), (3, .int l3)] [] (n, K, A, Lg, G) P := by
  unfold fL_law_J479 at h
  refine j_aload_n 1 rfl dL_law_479 ?_
  refine j_aload_n 0 rfl dL_law_480 ?_
  refine j_iload_n 3 rfl dL_law_481 ?_
  refine j_iconst (v := 1) dL_law_482 (by decide) ?_
  refine j_iadd dL_law_483 ?_
  obtain ⟨b80, h⟩ := h
  refine j_sald2 b80 dL_law_484 ?_
  refine j_aload_n 0 rfl dL_law_485 ?_
  refine j_iload_n 3 rfl dL_law_486 ?_
  refine j_iconst (v := 2) dL_law_487 (by decide) ?_
  refine j_iadd dL_law_488 ?_
  obtain ⟨b81, h⟩ := h
  refine j_sald2 b81 dL_law_489 ?_
  refine j_aload_n 0 rfl dL_law_490 ?_
  refine j_iload_n 3 rfl dL_law_491 ?_
  refine j_iconst (v := 3) dL_law_492 (by decide) ?_
  refine j_iadd dL_law_493 ?_
  obtain ⟨b82, h⟩ := h
  refine j_sald2 b82 dL_law_494 ?_
  obtain ⟨tx83, h⟩ := h
  obtain ⟨httx83, h⟩ := h
  obtain ⟨hxtx83, h⟩ := h
  obtain ⟨hf, h⟩ := h
  refine j_callV (b := 0) (As := [.int (gS Γ (l3 + 1).toNatClampNeg), .int (gS Γ (l3 + 2).toNatClampNeg), .int (gS Γ (l3 + 3).toNatClampNeg)]) (st := []) (C := RX0) (kc' := kc) (ks' := ks) (tX0_give hf tx83 httx83 hxtx83 (gS Γ (l3 + 1).toNatClampNeg) (gS Γ (l3 + 2).toNatClampNeg) (gS Γ (l3 + 3).toNatClampNeg) _ h) myX0_give rfl q1301 q1302 q1303 (by decide) (fun s9 H9 hK9 hR9 h69 => jIs_in hK9 hR9 h69 (f_lt hf (by decide)) (fk_0 hf) rfl) rfl (Nat.le_of_ble_eq_true rfl) rfl (by decide) (Nat.le_refl _) (Nat.le_refl _) dL_law_495 (fun v9 u9 hq => ?_) (fun k9 u9 hq => by obtain ⟨_, _, e9, _⟩ := hq; cases e9)
  obtain ⟨r84, A85, e9, rfl, h⟩ := hq
  obtain rfl := Sum.inl.inj e9
  show J Γ RL cL_law 4 (some .boolean) "law" [] 510 kc ks 498 [(0, .ref 1000201), (1, .ref 0), (2, .ref 1198), (3, .int l3)] [.int r84] (n, K, A85, Lg, G) P
  refine j_aload_n 2 rfl dL_law_498 ?_
  refine j_aload_n 0 rfl dL_law_499 ?_
  refine j_iload_n 3 rfl dL_law_500 ?_
  refine j_iconst (v := 1) dL_law_501 (by decide) ?_
  refine j_iadd dL_law_502 ?_
  obtain ⟨b86, h⟩ := h
  refine j_sald2 b86 dL_law_503 ?_
  refine j_aload_n 0 rfl dL_law_504 ?_
  refine j_iload_n 3 rfl dL_law_505 ?_
  refine j_iconst (v := 2) dL_law_506 (by decide) ?_
  refine j_iadd dL_law_507 ?_
  obtain ⟨b87, h⟩ := h
  refine j_sald2 b87 dL_law_508 ?_
  refine j_aload_n 0 rfl dL_law_509 ?_
  refine j_iload_n 3 rfl dL_law_510 ?_
  refine j_iconst (v := 3) dL_law_511 (by decide) ?_
  refine j_iadd dL_law_512 ?_
  obtain ⟨b88, h⟩ := h
  refine j_sald2 b88 dL_law_513 ?_
  obtain ⟨hm, h⟩ := h
  refine j_callV (b := 1198) (As := [.int (gS Γ (l3 + 1).toNatClampNeg), .int (gS Γ (l3 + 2).toNatClampNeg), .int (gS Γ (l3 + 3).toNatClampNeg)]) (st := [.int r84]) (C := RX10) (kc' := kc) (ks' := ks) (tX10_give hm (gS Γ (l3 + 1).toNatClampNeg) (gS Γ (l3 + 2).toNatClampNeg) (gS Γ (l3 + 3).toNatClampNeg) _ h) myX10_give rfl q1975 q1976 q1977 (by decide) (fun s9 H9 hK9 hR9 h69 => jIs_in hK9 hR9 h69 (m_lt hm (by decide)) (fk_1198 hm) rfl) rfl (Nat.le_of_ble_eq_true rfl) rfl (by decide) (Nat.le_refl _) (Nat.le_refl _) dL_law_514 (fun v9 u9 hq => ?_) (fun k9 u9 hq => by obtain ⟨_, _, e9, _⟩ := hq; cases e9)
  obtain ⟨r89, A90, e9, rfl, h⟩ := hq
  obtain rfl := Sum.inl.inj e9
  show J Γ RL cL_law 4 (some .boolean) "law" [] 510 kc ks 517 [(0, .ref 1000201), (1, .ref 0), (2, .ref 1198), (3, .int l3)] [.int r89, .int r84] (n, K, A90, Lg, G) P
  refine j_icmp_eq (tgt := 1186) dL_law_517 (by decide) (fun c => ?_) (fun c => ?_)
  · rw [if_pos c] at h
    exact fL_law_J1186_ok  Q P hP k18 ok18 l3 n K A90 Lg G kc ks h
  · rw [if_neg c] at h
    refine j_iconst (v := 0) dL_law_520 (by decide) ?_
    refine j_zret rfl (by decide) ?_ dL_law_521
    rw [hP]
    exact ⟨0, n, K, A90, Lg, G, rfl, rfl, h⟩
def fL_law_J522 (Γ : jG) (k18 : Int32 → Nat → (Nat → pKd) → pA → pL → pG → Nat → Nat → Prop) (Q : Int32 → Nat → (Nat → pKd) → pA → pL → pG → Prop) (l3 : Int32) (n : Nat) (K : Nat → pKd) (A : pA) (Lg : pL) (G : pG) (kc : Nat) (ks : Nat) : Prop :=
    (vp_in (l3 + 1) (gN Γ)) ∧ ((vp_in (l3 + 2) (gN Γ)) ∧ (∃ tx93 : Nat, (G 0 3 = .ref tx93) ∧ ((xOK n K G tx93) ∧ ((fOK n K G) ∧ (fX0_kick tx93 A (gS Γ (l3 + 1).toNatClampNeg) (gS Γ (l3 + 2).toNatClampNeg) (fun r94 A95 => (vp_in (l3 + 1) (gN Γ)) ∧ ((vp_in (l3 + 2) (gN Γ)) ∧ ((mOK n K G) ∧ (fX10_kick A95 (gS Γ (l3 + 1).toNatClampNeg) (gS Γ (l3 + 2).toNatClampNeg) (fun r98 A99 => (if r94 = r98 then fL_law_J1186 Γ k18 Q l3 n K A99 Lg G kc ks else Q 0 n K A99 Lg G)))))))))))
theorem fL_law_J522_ok {Γ : jG} (Q : Int32 → Nat → (Nat → pKd) → pA → pL → pG → Prop) (P : jO → pS → Prop) (hP : P = (fun o u => ∃ (r : Int32) (n' : Nat) (K' : Nat → pKd) (A' : pA) (Lg' : pL) (G' : pG), o = .inl (some (.int r)) ∧ u = (n', K', A', Lg', G') ∧ Q r n' K' A' Lg' G')) (k18 : Int32 → Nat → (Nat → pKd) → pA → pL → pG → Nat → Nat → Prop) (ok18 : ∀ (l3 : Int32) (n : Nat) (K : Nat → pKd) (A : pA) (Lg : pL) (G : pG) (kc : Nat) (ks : Nat), k18 l3 n K A Lg G kc ks → J Γ RL cL_law 4 (some .boolean) "law" [] 510 kc ks 18 [(0, .ref 1000201), (1, .ref 0), (2, .ref 1198), (3, .int l3)] [] (n, K, A, Lg, G) P) (l3 : Int32) (n : Nat) (K : Nat → pKd) (A : pA) (Lg : pL) (G : pG) (kc : Nat) (ks : Nat) (h : fL_law_J522 Γ k18 Q l3 n K A Lg G kc ks) : J Γ RL cL_law 4 (some .boolean) "law" [] 510 kc ks 522 [(0, .ref 1000201), (1, .ref 0), (2, .ref 1198), (3, .int l3)] [] (n, K, A, Lg, G) P := by
  unfold fL_law_J522 at h
  refine j_aload_n 1 rfl dL_law_522 ?_
  refine j_aload_n 0 rfl dL_law_523 ?_
  refine j_iload_n 3 rfl dL_law_524 ?_
  refine j_iconst (v := 1) dL_law_525 (by decide) ?_
  refine j_iadd dL_law_526 ?_
  obtain ⟨b91, h⟩ := h
  refine j_sald2 b91 dL_law_527 ?_
  refine j_aload_n 0 rfl dL_law_528 ?_
  refine j_iload_n 3 rfl dL_law_529 ?_
  refine j_iconst (v := 2) dL_law_530 (by decide) ?_
  refine j_iadd dL_law_531 ?_
  obtain ⟨b92, h⟩ := h
  refine j_sald2 b92 dL_law_532 ?_
  obtain ⟨tx93, h⟩ := h
  obtain ⟨httx93, h⟩ := h
  obtain ⟨hxtx93, h⟩ := h
  obtain ⟨hf, h⟩ := h
  refine j_callV (b := 0) (As := [.int (gS Γ (l3 + 1).toNatClampNeg), .int (gS Γ (l3 + 2).toNatClampNeg)]) (st := []) (C := RX0) (kc' := kc) (ks' := ks) (tX0_kick hf tx93 httx93 hxtx93 (gS Γ (l3 + 1).toNatClampNeg) (gS Γ (l3 + 2).toNatClampNeg) _ h) myX0_kick rfl q1309 q1310 q1311 (by decide) (fun s9 H9 hK9 hR9 h69 => jIs_in hK9 hR9 h69 (f_lt hf (by decide)) (fk_0 hf) rfl) rfl (Nat.le_of_ble_eq_true rfl) rfl (by decide) (Nat.le_refl _) (Nat.le_refl _) dL_law_533 (fun v9 u9 hq => ?_) (fun k9 u9 hq => by obtain ⟨_, _, e9, _⟩ := hq; cases e9)
  obtain ⟨r94, A95, e9, rfl, h⟩ := hq
  obtain rfl := Sum.inl.inj e9
  show J Γ RL cL_law 4 (some .boolean) "law" [] 510 kc ks 536 [(0, .ref 1000201), (1, .ref 0), (2, .ref 1198), (3, .int l3)] [.int r94] (n, K, A95, Lg, G) P
  refine j_aload_n 2 rfl dL_law_536 ?_
  refine j_aload_n 0 rfl dL_law_537 ?_
  refine j_iload_n 3 rfl dL_law_538 ?_
  refine j_iconst (v := 1) dL_law_539 (by decide) ?_
  refine j_iadd dL_law_540 ?_
  obtain ⟨b96, h⟩ := h
  refine j_sald2 b96 dL_law_541 ?_
  refine j_aload_n 0 rfl dL_law_542 ?_
  refine j_iload_n 3 rfl dL_law_543 ?_
  refine j_iconst (v := 2) dL_law_544 (by decide) ?_
  refine j_iadd dL_law_545 ?_
  obtain ⟨b97, h⟩ := h
  refine j_sald2 b97 dL_law_546 ?_
  obtain ⟨hm, h⟩ := h
  refine j_callV (b := 1198) (As := [.int (gS Γ (l3 + 1).toNatClampNeg), .int (gS Γ (l3 + 2).toNatClampNeg)]) (st := [.int r94]) (C := RX10) (kc' := kc) (ks' := ks) (tX10_kick hm (gS Γ (l3 + 1).toNatClampNeg) (gS Γ (l3 + 2).toNatClampNeg) _ h) myX10_kick rfl q1983 q1984 q1985 (by decide) (fun s9 H9 hK9 hR9 h69 => jIs_in hK9 hR9 h69 (m_lt hm (by decide)) (fk_1198 hm) rfl) rfl (Nat.le_of_ble_eq_true rfl) rfl (by decide) (Nat.le_refl _) (Nat.le_refl _) dL_law_547 (fun v9 u9 hq => ?_) (fun k9 u9 hq => by obtain ⟨_, _, e9, _⟩ := hq; cases e9)
  obtain ⟨r98, A99, e9, rfl, h⟩ := hq
  obtain rfl := Sum.inl.inj e9
  show J Γ RL cL_law 4 (some .boolean) "law" [] 510 kc ks 550 [(0, .ref 1000201), (1, .ref 0), (2, .ref 1198), (3, .int l3)] [.int r98, .int r94] (n, K, A99, Lg, G) P
  refine j_icmp_eq (tgt := 1186) dL_law_550 (by decide) (fun c => ?_) (fun c => ?_)
  · rw [if_pos c] at h
    exact fL_law_J1186_ok  Q P hP k18 ok18 l3 n K A99 Lg G kc ks h
  · rw [if_neg c] at h
    refine j_iconst (v := 0) dL_law_553 (by decide) ?_
    refine j_zret rfl (by decide) ?_ dL_law_554
    rw [hP]
    exact ⟨0, n, K, A99, Lg, G, rfl, rfl, h⟩
def fL_law_J555 (Γ : jG) (k18 : Int32 → Nat → (Nat → pKd) → pA → pL → pG → Nat → Nat → Prop) (Q : Int32 → Nat → (Nat → pKd) → pA → pL → pG → Prop) (l3 : Int32) (n : Nat) (K : Nat → pKd) (A : pA) (Lg : pL) (G : pG) (kc : Nat) (ks : Nat) : Prop :=
    (vp_in (l3 + 1) (gN Γ)) ∧ (∃ tx101 : Nat, (G 0 3 = .ref tx101) ∧ ((xOK n K G tx101) ∧ ((fOK n K G) ∧ (fX0_minutes tx101 n K A G (gS Γ (l3 + 1).toNatClampNeg) (fun r102 A103 => (vp_in (l3 + 1) (gN Γ)) ∧ ((mOK n K G) ∧ (fX10_minutes A103 (gS Γ (l3 + 1).toNatClampNeg) (fun r105 A106 => (if r102 = r105 then fL_law_J1186 Γ k18 Q l3 n K A106 Lg G kc ks else Q 0 n K A106 Lg G)))))))))
theorem fL_law_J555_ok {Γ : jG} (Q : Int32 → Nat → (Nat → pKd) → pA → pL → pG → Prop) (P : jO → pS → Prop) (hP : P = (fun o u => ∃ (r : Int32) (n' : Nat) (K' : Nat → pKd) (A' : pA) (Lg' : pL) (G' : pG), o = .inl (some (.int r)) ∧ u = (n', K', A', Lg', G') ∧ Q r n' K' A' Lg' G')) (k18 : Int32 → Nat → (Nat → pKd) → pA → pL → pG → Nat → Nat → Prop) (ok18 : ∀ (l3 : Int32) (n : Nat) (K : Nat → pKd) (A : pA) (Lg : pL) (G : pG) (kc : Nat) (ks : Nat), k18 l3 n K A Lg G kc ks → J Γ RL cL_law 4 (some .boolean) "law" [] 510 kc ks 18 [(0, .ref 1000201), (1, .ref 0), (2, .ref 1198), (3, .int l3)] [] (n, K, A, Lg, G) P) (l3 : Int32) (n : Nat) (K : Nat → pKd) (A : pA) (Lg : pL) (G : pG) (kc : Nat) (ks : Nat) (h : fL_law_J555 Γ k18 Q l3 n K A Lg G kc ks) : J Γ RL cL_law 4 (some .boolean) "law" [] 510 kc ks 555 [(0, .ref 1000201), (1, .ref 0), (2, .ref 1198), (3, .int l3)] [] (n, K, A, Lg, G) P := by
  unfold fL_law_J555 at h
  refine j_aload_n 1 rfl dL_law_555 ?_
  refine j_aload_n 0 rfl dL_law_556 ?_
  refine j_iload_n 3 rfl dL_law_557 ?_
  refine j_iconst (v := 1) dL_law_558 (by decide) ?_
  refine j_iadd dL_law_559 ?_
  obtain ⟨b100, h⟩ := h
  refine j_sald2 b100 dL_law_560 ?_
  obtain ⟨tx101, h⟩ := h
  obtain ⟨httx101, h⟩ := h
  obtain ⟨hxtx101, h⟩ := h
  obtain ⟨hf, h⟩ := h
  refine j_callV (b := 0) (As := [.int (gS Γ (l3 + 1).toNatClampNeg)]) (st := []) (C := RX0) (kc' := kc) (ks' := ks) (tX0_minutes hf tx101 httx101 hxtx101 (gS Γ (l3 + 1).toNatClampNeg) _ h) myX0_minutes rfl q1313 q1314 q1315 (by decide) (fun s9 H9 hK9 hR9 h69 => jIs_in hK9 hR9 h69 (f_lt hf (by decide)) (fk_0 hf) rfl) rfl (Nat.le_of_ble_eq_true rfl) rfl (by decide) (Nat.le_refl _) (Nat.le_refl _) dL_law_561 (fun v9 u9 hq => ?_) (fun k9 u9 hq => by obtain ⟨_, _, e9, _⟩ := hq; cases e9)
  obtain ⟨r102, A103, e9, rfl, h⟩ := hq
  obtain rfl := Sum.inl.inj e9
  show J Γ RL cL_law 4 (some .boolean) "law" [] 510 kc ks 564 [(0, .ref 1000201), (1, .ref 0), (2, .ref 1198), (3, .int l3)] [.int r102] (n, K, A103, Lg, G) P
  refine j_aload_n 2 rfl dL_law_564 ?_
  refine j_aload_n 0 rfl dL_law_565 ?_
  refine j_iload_n 3 rfl dL_law_566 ?_
  refine j_iconst (v := 1) dL_law_567 (by decide) ?_
  refine j_iadd dL_law_568 ?_
  obtain ⟨b104, h⟩ := h
  refine j_sald2 b104 dL_law_569 ?_
  obtain ⟨hm, h⟩ := h
  refine j_callV (b := 1198) (As := [.int (gS Γ (l3 + 1).toNatClampNeg)]) (st := [.int r102]) (C := RX10) (kc' := kc) (ks' := ks) (tX10_minutes hm (gS Γ (l3 + 1).toNatClampNeg) _ h) myX10_minutes rfl q1987 q1988 q1989 (by decide) (fun s9 H9 hK9 hR9 h69 => jIs_in hK9 hR9 h69 (m_lt hm (by decide)) (fk_1198 hm) rfl) rfl (Nat.le_of_ble_eq_true rfl) rfl (by decide) (Nat.le_refl _) (Nat.le_refl _) dL_law_570 (fun v9 u9 hq => ?_) (fun k9 u9 hq => by obtain ⟨_, _, e9, _⟩ := hq; cases e9)
  obtain ⟨r105, A106, e9, rfl, h⟩ := hq
  obtain rfl := Sum.inl.inj e9
  show J Γ RL cL_law 4 (some .boolean) "law" [] 510 kc ks 573 [(0, .ref 1000201), (1, .ref 0), (2, .ref 1198), (3, .int l3)] [.int r105, .int r102] (n, K, A106, Lg, G) P
  refine j_icmp_eq (tgt := 1186) dL_law_573 (by decide) (fun c => ?_) (fun c => ?_)
  · rw [if_pos c] at h
    exact fL_law_J1186_ok  Q P hP k18 ok18 l3 n K A106 Lg G kc ks h
  · rw [if_neg c] at h
    refine j_iconst (v := 0) dL_law_576 (by decide) ?_
    refine j_zret rfl (by decide) ?_ dL_law_577
    rw [hP]
    exact ⟨0, n, K, A106, Lg, G, rfl, rfl, h⟩
def fL_law_J578 (Γ : jG) (k18 : Int32 → Nat → (Nat → pKd) → pA → pL → pG → Nat → Nat → Prop) (Q : Int32 → Nat → (Nat → pKd) → pA → pL → pG → Prop) (l3 : Int32) (n : Nat) (K : Nat → pKd) (A : pA) (Lg : pL) (G : pG) (kc : Nat) (ks : Nat) : Prop :=
    ∃ tx107 : Nat, (G 0 3 = .ref tx107) ∧ ((xOK n K G tx107) ∧ ((fOK n K G) ∧ (fX0_undo tx107 A (fun r108 A109 => (mOK n K G) ∧ (fX10_undo A109 (fun r110 A111 => (if r108 = r110 then fL_law_J1186 Γ k18 Q l3 n K A111 Lg G kc ks else Q 0 n K A111 Lg G)))))))
theorem fL_law_J578_ok {Γ : jG} (Q : Int32 → Nat → (Nat → pKd) → pA → pL → pG → Prop) (P : jO → pS → Prop) (hP : P = (fun o u => ∃ (r : Int32) (n' : Nat) (K' : Nat → pKd) (A' : pA) (Lg' : pL) (G' : pG), o = .inl (some (.int r)) ∧ u = (n', K', A', Lg', G') ∧ Q r n' K' A' Lg' G')) (k18 : Int32 → Nat → (Nat → pKd) → pA → pL → pG → Nat → Nat → Prop) (ok18 : ∀ (l3 : Int32) (n : Nat) (K : Nat → pKd) (A : pA) (Lg : pL) (G : pG) (kc : Nat) (ks : Nat), k18 l3 n K A Lg G kc ks → J Γ RL cL_law 4 (some .boolean) "law" [] 510 kc ks 18 [(0, .ref 1000201), (1, .ref 0), (2, .ref 1198), (3, .int l3)] [] (n, K, A, Lg, G) P) (l3 : Int32) (n : Nat) (K : Nat → pKd) (A : pA) (Lg : pL) (G : pG) (kc : Nat) (ks : Nat) (h : fL_law_J578 Γ k18 Q l3 n K A Lg G kc ks) : J Γ RL cL_law 4 (some .boolean) "law" [] 510 kc ks 578 [(0, .ref 1000201), (1, .ref 0), (2, .ref 1198), (3, .int l3)] [] (n, K, A, Lg, G) P := by
  unfold fL_law_J578 at h
  refine j_aload_n 1 rfl dL_law_578 ?_
  obtain ⟨tx107, h⟩ := h
  obtain ⟨httx107, h⟩ := h
  obtain ⟨hxtx107, h⟩ := h
  obtain ⟨hf, h⟩ := h
  refine j_callV (b := 0) (As := []) (st := []) (C := RX0) (kc' := kc) (ks' := ks) (tX0_undo hf tx107 httx107 hxtx107 _ h) myX0_undo rfl q1372 q1373 q1374 (by decide) (fun s9 H9 hK9 hR9 h69 => jIs_in hK9 hR9 h69 (f_lt hf (by decide)) (fk_0 hf) rfl) rfl (Nat.le_of_ble_eq_true rfl) rfl (by decide) (Nat.le_refl _) (Nat.le_refl _) dL_law_579 (fun v9 u9 hq => ?_) (fun k9 u9 hq => by obtain ⟨_, _, e9, _⟩ := hq; cases e9)
  obtain ⟨r108, A109, e9, rfl, h⟩ := hq
  obtain rfl := Sum.inl.inj e9
  show J Γ RL cL_law 4 (some .boolean) "law" [] 510 kc ks 582 [(0, .ref 1000201), (1, .ref 0), (2, .ref 1198), (3, .int l3)] [.int r108] (n, K, A109, Lg, G) P
  refine j_aload_n 2 rfl dL_law_582 ?_
  obtain ⟨hm, h⟩ := h
  refine j_callV (b := 1198) (As := []) (st := [.int r108]) (C := RX10) (kc' := kc) (ks' := ks) (tX10_undo hm  _ h) myX10_undo rfl q2031 q2032 q2033 (by decide) (fun s9 H9 hK9 hR9 h69 => jIs_in hK9 hR9 h69 (m_lt hm (by decide)) (fk_1198 hm) rfl) rfl (Nat.le_of_ble_eq_true rfl) rfl (by decide) (Nat.le_refl _) (Nat.le_refl _) dL_law_583 (fun v9 u9 hq => ?_) (fun k9 u9 hq => by obtain ⟨_, _, e9, _⟩ := hq; cases e9)
  obtain ⟨r110, A111, e9, rfl, h⟩ := hq
  obtain rfl := Sum.inl.inj e9
  show J Γ RL cL_law 4 (some .boolean) "law" [] 510 kc ks 586 [(0, .ref 1000201), (1, .ref 0), (2, .ref 1198), (3, .int l3)] [.int r110, .int r108] (n, K, A111, Lg, G) P
  refine j_icmp_eq (tgt := 1186) dL_law_586 (by decide) (fun c => ?_) (fun c => ?_)
  · rw [if_pos c] at h
    exact fL_law_J1186_ok  Q P hP k18 ok18 l3 n K A111 Lg G kc ks h
  · rw [if_neg c] at h
    refine j_iconst (v := 0) dL_law_589 (by decide) ?_
    refine j_zret rfl (by decide) ?_ dL_law_590
    rw [hP]
    exact ⟨0, n, K, A111, Lg, G, rfl, rfl, h⟩
def fL_law_J591 (Γ : jG) (k18 : Int32 → Nat → (Nat → pKd) → pA → pL → pG → Nat → Nat → Prop) (Q : Int32 → Nat → (Nat → pKd) → pA → pL → pG → Prop) (l3 : Int32) (n : Nat) (K : Nat → pKd) (A : pA) (Lg : pL) (G : pG) (kc : Nat) (ks : Nat) : Prop :=
    (vp_in (l3 + 1) (gN Γ)) ∧ ((vp_in (l3 + 2) (gN Γ)) ∧ (∃ tx114 : Nat, (G 0 3 = .ref tx114) ∧ ((xOK n K G tx114) ∧ ((fOK n K G) ∧ (fX0_far tx114 A (gS Γ (l3 + 1).toNatClampNeg) (gS Γ (l3 + 2).toNatClampNeg) (fun r115 => (vp_in (l3 + 1) (gN Γ)) ∧ ((vp_in (l3 + 2) (gN Γ)) ∧ ((mOK n K G) ∧ (fX10_far A (gS Γ (l3 + 1).toNatClampNeg) (gS Γ (l3 + 2).toNatClampNeg) (fun r118 => (if r115 = r118 then fL_law_J1186 Γ k18 Q l3 n K A Lg G kc ks else Q 0 n K A Lg G)))))))))))
theorem fL_law_J591_ok {Γ : jG} (Q : Int32 → Nat → (Nat → pKd) → pA → pL → pG → Prop) (P : jO → pS → Prop) (hP : P = (fun o u => ∃ (r : Int32) (n' : Nat) (K' : Nat → pKd) (A' : pA) (Lg' : pL) (G' : pG), o = .inl (some (.int r)) ∧ u = (n', K', A', Lg', G') ∧ Q r n' K' A' Lg' G')) (k18 : Int32 → Nat → (Nat → pKd) → pA → pL → pG → Nat → Nat → Prop) (ok18 : ∀ (l3 : Int32) (n : Nat) (K : Nat → pKd) (A : pA) (Lg : pL) (G : pG) (kc : Nat) (ks : Nat), k18 l3 n K A Lg G kc ks → J Γ RL cL_law 4 (some .boolean) "law" [] 510 kc ks 18 [(0, .ref 1000201), (1, .ref 0), (2, .ref 1198), (3, .int l3)] [] (n, K, A, Lg, G) P) (l3 : Int32) (n : Nat) (K : Nat → pKd) (A : pA) (Lg : pL) (G : pG) (kc : Nat) (ks : Nat) (h : fL_law_J591 Γ k18 Q l3 n K A Lg G kc ks) : J Γ RL cL_law 4 (some .boolean) "law" [] 510 kc ks 591 [(0, .ref 1000201), (1, .ref 0), (2, .ref 1198), (3, .int l3)] [] (n, K, A, Lg, G) P := by
  unfold fL_law_J591 at h
  refine j_aload_n 1 rfl dL_law_591 ?_
  refine j_aload_n 0 rfl dL_law_592 ?_
  refine j_iload_n 3 rfl dL_law_593 ?_
  refine j_iconst (v := 1) dL_law_594 (by decide) ?_
  refine j_iadd dL_law_595 ?_
  obtain ⟨b112, h⟩ := h
  refine j_sald2 b112 dL_law_596 ?_
  refine j_aload_n 0 rfl dL_law_597 ?_
  refine j_iload_n 3 rfl dL_law_598 ?_
  refine j_iconst (v := 2) dL_law_599 (by decide) ?_
  refine j_iadd dL_law_600 ?_
  obtain ⟨b113, h⟩ := h
  refine j_sald2 b113 dL_law_601 ?_
  obtain ⟨tx114, h⟩ := h
  obtain ⟨httx114, h⟩ := h
  obtain ⟨hxtx114, h⟩ := h
  obtain ⟨hf, h⟩ := h
  refine j_callV (b := 0) (As := [.int (gS Γ (l3 + 1).toNatClampNeg), .int (gS Γ (l3 + 2).toNatClampNeg)]) (st := []) (C := RX0) (kc' := kc) (ks' := ks) (tX0_far hf tx114 httx114 hxtx114 (gS Γ (l3 + 1).toNatClampNeg) (gS Γ (l3 + 2).toNatClampNeg) _ h) myX0_far rfl q1376 q1377 q1378 (by decide) (fun s9 H9 hK9 hR9 h69 => jIs_in hK9 hR9 h69 (f_lt hf (by decide)) (fk_0 hf) rfl) rfl (Nat.le_of_ble_eq_true rfl) rfl (by decide) (Nat.le_refl _) (Nat.le_refl _) dL_law_602 (fun v9 u9 hq => ?_) (fun k9 u9 hq => by obtain ⟨_, e9, _⟩ := hq; cases e9)
  obtain ⟨r115, e9, rfl, h⟩ := hq
  obtain rfl := Sum.inl.inj e9
  show J Γ RL cL_law 4 (some .boolean) "law" [] 510 kc ks 605 [(0, .ref 1000201), (1, .ref 0), (2, .ref 1198), (3, .int l3)] [.int r115] (n, K, A, Lg, G) P
  refine j_aload_n 2 rfl dL_law_605 ?_
  refine j_aload_n 0 rfl dL_law_606 ?_
  refine j_iload_n 3 rfl dL_law_607 ?_
  refine j_iconst (v := 1) dL_law_608 (by decide) ?_
  refine j_iadd dL_law_609 ?_
  obtain ⟨b116, h⟩ := h
  refine j_sald2 b116 dL_law_610 ?_
  refine j_aload_n 0 rfl dL_law_611 ?_
  refine j_iload_n 3 rfl dL_law_612 ?_
  refine j_iconst (v := 2) dL_law_613 (by decide) ?_
  refine j_iadd dL_law_614 ?_
  obtain ⟨b117, h⟩ := h
  refine j_sald2 b117 dL_law_615 ?_
  obtain ⟨hm, h⟩ := h
  refine j_callV (b := 1198) (As := [.int (gS Γ (l3 + 1).toNatClampNeg), .int (gS Γ (l3 + 2).toNatClampNeg)]) (st := [.int r115]) (C := RX10) (kc' := kc) (ks' := ks) (tX10_far hm (gS Γ (l3 + 1).toNatClampNeg) (gS Γ (l3 + 2).toNatClampNeg) _ h) myX10_far rfl q2035 q2036 q2037 (by decide) (fun s9 H9 hK9 hR9 h69 => jIs_in hK9 hR9 h69 (m_lt hm (by decide)) (fk_1198 hm) rfl) rfl (Nat.le_of_ble_eq_true rfl) rfl (by decide) (Nat.le_refl _) (Nat.le_refl _) dL_law_616 (fun v9 u9 hq => ?_) (fun k9 u9 hq => by obtain ⟨_, e9, _⟩ := hq; cases e9)
  obtain ⟨r118, e9, rfl, h⟩ := hq
  obtain rfl := Sum.inl.inj e9
  show J Γ RL cL_law 4 (some .boolean) "law" [] 510 kc ks 619 [(0, .ref 1000201), (1, .ref 0), (2, .ref 1198), (3, .int l3)] [.int r118, .int r115] (n, K, A, Lg, G) P
  refine j_icmp_eq (tgt := 1186) dL_law_619 (by decide) (fun c => ?_) (fun c => ?_)
  · rw [if_pos c] at h
    exact fL_law_J1186_ok  Q P hP k18 ok18 l3 n K A Lg G kc ks h
  · rw [if_neg c] at h
    refine j_iconst (v := 0) dL_law_622 (by decide) ?_
    refine j_zret rfl (by decide) ?_ dL_law_623
    rw [hP]
    exact ⟨0, n, K, A, Lg, G, rfl, rfl, h⟩
def fL_law_J624 (Γ : jG) (k18 : Int32 → Nat → (Nat → pKd) → pA → pL → pG → Nat → Nat → Prop) (Q : Int32 → Nat → (Nat → pKd) → pA → pL → pG → Prop) (l3 : Int32) (n : Nat) (K : Nat → pKd) (A : pA) (Lg : pL) (G : pG) (kc : Nat) (ks : Nat) : Prop :=
    ∃ tx119 : Nat, (G 0 3 = .ref tx119) ∧ ((xOK n K G tx119) ∧ ((fOK n K G) ∧ (fX0_till tx119 A (fun r120 => (mOK n K G) ∧ (fX10_till A (fun r121 A122 => (if r120 = r121 then fL_law_J1186 Γ k18 Q l3 n K A122 Lg G kc ks else Q 0 n K A122 Lg G)))))))
theorem fL_law_J624_ok {Γ : jG} (Q : Int32 → Nat → (Nat → pKd) → pA → pL → pG → Prop) (P : jO → pS → Prop) (hP : P = (fun o u => ∃ (r : Int32) (n' : Nat) (K' : Nat → pKd) (A' : pA) (Lg' : pL) (G' : pG), o = .inl (some (.int r)) ∧ u = (n', K', A', Lg', G') ∧ Q r n' K' A' Lg' G')) (k18 : Int32 → Nat → (Nat → pKd) → pA → pL → pG → Nat → Nat → Prop) (ok18 : ∀ (l3 : Int32) (n : Nat) (K : Nat → pKd) (A : pA) (Lg : pL) (G : pG) (kc : Nat) (ks : Nat), k18 l3 n K A Lg G kc ks → J Γ RL cL_law 4 (some .boolean) "law" [] 510 kc ks 18 [(0, .ref 1000201), (1, .ref 0), (2, .ref 1198), (3, .int l3)] [] (n, K, A, Lg, G) P) (l3 : Int32) (n : Nat) (K : Nat → pKd) (A : pA) (Lg : pL) (G : pG) (kc : Nat) (ks : Nat) (h : fL_law_J624 Γ k18 Q l3 n K A Lg G kc ks) : J Γ RL cL_law 4 (some .boolean) "law" [] 510 kc ks 624 [(0, .ref 1000201), (1, .ref 0), (2, .ref 1198), (3, .int l3)] [] (n, K, A, Lg, G) P := by
  unfold fL_law_J624 at h
  refine j_aload_n 1 rfl dL_law_624 ?_
  obtain ⟨tx119, h⟩ := h
  obtain ⟨httx119, h⟩ := h
  obtain ⟨hxtx119, h⟩ := h
  obtain ⟨hf, h⟩ := h
  refine j_callV (b := 0) (As := []) (st := []) (C := RX0) (kc' := kc) (ks' := ks) (tX0_till hf tx119 httx119 hxtx119 _ h) myX0_till rfl q1381 q1382 q1383 (by decide) (fun s9 H9 hK9 hR9 h69 => jIs_in hK9 hR9 h69 (f_lt hf (by decide)) (fk_0 hf) rfl) rfl (Nat.le_of_ble_eq_true rfl) rfl (by decide) (Nat.le_refl _) (Nat.le_refl _) dL_law_625 (fun v9 u9 hq => ?_) (fun k9 u9 hq => by obtain ⟨_, e9, _⟩ := hq; cases e9)
  obtain ⟨r120, e9, rfl, h⟩ := hq
  obtain rfl := Sum.inl.inj e9
  show J Γ RL cL_law 4 (some .boolean) "law" [] 510 kc ks 628 [(0, .ref 1000201), (1, .ref 0), (2, .ref 1198), (3, .int l3)] [.int r120] (n, K, A, Lg, G) P
  refine j_aload_n 2 rfl dL_law_628 ?_
  obtain ⟨hm, h⟩ := h
  refine j_callV (b := 1198) (As := []) (st := [.int r120]) (C := RX10) (kc' := kc) (ks' := ks) (tX10_till hm  _ h) myX10_till rfl q2039 q2040 q2041 (by decide) (fun s9 H9 hK9 hR9 h69 => jIs_in hK9 hR9 h69 (m_lt hm (by decide)) (fk_1198 hm) rfl) rfl (Nat.le_of_ble_eq_true rfl) rfl (by decide) (Nat.le_refl _) (Nat.le_refl _) dL_law_629 (fun v9 u9 hq => ?_) (fun k9 u9 hq => by obtain ⟨_, _, e9, _⟩ := hq; cases e9)
  obtain ⟨r121, A122, e9, rfl, h⟩ := hq
  obtain rfl := Sum.inl.inj e9
  show J Γ RL cL_law 4 (some .boolean) "law" [] 510 kc ks 632 [(0, .ref 1000201), (1, .ref 0), (2, .ref 1198), (3, .int l3)] [.int r121, .int r120] (n, K, A122, Lg, G) P
  refine j_icmp_eq (tgt := 1186) dL_law_632 (by decide) (fun c => ?_) (fun c => ?_)
  · rw [if_pos c] at h
    exact fL_law_J1186_ok  Q P hP k18 ok18 l3 n K A122 Lg G kc ks h
  · rw [if_neg c] at h
    refine j_iconst (v := 0) dL_law_635 (by decide) ?_
    refine j_zret rfl (by decide) ?_ dL_law_636
    rw [hP]
    exact ⟨0, n, K, A122, Lg, G, rfl, rfl, h⟩
def fL_law_J637 (Γ : jG) (k18 : Int32 → Nat → (Nat → pKd) → pA → pL → pG → Nat → Nat → Prop) (Q : Int32 → Nat → (Nat → pKd) → pA → pL → pG → Prop) (l3 : Int32) (n : Nat) (K : Nat → pKd) (A : pA) (Lg : pL) (G : pG) (kc : Nat) (ks : Nat) : Prop :=
    (vp_in (l3 + 1) (gN Γ)) ∧ ((vp_in (l3 + 2) (gN Γ)) ∧ (∃ tx125 : Nat, (G 0 3 = .ref tx125) ∧ ((xOK n K G tx125) ∧ ((fOK n K G) ∧ (fX0_round tx125 n K A G (gS Γ (l3 + 1).toNatClampNeg) (gS Γ (l3 + 2).toNatClampNeg) (fun r126 A127 => (vp_in (l3 + 1) (gN Γ)) ∧ ((vp_in (l3 + 2) (gN Γ)) ∧ ((mOK n K G) ∧ (fX10_round A127 (gS Γ (l3 + 1).toNatClampNeg) (gS Γ (l3 + 2).toNatClampNeg) (fun r130 A131 => (if r126 = r130 then fL_law_J1186 Γ k18 Q l3 n K A131 Lg G kc ks else Q 0 n K A131 Lg G)))))))))))
theorem fL_law_J637_ok {Γ : jG} (Q : Int32 → Nat → (Nat → pKd) → pA → pL → pG → Prop) (P : jO → pS → Prop) (hP : P = (fun o u => ∃ (r : Int32) (n' : Nat) (K' : Nat → pKd) (A' : pA) (Lg' : pL) (G' : pG), o = .inl (some (.int r)) ∧ u = (n', K', A', Lg', G') ∧ Q r n' K' A' Lg' G')) (k18 : Int32 → Nat → (Nat → pKd) → pA → pL → pG → Nat → Nat → Prop) (ok18 : ∀ (l3 : Int32) (n : Nat) (K : Nat → pKd) (A : pA) (Lg : pL) (G : pG) (kc : Nat) (ks : Nat), k18 l3 n K A Lg G kc ks → J Γ RL cL_law 4 (some .boolean) "law" [] 510 kc ks 18 [(0, .ref 1000201), (1, .ref 0), (2, .ref 1198), (3, .int l3)] [] (n, K, A, Lg, G) P) (l3 : Int32) (n : Nat) (K : Nat → pKd) (A : pA) (Lg : pL) (G : pG) (kc : Nat) (ks : Nat) (h : fL_law_J637 Γ k18 Q l3 n K A Lg G kc ks) : J Γ RL cL_law 4 (some .boolean) "law" [] 510 kc ks 637 [(0, .ref 1000201), (1, .ref 0), (2, .ref 1198), (3, .int l3)] [] (n, K, A, Lg, G) P := by
  unfold fL_law_J637 at h
  refine j_aload_n 1 rfl dL_law_637 ?_
  refine j_aload_n 0 rfl dL_law_638 ?_
  refine j_iload_n 3 rfl dL_law_639 ?_
  refine j_iconst (v := 1) dL_law_640 (by decide) ?_
  refine j_iadd dL_law_641 ?_
  obtain ⟨b123, h⟩ := h
  refine j_sald2 b123 dL_law_642 ?_
  refine j_aload_n 0 rfl dL_law_643 ?_
  refine j_iload_n 3 rfl dL_law_644 ?_
  refine j_iconst (v := 2) dL_law_645 (by decide) ?_
  refine j_iadd dL_law_646 ?_
  obtain ⟨b124, h⟩ := h
  refine j_sald2 b124 dL_law_647 ?_
  obtain ⟨tx125, h⟩ := h
  obtain ⟨httx125, h⟩ := h
  obtain ⟨hxtx125, h⟩ := h
  obtain ⟨hf, h⟩ := h
  refine j_callV (b := 0) (As := [.int (gS Γ (l3 + 1).toNatClampNeg), .int (gS Γ (l3 + 2).toNatClampNeg)]) (st := []) (C := RX0) (kc' := kc) (ks' := ks) (tX0_round hf tx125 httx125 hxtx125 (gS Γ (l3 + 1).toNatClampNeg) (gS Γ (l3 + 2).toNatClampNeg) _ h) myX0_round rfl q1390 q1391 q1392 (by decide) (fun s9 H9 hK9 hR9 h69 => jIs_in hK9 hR9 h69 (f_lt hf (by decide)) (fk_0 hf) rfl) rfl (Nat.le_of_ble_eq_true rfl) rfl (by decide) (Nat.le_refl _) (Nat.le_refl _) dL_law_648 (fun v9 u9 hq => ?_) (fun k9 u9 hq => by obtain ⟨_, _, e9, _⟩ := hq; cases e9)
  obtain ⟨r126, A127, e9, rfl, h⟩ := hq
  obtain rfl := Sum.inl.inj e9
  show J Γ RL cL_law 4 (some .boolean) "law" [] 510 kc ks 651 [(0, .ref 1000201), (1, .ref 0), (2, .ref 1198), (3, .int l3)] [.int r126] (n, K, A127, Lg, G) P
  refine j_aload_n 2 rfl dL_law_651 ?_
  refine j_aload_n 0 rfl dL_law_652 ?_
  refine j_iload_n 3 rfl dL_law_653 ?_
  refine j_iconst (v := 1) dL_law_654 (by decide) ?_
  refine j_iadd dL_law_655 ?_
  obtain ⟨b128, h⟩ := h
  refine j_sald2 b128 dL_law_656 ?_
  refine j_aload_n 0 rfl dL_law_657 ?_
  refine j_iload_n 3 rfl dL_law_658 ?_
  refine j_iconst (v := 2) dL_law_659 (by decide) ?_
  refine j_iadd dL_law_660 ?_
  obtain ⟨b129, h⟩ := h
  refine j_sald2 b129 dL_law_661 ?_
  obtain ⟨hm, h⟩ := h
  refine j_callV (b := 1198) (As := [.int (gS Γ (l3 + 1).toNatClampNeg), .int (gS Γ (l3 + 2).toNatClampNeg)]) (st := [.int r126]) (C := RX10) (kc' := kc) (ks' := ks) (tX10_round hm (gS Γ (l3 + 1).toNatClampNeg) (gS Γ (l3 + 2).toNatClampNeg) _ h) myX10_round rfl q2047 q2048 q2049 (by decide) (fun s9 H9 hK9 hR9 h69 => jIs_in hK9 hR9 h69 (m_lt hm (by decide)) (fk_1198 hm) rfl) rfl (Nat.le_of_ble_eq_true rfl) rfl (by decide) (Nat.le_refl _) (Nat.le_refl _) dL_law_662 (fun v9 u9 hq => ?_) (fun k9 u9 hq => by obtain ⟨_, _, e9, _⟩ := hq; cases e9)
  obtain ⟨r130, A131, e9, rfl, h⟩ := hq
  obtain rfl := Sum.inl.inj e9
  show J Γ RL cL_law 4 (some .boolean) "law" [] 510 kc ks 665 [(0, .ref 1000201), (1, .ref 0), (2, .ref 1198), (3, .int l3)] [.int r130, .int r126] (n, K, A131, Lg, G) P
  refine j_icmp_eq (tgt := 1186) dL_law_665 (by decide) (fun c => ?_) (fun c => ?_)
  · rw [if_pos c] at h
    exact fL_law_J1186_ok  Q P hP k18 ok18 l3 n K A131 Lg G kc ks h
  · rw [if_neg c] at h
    refine j_iconst (v := 0) dL_law_668 (by decide) ?_
    refine j_zret rfl (by decide) ?_ dL_law_669
    rw [hP]
    exact ⟨0, n, K, A131, Lg, G, rfl, rfl, h⟩
def fL_law_J670 (Γ : jG) (k18 : Int32 → Nat → (Nat → pKd) → pA → pL → pG → Nat → Nat → Prop) (Q : Int32 → Nat → (Nat → pKd) → pA → pL → pG → Prop) (l3 : Int32) (n : Nat) (K : Nat → pKd) (A : pA) (Lg : pL) (G : pG) (kc : Nat) (ks : Nat) : Prop :=
    (vp_in (l3 + 1) (gN Γ)) ∧ (∃ tx133 : Nat, (G 0 3 = .ref tx133) ∧ ((xOK n K G tx133) ∧ ((fOK n K G) ∧ (fX0_minds tx133 n K A G (gS Γ (l3 + 1).toNatClampNeg) (fun r134 A135 => (vp_in (l3 + 1) (gN Γ)) ∧ ((mOK n K G) ∧ (fX10_minds A135 (gS Γ (l3 + 1).toNatClampNeg) (fun r137 A138 => (if r134 = r137 then fL_law_J1186 Γ k18 Q l3 n K A138 Lg G kc ks else Q 0 n K A138 Lg G)))))))))
theorem fL_law_J670_ok {Γ : jG} (Q : Int32 → Nat → (Nat → pKd) → pA → pL → pG → Prop) (P : jO → pS → Prop) (hP : P = (fun o u => ∃ (r : Int32) (n' : Nat) (K' : Nat → pKd) (A' : pA) (Lg' : pL) (G' : pG), o = .inl (some (.int r)) ∧ u = (n', K', A', Lg', G') ∧ Q r n' K' A' Lg' G')) (k18 : Int32 → Nat → (Nat → pKd) → pA → pL → pG → Nat → Nat → Prop) (ok18 : ∀ (l3 : Int32) (n : Nat) (K : Nat → pKd) (A : pA) (Lg : pL) (G : pG) (kc : Nat) (ks : Nat), k18 l3 n K A Lg G kc ks → J Γ RL cL_law 4 (some .boolean) "law" [] 510 kc ks 18 [(0, .ref 1000201), (1, .ref 0), (2, .ref 1198), (3, .int l3)] [] (n, K, A, Lg, G) P) (l3 : Int32) (n : Nat) (K : Nat → pKd) (A : pA) (Lg : pL) (G : pG) (kc : Nat) (ks : Nat) (h : fL_law_J670 Γ k18 Q l3 n K A Lg G kc ks) : J Γ RL cL_law 4 (some .boolean) "law" [] 510 kc ks 670 [(0, .ref 1000201), (1, .ref 0), (2, .ref 1198), (3, .int l3)] [] (n, K, A, Lg, G) P := by
  unfold fL_law_J670 at h
  refine j_aload_n 1 rfl dL_law_670 ?_
  refine j_aload_n 0 rfl dL_law_671 ?_
  refine j_iload_n 3 rfl dL_law_672 ?_
  refine j_iconst (v := 1) dL_law_673 (by decide) ?_
  refine j_iadd dL_law_674 ?_
  obtain ⟨b132, h⟩ := h
  refine j_sald2 b132 dL_law_675 ?_
  obtain ⟨tx133, h⟩ := h
  obtain ⟨httx133, h⟩ := h
  obtain ⟨hxtx133, h⟩ := h
  obtain ⟨hf, h⟩ := h
  refine j_callV (b := 0) (As := [.int (gS Γ (l3 + 1).toNatClampNeg)]) (st := []) (C := RX0) (kc' := kc) (ks' := ks) (tX0_minds hf tx133 httx133 hxtx133 (gS Γ (l3 + 1).toNatClampNeg) _ h) myX0_minds rfl q1403 q1404 q1405 (by decide) (fun s9 H9 hK9 hR9 h69 => jIs_in hK9 hR9 h69 (f_lt hf (by decide)) (fk_0 hf) rfl) rfl (Nat.le_of_ble_eq_true rfl) rfl (by decide) (Nat.le_refl _) (Nat.le_refl _) dL_law_676 (fun v9 u9 hq => ?_) (fun k9 u9 hq => by obtain ⟨_, _, e9, _⟩ := hq; cases e9)
  obtain ⟨r134, A135, e9, rfl, h⟩ := hq
  obtain rfl := Sum.inl.inj e9
  show J Γ RL cL_law 4 (some .boolean) "law" [] 510 kc ks 679 [(0, .ref 1000201), (1, .ref 0), (2, .ref 1198), (3, .int l3)] [.int r134] (n, K, A135, Lg, G) P
  refine j_aload_n 2 rfl dL_law_679 ?_
  refine j_aload_n 0 rfl dL_law_680 ?_
  refine j_iload_n 3 rfl dL_law_681 ?_
  refine j_iconst (v := 1) dL_law_682 (by decide) ?_
  refine j_iadd dL_law_683 ?_
  obtain ⟨b136, h⟩ := h
  refine j_sald2 b136 dL_law_684 ?_
  obtain ⟨hm, h⟩ := h
  refine j_callV (b := 1198) (As := [.int (gS Γ (l3 + 1).toNatClampNeg)]) (st := [.int r134]) (C := RX10) (kc' := kc) (ks' := ks) (tX10_minds hm (gS Γ (l3 + 1).toNatClampNeg) _ h) myX10_minds rfl q2055 q2056 q2057 (by decide) (fun s9 H9 hK9 hR9 h69 => jIs_in hK9 hR9 h69 (m_lt hm (by decide)) (fk_1198 hm) rfl) rfl (Nat.le_of_ble_eq_true rfl) rfl (by decide) (Nat.le_refl _) (Nat.le_refl _) dL_law_685 (fun v9 u9 hq => ?_) (fun k9 u9 hq => by obtain ⟨_, _, e9, _⟩ := hq; cases e9)
  obtain ⟨r137, A138, e9, rfl, h⟩ := hq
  obtain rfl := Sum.inl.inj e9
  show J Γ RL cL_law 4 (some .boolean) "law" [] 510 kc ks 688 [(0, .ref 1000201), (1, .ref 0), (2, .ref 1198), (3, .int l3)] [.int r137, .int r134] (n, K, A138, Lg, G) P
  refine j_icmp_eq (tgt := 1186) dL_law_688 (by decide) (fun c => ?_) (fun c => ?_)
  · rw [if_pos c] at h
    exact fL_law_J1186_ok  Q P hP k18 ok18 l3 n K A138 Lg G kc ks h
  · rw [if_neg c] at h
    refine j_iconst (v := 0) dL_law_691 (by decide) ?_
    refine j_zret rfl (by decide) ?_ dL_law_692
    rw [hP]
    exact ⟨0, n, K, A138, Lg, G, rfl, rfl, h⟩
def fL_law_J693 (Γ : jG) (k18 : Int32 → Nat → (Nat → pKd) → pA → pL → pG → Nat → Nat → Prop) (Q : Int32 → Nat → (Nat → pKd) → pA → pL → pG → Prop) (l3 : Int32) (n : Nat) (K : Nat → pKd) (A : pA) (Lg : pL) (G : pG) (kc : Nat) (ks : Nat) : Prop :=
    (vp_in (l3 + 1) (gN Γ)) ∧ (∃ tx140 : Nat, (G 0 3 = .ref tx140) ∧ ((xOK n K G tx140) ∧ ((fOK n K G) ∧ (fX0_feeding tx140 A (gS Γ (l3 + 1).toNatClampNeg) (fun r141 => (vp_in (l3 + 1) (gN Γ)) ∧ ((mOK n K G) ∧ (fX10_feeding A (gS Γ (l3 + 1).toNatClampNeg) (fun r143 => (if r141 = r143 then fL_law_J1186 Γ k18 Q l3 n K A Lg G kc ks else Q 0 n K A Lg G)))))))))
theorem fL_law_J693_ok {Γ : jG} (Q : Int32 → Nat → (Nat → pKd) → pA → pL → pG → Prop) (P : jO → pS → Prop) (hP : P = (fun o u => ∃ (r : Int32) (n' : Nat) (K' : Nat → pKd) (A' : pA) (Lg' : pL) (G' : pG), o = .inl (some (.int r)) ∧ u = (n', K', A', Lg', G') ∧ Q r n' K' A' Lg' G')) (k18 : Int32 → Nat → (Nat → pKd) → pA → pL → pG → Nat → Nat → Prop) (ok18 : ∀ (l3 : Int32) (n : Nat) (K : Nat → pKd) (A : pA) (Lg : pL) (G : pG) (kc : Nat) (ks : Nat), k18 l3 n K A Lg G kc ks → J Γ RL cL_law 4 (some .boolean) "law" [] 510 kc ks 18 [(0, .ref 1000201), (1, .ref 0), (2, .ref 1198), (3, .int l3)] [] (n, K, A, Lg, G) P) (l3 : Int32) (n : Nat) (K : Nat → pKd) (A : pA) (Lg : pL) (G : pG) (kc : Nat) (ks : Nat) (h : fL_law_J693 Γ k18 Q l3 n K A Lg G kc ks) : J Γ RL cL_law 4 (some .boolean) "law" [] 510 kc ks 693 [(0, .ref 1000201), (1, .ref 0), (2, .ref 1198), (3, .int l3)] [] (n, K, A, Lg, G) P := by
  unfold fL_law_J693 at h
  refine j_aload_n 1 rfl dL_law_693 ?_
  refine j_aload_n 0 rfl dL_law_694 ?_
  refine j_iload_n 3 rfl dL_law_695 ?_
  refine j_iconst (v := 1) dL_law_696 (by decide) ?_
  refine j_iadd dL_law_697 ?_
  obtain ⟨b139, h⟩ := h
  refine j_sald2 b139 dL_law_698 ?_
  obtain ⟨tx140, h⟩ := h
  obtain ⟨httx140, h⟩ := h
  obtain ⟨hxtx140, h⟩ := h
  obtain ⟨hf, h⟩ := h
  refine j_callV (b := 0) (As := [.int (gS Γ (l3 + 1).toNatClampNeg)]) (st := []) (C := RX0) (kc' := kc) (ks' := ks) (tX0_feeding hf tx140 httx140 hxtx140 (gS Γ (l3 + 1).toNatClampNeg) _ h) myX0_feeding rfl q1408 q1409 q1410 (by decide) (fun s9 H9 hK9 hR9 h69 => jIs_in hK9 hR9 h69 (f_lt hf (by decide)) (fk_0 hf) rfl) rfl (Nat.le_of_ble_eq_true rfl) rfl (by decide) (Nat.le_refl _) (Nat.le_refl _) dL_law_699 (fun v9 u9 hq => ?_) (fun k9 u9 hq => by obtain ⟨_, e9, _⟩ := hq; cases e9)
  obtain ⟨r141, e9, rfl, h⟩ := hq
  obtain rfl := Sum.inl.inj e9
  show J Γ RL cL_law 4 (some .boolean) "law" [] 510 kc ks 702 [(0, .ref 1000201), (1, .ref 0), (2, .ref 1198), (3, .int l3)] [.int r141] (n, K, A, Lg, G) P
  refine j_aload_n 2 rfl dL_law_702 ?_
  refine j_aload_n 0 rfl dL_law_703 ?_
  refine j_iload_n 3 rfl dL_law_704 ?_
  refine j_iconst (v := 1) dL_law_705 (by decide) ?_
  refine j_iadd dL_law_706 ?_
  obtain ⟨b142, h⟩ := h
  refine j_sald2 b142 dL_law_707 ?_
  obtain ⟨hm, h⟩ := h
  refine j_callV (b := 1198) (As := [.int (gS Γ (l3 + 1).toNatClampNeg)]) (st := [.int r141]) (C := RX10) (kc' := kc) (ks' := ks) (tX10_feeding hm (gS Γ (l3 + 1).toNatClampNeg) _ h) myX10_feeding rfl q2059 q2060 q2061 (by decide) (fun s9 H9 hK9 hR9 h69 => jIs_in hK9 hR9 h69 (m_lt hm (by decide)) (fk_1198 hm) rfl) rfl (Nat.le_of_ble_eq_true rfl) rfl (by decide) (Nat.le_refl _) (Nat.le_refl _) dL_law_708 (fun v9 u9 hq => ?_) (fun k9 u9 hq => by obtain ⟨_, e9, _⟩ := hq; cases e9)
  obtain ⟨r143, e9, rfl, h⟩ := hq
  obtain rfl := Sum.inl.inj e9
  show J Γ RL cL_law 4 (some .boolean) "law" [] 510 kc ks 711 [(0, .ref 1000201), (1, .ref 0), (2, .ref 1198), (3, .int l3)] [.int r143, .int r141] (n, K, A, Lg, G) P
  refine j_icmp_eq (tgt := 1186) dL_law_711 (by decide) (fun c => ?_) (fun c => ?_)
  · rw [if_pos c] at h
    exact fL_law_J1186_ok  Q P hP k18 ok18 l3 n K A Lg G kc ks h
  · rw [if_neg c] at h
    refine j_iconst (v := 0) dL_law_714 (by decide) ?_
    refine j_zret rfl (by decide) ?_ dL_law_715
    rw [hP]
    exact ⟨0, n, K, A, Lg, G, rfl, rfl, h⟩
def fL_law_J716 (Γ : jG) (k18 : Int32 → Nat → (Nat → pKd) → pA → pL → pG → Nat → Nat → Prop) (Q : Int32 → Nat → (Nat → pKd) → pA → pL → pG → Prop) (l3 : Int32) (n : Nat) (K : Nat → pKd) (A : pA) (Lg : pL) (G : pG) (kc : Nat) (ks : Nat) : Prop :=
    (vp_in (l3 + 1) (gN Γ)) ∧ (∃ tx145 : Nat, (G 0 3 = .ref tx145) ∧ ((xOK n K G tx145) ∧ ((fOK n K G) ∧ (fX0_safe tx145 n K A G (gS Γ (l3 + 1).toNatClampNeg) (fun r146 A147 => (vp_in (l3 + 1) (gN Γ)) ∧ ((mOK n K G) ∧ (fX10_safe A147 (gS Γ (l3 + 1).toNatClampNeg) (fun r149 A150 => (if r146 = r149 then fL_law_J1186 Γ k18 Q l3 n K A150 Lg G kc ks else Q 0 n K A150 Lg G)))))))))
theorem fL_law_J716_ok {Γ : jG} (Q : Int32 → Nat → (Nat → pKd) → pA → pL → pG → Prop) (P : jO → pS → Prop) (hP : P = (fun o u => ∃ (r : Int32) (n' : Nat) (K' : Nat → pKd) (A' : pA) (Lg' : pL) (G' : pG), o = .inl (some (.int r)) ∧ u = (n', K', A', Lg', G') ∧ Q r n' K' A' Lg' G')) (k18 : Int32 → Nat → (Nat → pKd) → pA → pL → pG → Nat → Nat → Prop) (ok18 : ∀ (l3 : Int32) (n : Nat) (K : Nat → pKd) (A : pA) (Lg : pL) (G : pG) (kc : Nat) (ks : Nat), k18 l3 n K A Lg G kc ks → J Γ RL cL_law 4 (some .boolean) "law" [] 510 kc ks 18 [(0, .ref 1000201), (1, .ref 0), (2, .ref 1198), (3, .int l3)] [] (n, K, A, Lg, G) P) (l3 : Int32) (n : Nat) (K : Nat → pKd) (A : pA) (Lg : pL) (G : pG) (kc : Nat) (ks : Nat) (h : fL_law_J716 Γ k18 Q l3 n K A Lg G kc ks) : J Γ RL cL_law 4 (some .boolean) "law" [] 510 kc ks 716 [(0, .ref 1000201), (1, .ref 0), (2, .ref 1198), (3, .int l3)] [] (n, K, A, Lg, G) P := by
  unfold fL_law_J716 at h
  refine j_aload_n 1 rfl dL_law_716 ?_
  refine j_aload_n 0 rfl dL_law_717 ?_
  refine j_iload_n 3 rfl dL_law_718 ?_
  refine j_iconst (v := 1) dL_law_719 (by decide) ?_
  refine j_iadd dL_law_720 ?_
  obtain ⟨b144, h⟩ := h
  refine j_sald2 b144 dL_law_721 ?_
  obtain ⟨tx145, h⟩ := h
  obtain ⟨httx145, h⟩ := h
  obtain ⟨hxtx145, h⟩ := h
  obtain ⟨hf, h⟩ := h
  refine j_callV (b := 0) (As := [.int (gS Γ (l3 + 1).toNatClampNeg)]) (st := []) (C := RX0) (kc' := kc) (ks' := ks) (tX0_safe hf tx145 httx145 hxtx145 (gS Γ (l3 + 1).toNatClampNeg) _ h) myX0_safe rfl q1431 q1432 q1433 (by decide) (fun s9 H9 hK9 hR9 h69 => jIs_in hK9 hR9 h69 (f_lt hf (by decide)) (fk_0 hf) rfl) rfl (Nat.le_of_ble_eq_true rfl) rfl (by decide) (Nat.le_refl _) (Nat.le_refl _) dL_law_722 (fun v9 u9 hq => ?_) (fun k9 u9 hq => by obtain ⟨_, _, e9, _⟩ := hq; cases e9)
  obtain ⟨r146, A147, e9, rfl, h⟩ := hq
  obtain rfl := Sum.inl.inj e9
  show J Γ RL cL_law 4 (some .boolean) "law" [] 510 kc ks 725 [(0, .ref 1000201), (1, .ref 0), (2, .ref 1198), (3, .int l3)] [.int r146] (n, K, A147, Lg, G) P
  refine j_aload_n 2 rfl dL_law_725 ?_
  refine j_aload_n 0 rfl dL_law_726 ?_
  refine j_iload_n 3 rfl dL_law_727 ?_
  refine j_iconst (v := 1) dL_law_728 (by decide) ?_
  refine j_iadd dL_law_729 ?_
  obtain ⟨b148, h⟩ := h
  refine j_sald2 b148 dL_law_730 ?_
  obtain ⟨hm, h⟩ := h
  refine j_callV (b := 1198) (As := [.int (gS Γ (l3 + 1).toNatClampNeg)]) (st := [.int r146]) (C := RX10) (kc' := kc) (ks' := ks) (tX10_safe hm (gS Γ (l3 + 1).toNatClampNeg) _ h) myX10_safe rfl q2063 q2064 q2065 (by decide) (fun s9 H9 hK9 hR9 h69 => jIs_in hK9 hR9 h69 (m_lt hm (by decide)) (fk_1198 hm) rfl) rfl (Nat.le_of_ble_eq_true rfl) rfl (by decide) (Nat.le_refl _) (Nat.le_refl _) dL_law_731 (fun v9 u9 hq => ?_) (fun k9 u9 hq => by obtain ⟨_, _, e9, _⟩ := hq; cases e9)
  obtain ⟨r149, A150, e9, rfl, h⟩ := hq
  obtain rfl := Sum.inl.inj e9
  show J Γ RL cL_law 4 (some .boolean) "law" [] 510 kc ks 734 [(0, .ref 1000201), (1, .ref 0), (2, .ref 1198), (3, .int l3)] [.int r149, .int r146] (n, K, A150, Lg, G) P
  refine j_icmp_eq (tgt := 1186) dL_law_734 (by decide) (fun c => ?_) (fun c => ?_)
  · rw [if_pos c] at h
    exact fL_law_J1186_ok  Q P hP k18 ok18 l3 n K A150 Lg G kc ks h
  · rw [if_neg c] at h
    refine j_iconst (v := 0) dL_law_737 (by decide) ?_
    refine j_zret rfl (by decide) ?_ dL_law_738
    rw [hP]
    exact ⟨0, n, K, A150, Lg, G, rfl, rfl, h⟩
def fL_law_J739 (Γ : jG) (k18 : Int32 → Nat → (Nat → pKd) → pA → pL → pG → Nat → Nat → Prop) (Q : Int32 → Nat → (Nat → pKd) → pA → pL → pG → Prop) (l3 : Int32) (n : Nat) (K : Nat → pKd) (A : pA) (Lg : pL) (G : pG) (kc : Nat) (ks : Nat) : Prop :=
    (vp_in (l3 + 1) (gN Γ)) ∧ ((vp_in (l3 + 2) (gN Γ)) ∧ (∃ tx153 : Nat, (G 0 3 = .ref tx153) ∧ ((xOK n K G tx153) ∧ ((fOK n K G) ∧ (fX0_refuge tx153 n K A G (gS Γ (l3 + 1).toNatClampNeg) (gS Γ (l3 + 2).toNatClampNeg) (fun r154 A155 => (vp_in (l3 + 1) (gN Γ)) ∧ ((vp_in (l3 + 2) (gN Γ)) ∧ ((mOK n K G) ∧ (fX10_refuge A155 (gS Γ (l3 + 1).toNatClampNeg) (gS Γ (l3 + 2).toNatClampNeg) (fun r158 A159 => (if r154 = r158 then fL_law_J1186 Γ k18 Q l3 n K A159 Lg G kc ks else Q 0 n K A159 Lg G)))))))))))
theorem fL_law_J739_ok {Γ : jG} (Q : Int32 → Nat → (Nat → pKd) → pA → pL → pG → Prop) (P : jO → pS → Prop) (hP : P = (fun o u => ∃ (r : Int32) (n' : Nat) (K' : Nat → pKd) (A' : pA) (Lg' : pL) (G' : pG), o = .inl (some (.int r)) ∧ u = (n', K', A', Lg', G') ∧ Q r n' K' A' Lg' G')) (k18 : Int32 → Nat → (Nat → pKd) → pA → pL → pG → Nat → Nat → Prop) (ok18 : ∀ (l3 : Int32) (n : Nat) (K : Nat → pKd) (A : pA) (Lg : pL) (G : pG) (kc : Nat) (ks : Nat), k18 l3 n K A Lg G kc ks → J Γ RL cL_law 4 (some .boolean) "law" [] 510 kc ks 18 [(0, .ref 1000201), (1, .ref 0), (2, .ref 1198), (3, .int l3)] [] (n, K, A, Lg, G) P) (l3 : Int32) (n : Nat) (K : Nat → pKd) (A : pA) (Lg : pL) (G : pG) (kc : Nat) (ks : Nat) (h : fL_law_J739 Γ k18 Q l3 n K A Lg G kc ks) : J Γ RL cL_law 4 (some .boolean) "law" [] 510 kc ks 739 [(0, .ref 1000201), (1, .ref 0), (2, .ref 1198), (3, .int l3)] [] (n, K, A, Lg, G) P := by
  unfold fL_law_J739 at h
  refine j_aload_n 1 rfl dL_law_739 ?_
  refine j_aload_n 0 rfl dL_law_740 ?_
  refine j_iload_n 3 rfl dL_law_741 ?_
  refine j_iconst (v := 1) dL_law_742 (by decide) ?_
  refine j_iadd dL_law_743 ?_
  obtain ⟨b151, h⟩ := h
  refine j_sald2 b151 dL_law_744 ?_
  refine j_aload_n 0 rfl dL_law_745 ?_
  refine j_iload_n 3 rfl dL_law_746 ?_
  refine j_iconst (v := 2) dL_law_747 (by decide) ?_
  refine j_iadd dL_law_748 ?_
  obtain ⟨b152, h⟩ := h
  refine j_sald2 b152 dL_law_749 ?_
  obtain ⟨tx153, h⟩ := h
  obtain ⟨httx153, h⟩ := h
  obtain ⟨hxtx153, h⟩ := h
  obtain ⟨hf, h⟩ := h
  refine j_callV (b := 0) (As := [.int (gS Γ (l3 + 1).toNatClampNeg), .int (gS Γ (l3 + 2).toNatClampNeg)]) (st := []) (C := RX0) (kc' := kc) (ks' := ks) (tX0_refuge hf tx153 httx153 hxtx153 (gS Γ (l3 + 1).toNatClampNeg) (gS Γ (l3 + 2).toNatClampNeg) _ h) myX0_refuge rfl q1449 q1450 q1451 (by decide) (fun s9 H9 hK9 hR9 h69 => jIs_in hK9 hR9 h69 (f_lt hf (by decide)) (fk_0 hf) rfl) rfl (Nat.le_of_ble_eq_true rfl) rfl (by decide) (Nat.le_refl _) (Nat.le_refl _) dL_law_750 (fun v9 u9 hq => ?_) (fun k9 u9 hq => by obtain ⟨_, _, e9, _⟩ := hq; cases e9)
  obtain ⟨r154, A155, e9, rfl, h⟩ := hq
  obtain rfl := Sum.inl.inj e9
  show J Γ RL cL_law 4 (some .boolean) "law" [] 510 kc ks 753 [(0, .ref 1000201), (1, .ref 0), (2, .ref 1198), (3, .int l3)] [.int r154] (n, K, A155, Lg, G) P
  refine j_aload_n 2 rfl dL_law_753 ?_
  refine j_aload_n 0 rfl dL_law_754 ?_
  refine j_iload_n 3 rfl dL_law_755 ?_
  refine j_iconst (v := 1) dL_law_756 (by decide) ?_
  refine j_iadd dL_law_757 ?_
  obtain ⟨b156, h⟩ := h
  refine j_sald2 b156 dL_law_758 ?_
  refine j_aload_n 0 rfl dL_law_759 ?_
  refine j_iload_n 3 rfl dL_law_760 ?_
  refine j_iconst (v := 2) dL_law_761 (by decide) ?_
  refine j_iadd dL_law_762 ?_
  obtain ⟨b157, h⟩ := h
  refine j_sald2 b157 dL_law_763 ?_
  obtain ⟨hm, h⟩ := h
  refine j_callV (b := 1198) (As := [.int (gS Γ (l3 + 1).toNatClampNeg), .int (gS Γ (l3 + 2).toNatClampNeg)]) (st := [.int r154]) (C := RX10) (kc' := kc) (ks' := ks) (tX10_refuge hm (gS Γ (l3 + 1).toNatClampNeg) (gS Γ (l3 + 2).toNatClampNeg) _ h) myX10_refuge rfl q2075 q2076 q2077 (by decide) (fun s9 H9 hK9 hR9 h69 => jIs_in hK9 hR9 h69 (m_lt hm (by decide)) (fk_1198 hm) rfl) rfl (Nat.le_of_ble_eq_true rfl) rfl (by decide) (Nat.le_refl _) (Nat.le_refl _) dL_law_764 (fun v9 u9 hq => ?_) (fun k9 u9 hq => by obtain ⟨_, _, e9, _⟩ := hq; cases e9)
  obtain ⟨r158, A159, e9, rfl, h⟩ := hq
  obtain rfl := Sum.inl.inj e9
  show J Γ RL cL_law 4 (some .boolean) "law" [] 510 kc ks 767 [(0, .ref 1000201), (1, .ref 0), (2, .ref 1198), (3, .int l3)] [.int r158, .int r154] (n, K, A159, Lg, G) P
  refine j_icmp_eq (tgt := 1186) dL_law_767 (by decide) (fun c => ?_) (fun c => ?_)
  · rw [if_pos c] at h
    exact fL_law_J1186_ok  Q P hP k18 ok18 l3 n K A159 Lg G kc ks h
  · rw [if_neg c] at h
    refine j_iconst (v := 0) dL_law_770 (by decide) ?_
    refine j_zret rfl (by decide) ?_ dL_law_771
    rw [hP]
    exact ⟨0, n, K, A159, Lg, G, rfl, rfl, h⟩
def fL_law_J772 (Γ : jG) (k18 : Int32 → Nat → (Nat → pKd) → pA → pL → pG → Nat → Nat → Prop) (Q : Int32 → Nat → (Nat → pKd) → pA → pL → pG → Prop) (l3 : Int32) (n : Nat) (K : Nat → pKd) (A : pA) (Lg : pL) (G : pG) (kc : Nat) (ks : Nat) : Prop :=
    (vp_in (l3 + 1) (gN Γ)) ∧ (∃ tx161 : Nat, (G 0 3 = .ref tx161) ∧ ((xOK n K G tx161) ∧ ((fOK n K G) ∧ (fX0_loses tx161 n K A G (gS Γ (l3 + 1).toNatClampNeg) (fun r162 A163 => (vp_in (l3 + 1) (gN Γ)) ∧ ((mOK n K G) ∧ (fX10_loses A163 (gS Γ (l3 + 1).toNatClampNeg) (fun r165 A166 => (if r162 = r165 then fL_law_J1186 Γ k18 Q l3 n K A166 Lg G kc ks else Q 0 n K A166 Lg G)))))))))
theorem fL_law_J772_ok {Γ : jG} (Q : Int32 → Nat → (Nat → pKd) → pA → pL → pG → Prop) (P : jO → pS → Prop) (hP : P = (fun o u => ∃ (r : Int32) (n' : Nat) (K' : Nat → pKd) (A' : pA) (Lg' : pL) (G' : pG), o = .inl (some (.int r)) ∧ u = (n', K', A', Lg', G') ∧ Q r n' K' A' Lg' G')) (k18 : Int32 → Nat → (Nat → pKd) → pA → pL → pG → Nat → Nat → Prop) (ok18 : ∀ (l3 : Int32) (n : Nat) (K : Nat → pKd) (A : pA) (Lg : pL) (G : pG) (kc : Nat) (ks : Nat), k18 l3 n K A Lg G kc ks → J Γ RL cL_law 4 (some .boolean) "law" [] 510 kc ks 18 [(0, .ref 1000201), (1, .ref 0), (2, .ref 1198), (3, .int l3)] [] (n, K, A, Lg, G) P) (l3 : Int32) (n : Nat) (K : Nat → pKd) (A : pA) (Lg : pL) (G : pG) (kc : Nat) (ks : Nat) (h : fL_law_J772 Γ k18 Q l3 n K A Lg G kc ks) : J Γ RL cL_law 4 (some .boolean) "law" [] 510 kc ks 772 [(0, .ref 1000201), (1, .ref 0), (2, .ref 1198), (3, .int l3)] [] (n, K, A, Lg, G) P := by
  unfold fL_law_J772 at h
  refine j_aload_n 1 rfl dL_law_772 ?_
  refine j_aload_n 0 rfl dL_law_773 ?_
  refine j_iload_n 3 rfl dL_law_774 ?_
  refine j_iconst (v := 1) dL_law_775 (by decide) ?_
  refine j_iadd dL_law_776 ?_
  obtain ⟨b160, h⟩ := h
  refine j_sald2 b160 dL_law_777 ?_
  obtain ⟨tx161, h⟩ := h
  obtain ⟨httx161, h⟩ := h
  obtain ⟨hxtx161, h⟩ := h
  obtain ⟨hf, h⟩ := h
  refine j_callV (b := 0) (As := [.int (gS Γ (l3 + 1).toNatClampNeg)]) (st := []) (C := RX0) (kc' := kc) (ks' := ks) (tX0_loses hf tx161 httx161 hxtx161 (gS Γ (l3 + 1).toNatClampNeg) _ h) myX0_loses rfl q1453 q1454 q1455 (by decide) (fun s9 H9 hK9 hR9 h69 => jIs_in hK9 hR9 h69 (f_lt hf (by decide)) (fk_0 hf) rfl) rfl (Nat.le_of_ble_eq_true rfl) rfl (by decide) (Nat.le_refl _) (Nat.le_refl _) dL_law_778 (fun v9 u9 hq => ?_) (fun k9 u9 hq => by obtain ⟨_, _, e9, _⟩ := hq; cases e9)
  obtain ⟨r162, A163, e9, rfl, h⟩ := hq
  obtain rfl := Sum.inl.inj e9
  show J Γ RL cL_law 4 (some .boolean) "law" [] 510 kc ks 781 [(0, .ref 1000201), (1, .ref 0), (2, .ref 1198), (3, .int l3)] [.int r162] (n, K, A163, Lg, G) P
  refine j_aload_n 2 rfl dL_law_781 ?_
  refine j_aload_n 0 rfl dL_law_782 ?_
  refine j_iload_n 3 rfl dL_law_783 ?_
  refine j_iconst (v := 1) dL_law_784 (by decide) ?_
  refine j_iadd dL_law_785 ?_
  obtain ⟨b164, h⟩ := h
  refine j_sald2 b164 dL_law_786 ?_
  obtain ⟨hm, h⟩ := h
  refine j_callV (b := 1198) (As := [.int (gS Γ (l3 + 1).toNatClampNeg)]) (st := [.int r162]) (C := RX10) (kc' := kc) (ks' := ks) (tX10_loses hm (gS Γ (l3 + 1).toNatClampNeg) _ h) myX10_loses rfl q2079 q2080 q2081 (by decide) (fun s9 H9 hK9 hR9 h69 => jIs_in hK9 hR9 h69 (m_lt hm (by decide)) (fk_1198 hm) rfl) rfl (Nat.le_of_ble_eq_true rfl) rfl (by decide) (Nat.le_refl _) (Nat.le_refl _) dL_law_787 (fun v9 u9 hq => ?_) (fun k9 u9 hq => by obtain ⟨_, _, e9, _⟩ := hq; cases e9)
  obtain ⟨r165, A166, e9, rfl, h⟩ := hq
  obtain rfl := Sum.inl.inj e9
  show J Γ RL cL_law 4 (some .boolean) "law" [] 510 kc ks 790 [(0, .ref 1000201), (1, .ref 0), (2, .ref 1198), (3, .int l3)] [.int r165, .int r162] (n, K, A166, Lg, G) P
  refine j_icmp_eq (tgt := 1186) dL_law_790 (by decide) (fun c => ?_) (fun c => ?_)
  · rw [if_pos c] at h
    exact fL_law_J1186_ok  Q P hP k18 ok18 l3 n K A166 Lg G kc ks h
  · rw [if_neg c] at h
    refine j_iconst (v := 0) dL_law_793 (by decide) ?_
    refine j_zret rfl (by decide) ?_ dL_law_794
    rw [hP]
    exact ⟨0, n, K, A166, Lg, G, rfl, rfl, h⟩
def fL_law_J795 (Γ : jG) (k18 : Int32 → Nat → (Nat → pKd) → pA → pL → pG → Nat → Nat → Prop) (Q : Int32 → Nat → (Nat → pKd) → pA → pL → pG → Prop) (l3 : Int32) (n : Nat) (K : Nat → pKd) (A : pA) (Lg : pL) (G : pG) (kc : Nat) (ks : Nat) : Prop :=
    ∃ tx167 : Nat, (G 0 3 = .ref tx167) ∧ ((xOK n K G tx167) ∧ ((fOK n K G) ∧ (fX0_fetched tx167 n K A G (fun r168 A169 => (mOK n K G) ∧ (fX10_fetched A169 (fun r170 A171 => (if r168 = r170 then fL_law_J1186 Γ k18 Q l3 n K A171 Lg G kc ks else Q 0 n K A171 Lg G)))))))
theorem fL_law_J795_ok {Γ : jG} (Q : Int32 → Nat → (Nat → pKd) → pA → pL → pG → Prop) (P : jO → pS → Prop) (hP : P = (fun o u => ∃ (r : Int32) (n' : Nat) (K' : Nat → pKd) (A' : pA) (Lg' : pL) (G' : pG), o = .inl (some (.int r)) ∧ u = (n', K', A', Lg', G') ∧ Q r n' K' A' Lg' G')) (k18 : Int32 → Nat → (Nat → pKd) → pA → pL → pG → Nat → Nat → Prop) (ok18 : ∀ (l3 : Int32) (n : Nat) (K : Nat → pKd) (A : pA) (Lg : pL) (G : pG) (kc : Nat) (ks : Nat), k18 l3 n K A Lg G kc ks → J Γ RL cL_law 4 (some .boolean) "law" [] 510 kc ks 18 [(0, .ref 1000201), (1, .ref 0), (2, .ref 1198), (3, .int l3)] [] (n, K, A, Lg, G) P) (l3 : Int32) (n : Nat) (K : Nat → pKd) (A : pA) (Lg : pL) (G : pG) (kc : Nat) (ks : Nat) (h : fL_law_J795 Γ k18 Q l3 n K A Lg G kc ks) : J Γ RL cL_law 4 (some .boolean) "law" [] 510 kc ks 795 [(0, .ref 1000201), (1, .ref 0), (2, .ref 1198), (3, .int l3)] [] (n, K, A, Lg, G) P := by
  unfold fL_law_J795 at h
  refine j_aload_n 1 rfl dL_law_795 ?_
  obtain ⟨tx167, h⟩ := h
  obtain ⟨httx167, h⟩ := h
  obtain ⟨hxtx167, h⟩ := h
  obtain ⟨hf, h⟩ := h
  refine j_callV (b := 0) (As := []) (st := []) (C := RX0) (kc' := kc) (ks' := ks) (tX0_fetched hf tx167 httx167 hxtx167 _ h) myX0_fetched rfl q1457 q1458 q1459 (by decide) (fun s9 H9 hK9 hR9 h69 => jIs_in hK9 hR9 h69 (f_lt hf (by decide)) (fk_0 hf) rfl) rfl (Nat.le_of_ble_eq_true rfl) rfl (by decide) (Nat.le_refl _) (Nat.le_refl _) dL_law_796 (fun v9 u9 hq => ?_) (fun k9 u9 hq => by obtain ⟨_, _, e9, _⟩ := hq; cases e9)
  obtain ⟨r168, A169, e9, rfl, h⟩ := hq
  obtain rfl := Sum.inl.inj e9
  show J Γ RL cL_law 4 (some .boolean) "law" [] 510 kc ks 799 [(0, .ref 1000201), (1, .ref 0), (2, .ref 1198), (3, .int l3)] [.int r168] (n, K, A169, Lg, G) P
  refine j_aload_n 2 rfl dL_law_799 ?_
  obtain ⟨hm, h⟩ := h
  refine j_callV (b := 1198) (As := []) (st := [.int r168]) (C := RX10) (kc' := kc) (ks' := ks) (tX10_fetched hm  _ h) myX10_fetched rfl q2083 q2084 q2085 (by decide) (fun s9 H9 hK9 hR9 h69 => jIs_in hK9 hR9 h69 (m_lt hm (by decide)) (fk_1198 hm) rfl) rfl (Nat.le_of_ble_eq_true rfl) rfl (by decide) (Nat.le_refl _) (Nat.le_refl _) dL_law_800 (fun v9 u9 hq => ?_) (fun k9 u9 hq => by obtain ⟨_, _, e9, _⟩ := hq; cases e9)
  obtain ⟨r170, A171, e9, rfl, h⟩ := hq
  obtain rfl := Sum.inl.inj e9
  show J Γ RL cL_law 4 (some .boolean) "law" [] 510 kc ks 803 [(0, .ref 1000201), (1, .ref 0), (2, .ref 1198), (3, .int l3)] [.int r170, .int r168] (n, K, A171, Lg, G) P
  refine j_icmp_eq (tgt := 1186) dL_law_803 (by decide) (fun c => ?_) (fun c => ?_)
  · rw [if_pos c] at h
    exact fL_law_J1186_ok  Q P hP k18 ok18 l3 n K A171 Lg G kc ks h
  · rw [if_neg c] at h
    refine j_iconst (v := 0) dL_law_806 (by decide) ?_
    refine j_zret rfl (by decide) ?_ dL_law_807
    rw [hP]
    exact ⟨0, n, K, A171, Lg, G, rfl, rfl, h⟩
def fL_law_J808 (Γ : jG) (k18 : Int32 → Nat → (Nat → pKd) → pA → pL → pG → Nat → Nat → Prop) (Q : Int32 → Nat → (Nat → pKd) → pA → pL → pG → Prop) (l3 : Int32) (n : Nat) (K : Nat → pKd) (A : pA) (Lg : pL) (G : pG) (kc : Nat) (ks : Nat) : Prop :=
    (vp_in (l3 + 1) (gN Γ)) ∧ (∃ tx173 : Nat, (G 0 3 = .ref tx173) ∧ ((xOK n K G tx173) ∧ ((fOK n K G) ∧ (fX0_held tx173 n K A G (gS Γ (l3 + 1).toNatClampNeg) (fun r174 => (vp_in (l3 + 1) (gN Γ)) ∧ ((mOK n K G) ∧ (fX10_held A (gS Γ (l3 + 1).toNatClampNeg) (fun r176 => (if r174 = r176 then fL_law_J1186 Γ k18 Q l3 n K A Lg G kc ks else Q 0 n K A Lg G)))))))))
theorem fL_law_J808_ok {Γ : jG} (Q : Int32 → Nat → (Nat → pKd) → pA → pL → pG → Prop) (P : jO → pS → Prop) (hP : P = (fun o u => ∃ (r : Int32) (n' : Nat) (K' : Nat → pKd) (A' : pA) (Lg' : pL) (G' : pG), o = .inl (some (.int r)) ∧ u = (n', K', A', Lg', G') ∧ Q r n' K' A' Lg' G')) (k18 : Int32 → Nat → (Nat → pKd) → pA → pL → pG → Nat → Nat → Prop) (ok18 : ∀ (l3 : Int32) (n : Nat) (K : Nat → pKd) (A : pA) (Lg : pL) (G : pG) (kc : Nat) (ks : Nat), k18 l3 n K A Lg G kc ks → J Γ RL cL_law 4 (some .boolean) "law" [] 510 kc ks 18 [(0, .ref 1000201), (1, .ref 0), (2, .ref 1198), (3, .int l3)] [] (n, K, A, Lg, G) P) (l3 : Int32) (n : Nat) (K : Nat → pKd) (A : pA) (Lg : pL) (G : pG) (kc : Nat) (ks : Nat) (h : fL_law_J808 Γ k18 Q l3 n K A Lg G kc ks) : J Γ RL cL_law 4 (some .boolean) "law" [] 510 kc ks 808 [(0, .ref 1000201), (1, .ref 0), (2, .ref 1198), (3, .int l3)] [] (n, K, A, Lg, G) P := by
  unfold fL_law_J808 at h
  refine j_aload_n 1 rfl dL_law_808 ?_
  refine j_aload_n 0 rfl dL_law_809 ?_
  refine j_iload_n 3 rfl dL_law_810 ?_
  refine j_iconst (v := 1) dL_law_811 (by decide) ?_
  refine j_iadd dL_law_812 ?_
  obtain ⟨b172, h⟩ := h
  refine j_sald2 b172 dL_law_813 ?_
  obtain ⟨tx173, h⟩ := h
  obtain ⟨httx173, h⟩ := h
  obtain ⟨hxtx173, h⟩ := h
  obtain ⟨hf, h⟩ := h
  refine j_callV (b := 0) (As := [.int (gS Γ (l3 + 1).toNatClampNeg)]) (st := []) (C := RX0) (kc' := kc) (ks' := ks) (tX0_held hf tx173 httx173 hxtx173 (gS Γ (l3 + 1).toNatClampNeg) _ h) myX0_held rfl q1412 q1413 q1414 (by decide) (fun s9 H9 hK9 hR9 h69 => jIs_in hK9 hR9 h69 (f_lt hf (by decide)) (fk_0 hf) rfl) rfl (Nat.le_of_ble_eq_true rfl) rfl (by decide) (Nat.le_refl _) (Nat.le_refl _) dL_law_814 (fun v9 u9 hq => ?_) (fun k9 u9 hq => by obtain ⟨_, e9, _⟩ := hq; cases e9)
  obtain ⟨r174, e9, rfl, h⟩ := hq
  obtain rfl := Sum.inl.inj e9
  show J Γ RL cL_law 4 (some .boolean) "law" [] 510 kc ks 817 [(0, .ref 1000201), (1, .ref 0), (2, .ref 1198), (3, .int l3)] [.int r174] (n, K, A, Lg, G) P
  refine j_aload_n 2 rfl dL_law_817 ?_
  refine j_aload_n 0 rfl dL_law_818 ?_
  refine j_iload_n 3 rfl dL_law_819 ?_
  refine j_iconst (v := 1) dL_law_820 (by decide) ?_
  refine j_iadd dL_law_821 ?_
  obtain ⟨b175, h⟩ := h
  refine j_sald2 b175 dL_law_822 ?_
  obtain ⟨hm, h⟩ := h
  refine j_callV (b := 1198) (As := [.int (gS Γ (l3 + 1).toNatClampNeg)]) (st := [.int r174]) (C := RX10) (kc' := kc) (ks' := ks) (tX10_held hm (gS Γ (l3 + 1).toNatClampNeg) _ h) myX10_held rfl q2087 q2088 q2089 (by decide) (fun s9 H9 hK9 hR9 h69 => jIs_in hK9 hR9 h69 (m_lt hm (by decide)) (fk_1198 hm) rfl) rfl (Nat.le_of_ble_eq_true rfl) rfl (by decide) (Nat.le_refl _) (Nat.le_refl _) dL_law_823 (fun v9 u9 hq => ?_) (fun k9 u9 hq => by obtain ⟨_, e9, _⟩ := hq; cases e9)
  obtain ⟨r176, e9, rfl, h⟩ := hq
  obtain rfl := Sum.inl.inj e9
  show J Γ RL cL_law 4 (some .boolean) "law" [] 510 kc ks 826 [(0, .ref 1000201), (1, .ref 0), (2, .ref 1198), (3, .int l3)] [.int r176, .int r174] (n, K, A, Lg, G) P
  refine j_icmp_eq (tgt := 1186) dL_law_826 (by decide) (fun c => ?_) (fun c => ?_)
  · rw [if_pos c] at h
    exact fL_law_J1186_ok  Q P hP k18 ok18 l3 n K A Lg G kc ks h
  · rw [if_neg c] at h
    refine j_iconst (v := 0) dL_law_829 (by decide) ?_
    refine j_zret rfl (by decide) ?_ dL_law_830
    rw [hP]
    exact ⟨0, n, K, A, Lg, G, rfl, rfl, h⟩
def fL_law_J831 (Γ : jG) (k18 : Int32 → Nat → (Nat → pKd) → pA → pL → pG → Nat → Nat → Prop) (Q : Int32 → Nat → (Nat → pKd) → pA → pL → pG → Prop) (l3 : Int32) (n : Nat) (K : Nat → pKd) (A : pA) (Lg : pL) (G : pG) (kc : Nat) (ks : Nat) : Prop :=
    (vp_in (l3 + 1) (gN Γ)) ∧ ((vp_in (l3 + 2) (gN Γ)) ∧ (∃ tx179 : Nat, (G 0 3 = .ref tx179) ∧ ((xOK n K G tx179) ∧ ((fOK n K G) ∧ (fX0_grudge tx179 n K A G (gS Γ (l3 + 1).toNatClampNeg) (gS Γ (l3 + 2).toNatClampNeg) (fun r180 A181 => (vp_in (l3 + 1) (gN Γ)) ∧ ((vp_in (l3 + 2) (gN Γ)) ∧ ((mOK n K G) ∧ (fX10_grudge A181 (gS Γ (l3 + 1).toNatClampNeg) (gS Γ (l3 + 2).toNatClampNeg) (fun r184 A185 => (if r180 = r184 then fL_law_J1186 Γ k18 Q l3 n K A185 Lg G kc ks else Q 0 n K A185 Lg G)))))))))))
theorem fL_law_J831_ok {Γ : jG} (Q : Int32 → Nat → (Nat → pKd) → pA → pL → pG → Prop) (P : jO → pS → Prop) (hP : P = (fun o u => ∃ (r : Int32) (n' : Nat) (K' : Nat → pKd) (A' : pA) (Lg' : pL) (G' : pG), o = .inl (some (.int r)) ∧ u = (n', K', A', Lg', G') ∧ Q r n' K' A' Lg' G')) (k18 : Int32 → Nat → (Nat → pKd) → pA → pL → pG → Nat → Nat → Prop) (ok18 : ∀ (l3 : Int32) (n : Nat) (K : Nat → pKd) (A : pA) (Lg : pL) (G : pG) (kc : Nat) (ks : Nat), k18 l3 n K A Lg G kc ks → J Γ RL cL_law 4 (some .boolean) "law" [] 510 kc ks 18 [(0, .ref 1000201), (1, .ref 0), (2, .ref 1198), (3, .int l3)] [] (n, K, A, Lg, G) P) (l3 : Int32) (n : Nat) (K : Nat → pKd) (A : pA) (Lg : pL) (G : pG) (kc : Nat) (ks : Nat) (h : fL_law_J831 Γ k18 Q l3 n K A Lg G kc ks) : J Γ RL cL_law 4 (some .boolean) "law" [] 510 kc ks 831 [(0, .ref 1000201), (1, .ref 0), (2, .ref 1198), (3, .int l3)] [] (n, K, A, Lg, G) P := by
  unfold fL_law_J831 at h
  refine j_aload_n 1 rfl dL_law_831 ?_
  refine j_aload_n 0 rfl dL_law_832 ?_
  refine j_iload_n 3 rfl dL_law_833 ?_
  refine j_iconst (v := 1) dL_law_834 (by decide) ?_
  refine j_iadd dL_law_835 ?_
  obtain ⟨b177, h⟩ := h
  refine j_sald2 b177 dL_law_836 ?_
  refine j_aload_n 0 rfl dL_law_837 ?_
  refine j_iload_n 3 rfl dL_law_838 ?_
  refine j_iconst (v := 2) dL_law_839 (by decide) ?_
  refine j_iadd dL_law_840 ?_
  obtain ⟨b178, h⟩ := h
  refine j_sald2 b178 dL_law_841 ?_
  obtain ⟨tx179, h⟩ := h
  obtain ⟨httx179, h⟩ := h
  obtain ⟨hxtx179, h⟩ := h
  obtain ⟨hf, h⟩ := h
  refine j_callV (b := 0) (As := [.int (gS Γ (l3 + 1).toNatClampNeg), .int (gS Γ (l3 + 2).toNatClampNeg)]) (st := []) (C := RX0) (kc' := kc) (ks' := ks) (tX0_grudge hf tx179 httx179 hxtx179 (gS Γ (l3 + 1).toNatClampNeg) (gS Γ (l3 + 2).toNatClampNeg) _ h) myX0_grudge rfl q1416 q1417 q1418 (by decide) (fun s9 H9 hK9 hR9 h69 => jIs_in hK9 hR9 h69 (f_lt hf (by decide)) (fk_0 hf) rfl) rfl (Nat.le_of_ble_eq_true rfl) rfl (by decide) (Nat.le_refl _) (Nat.le_refl _) dL_law_842 (fun v9 u9 hq => ?_) (fun k9 u9 hq => by obtain ⟨_, _, e9, _⟩ := hq; cases e9)
  obtain ⟨r180, A181, e9, rfl, h⟩ := hq
  obtain rfl := Sum.inl.inj e9
  show J Γ RL cL_law 4 (some .boolean) "law" [] 510 kc ks 845 [(0, .ref 1000201), (1, .ref 0), (2, .ref 1198), (3, .int l3)] [.int r180] (n, K, A181, Lg, G) P
  refine j_aload_n 2 rfl dL_law_845 ?_
  refine j_aload_n 0 rfl dL_law_846 ?_
  refine j_iload_n 3 rfl dL_law_847 ?_
  refine j_iconst (v := 1) dL_law_848 (by decide) ?_
  refine j_iadd dL_law_849 ?_
  obtain ⟨b182, h⟩ := h
  refine j_sald2 b182 dL_law_850 ?_
  refine j_aload_n 0 rfl dL_law_851 ?_
  refine j_iload_n 3 rfl dL_law_852 ?_
  refine j_iconst (v := 2) dL_law_853 (by decide) ?_
  refine j_iadd dL_law_854 ?_
  obtain ⟨b183, h⟩ := h
  refine j_sald2 b183 dL_law_855 ?_
  obtain ⟨hm, h⟩ := h
  refine j_callV (b := 1198) (As := [.int (gS Γ (l3 + 1).toNatClampNeg), .int (gS Γ (l3 + 2).toNatClampNeg)]) (st := [.int r180]) (C := RX10) (kc' := kc) (ks' := ks) (tX10_grudge hm (gS Γ (l3 + 1).toNatClampNeg) (gS Γ (l3 + 2).toNatClampNeg) _ h) myX10_grudge rfl q2091 q2092 q2093 (by decide) (fun s9 H9 hK9 hR9 h69 => jIs_in hK9 hR9 h69 (m_lt hm (by decide)) (fk_1198 hm) rfl) rfl (Nat.le_of_ble_eq_true rfl) rfl (by decide) (Nat.le_refl _) (Nat.le_refl _) dL_law_856 (fun v9 u9 hq => ?_) (fun k9 u9 hq => by obtain ⟨_, _, e9, _⟩ := hq; cases e9)
  obtain ⟨r184, A185, e9, rfl, h⟩ := hq
  obtain rfl := Sum.inl.inj e9
  show J Γ RL cL_law 4 (some .boolean) "law" [] 510 kc ks 859 [(0, .ref 1000201), (1, .ref 0), (2, .ref 1198), (3, .int l3)] [.int r184, .int r180] (n, K, A185, Lg, G) P
  refine j_icmp_eq (tgt := 1186) dL_law_859 (by decide) (fun c => ?_) (fun c => ?_)
  · rw [if_pos c] at h
    exact fL_law_J1186_ok  Q P hP k18 ok18 l3 n K A185 Lg G kc ks h
  · rw [if_neg c] at h
    refine j_iconst (v := 0) dL_law_862 (by decide) ?_
    refine j_zret rfl (by decide) ?_ dL_law_863
    rw [hP]
    exact ⟨0, n, K, A185, Lg, G, rfl, rfl, h⟩
def fL_law_J864 (Γ : jG) (k18 : Int32 → Nat → (Nat → pKd) → pA → pL → pG → Nat → Nat → Prop) (Q : Int32 → Nat → (Nat → pKd) → pA → pL → pG → Prop) (l3 : Int32) (n : Nat) (K : Nat → pKd) (A : pA) (Lg : pL) (G : pG) (kc : Nat) (ks : Nat) : Prop :=
    (vp_in (l3 + 1) (gN Γ)) ∧ (∃ tx187 : Nat, (G 0 3 = .ref tx187) ∧ ((xOK n K G tx187) ∧ ((fOK n K G) ∧ (fX0_share tx187 n K A G (gS Γ (l3 + 1).toNatClampNeg) (fun r188 A189 => (vp_in (l3 + 1) (gN Γ)) ∧ ((mOK n K G) ∧ (fX10_share A189 (gS Γ (l3 + 1).toNatClampNeg) (fun r191 A192 => (if r188 = r191 then fL_law_J1186 Γ k18 Q l3 n K A192 Lg G kc ks else Q 0 n K A192 Lg G)))))))))
theorem fL_law_J864_ok {Γ : jG} (Q : Int32 → Nat → (Nat → pKd) → pA → pL → pG → Prop) (P : jO → pS → Prop) (hP : P = (fun o u => ∃ (r : Int32) (n' : Nat) (K' : Nat → pKd) (A' : pA) (Lg' : pL) (G' : pG), o = .inl (some (.int r)) ∧ u = (n', K', A', Lg', G') ∧ Q r n' K' A' Lg' G')) (k18 : Int32 → Nat → (Nat → pKd) → pA → pL → pG → Nat → Nat → Prop) (ok18 : ∀ (l3 : Int32) (n : Nat) (K : Nat → pKd) (A : pA) (Lg : pL) (G : pG) (kc : Nat) (ks : Nat), k18 l3 n K A Lg G kc ks → J Γ RL cL_law 4 (some .boolean) "law" [] 510 kc ks 18 [(0, .ref 1000201), (1, .ref 0), (2, .ref 1198), (3, .int l3)] [] (n, K, A, Lg, G) P) (l3 : Int32) (n : Nat) (K : Nat → pKd) (A : pA) (Lg : pL) (G : pG) (kc : Nat) (ks : Nat) (h : fL_law_J864 Γ k18 Q l3 n K A Lg G kc ks) : J Γ RL cL_law 4 (some .boolean) "law" [] 510 kc ks 864 [(0, .ref 1000201), (1, .ref 0), (2, .ref 1198), (3, .int l3)] [] (n, K, A, Lg, G) P := by
  unfold fL_law_J864 at h
  refine j_aload_n 1 rfl dL_law_864 ?_
  refine j_aload_n 0 rfl dL_law_865 ?_
  refine j_iload_n 3 rfl dL_law_866 ?_
  refine j_iconst (v := 1) dL_law_867 (by decide) ?_
  refine j_iadd dL_law_868 ?_
  obtain ⟨b186, h⟩ := h
  refine j_sald2 b186 dL_law_869 ?_
  obtain ⟨tx187, h⟩ := h
  obtain ⟨httx187, h⟩ := h
  obtain ⟨hxtx187, h⟩ := h
  obtain ⟨hf, h⟩ := h
  refine j_callV (b := 0) (As := [.int (gS Γ (l3 + 1).toNatClampNeg)]) (st := []) (C := RX0) (kc' := kc) (ks' := ks) (tX0_share hf tx187 httx187 hxtx187 (gS Γ (l3 + 1).toNatClampNeg) _ h) myX0_share rfl q1420 q1421 q1422 (by decide) (fun s9 H9 hK9 hR9 h69 => jIs_in hK9 hR9 h69 (f_lt hf (by decide)) (fk_0 hf) rfl) rfl (Nat.le_of_ble_eq_true rfl) rfl (by decide) (Nat.le_refl _) (Nat.le_refl _) dL_law_870 (fun v9 u9 hq => ?_) (fun k9 u9 hq => by obtain ⟨_, _, e9, _⟩ := hq; cases e9)
  obtain ⟨r188, A189, e9, rfl, h⟩ := hq
  obtain rfl := Sum.inl.inj e9
  show J Γ RL cL_law 4 (some .boolean) "law" [] 510 kc ks 873 [(0, .ref 1000201), (1, .ref 0), (2, .ref 1198), (3, .int l3)] [.int r188] (n, K, A189, Lg, G) P
  refine j_aload_n 2 rfl dL_law_873 ?_
  refine j_aload_n 0 rfl dL_law_874 ?_
  refine j_iload_n 3 rfl dL_law_875 ?_
  refine j_iconst (v := 1) dL_law_876 (by decide) ?_
  refine j_iadd dL_law_877 ?_
  obtain ⟨b190, h⟩ := h
  refine j_sald2 b190 dL_law_878 ?_
  obtain ⟨hm, h⟩ := h
  refine j_callV (b := 1198) (As := [.int (gS Γ (l3 + 1).toNatClampNeg)]) (st := [.int r188]) (C := RX10) (kc' := kc) (ks' := ks) (tX10_share hm (gS Γ (l3 + 1).toNatClampNeg) _ h) myX10_share rfl q2095 q2096 q2097 (by decide) (fun s9 H9 hK9 hR9 h69 => jIs_in hK9 hR9 h69 (m_lt hm (by decide)) (fk_1198 hm) rfl) rfl (Nat.le_of_ble_eq_true rfl) rfl (by decide) (Nat.le_refl _) (Nat.le_refl _) dL_law_879 (fun v9 u9 hq => ?_) (fun k9 u9 hq => by obtain ⟨_, _, e9, _⟩ := hq; cases e9)
  obtain ⟨r191, A192, e9, rfl, h⟩ := hq
  obtain rfl := Sum.inl.inj e9
  show J Γ RL cL_law 4 (some .boolean) "law" [] 510 kc ks 882 [(0, .ref 1000201), (1, .ref 0), (2, .ref 1198), (3, .int l3)] [.int r191, .int r188] (n, K, A192, Lg, G) P
  refine j_icmp_eq (tgt := 1186) dL_law_882 (by decide) (fun c => ?_) (fun c => ?_)
  · rw [if_pos c] at h
    exact fL_law_J1186_ok  Q P hP k18 ok18 l3 n K A192 Lg G kc ks h
  · rw [if_neg c] at h
    refine j_iconst (v := 0) dL_law_885 (by decide) ?_
    refine j_zret rfl (by decide) ?_ dL_law_886
    rw [hP]
    exact ⟨0, n, K, A192, Lg, G, rfl, rfl, h⟩
def fL_law_J887 (Γ : jG) (k18 : Int32 → Nat → (Nat → pKd) → pA → pL → pG → Nat → Nat → Prop) (Q : Int32 → Nat → (Nat → pKd) → pA → pL → pG → Prop) (l3 : Int32) (n : Nat) (K : Nat → pKd) (A : pA) (Lg : pL) (G : pG) (kc : Nat) (ks : Nat) : Prop :=
    (vp_in (l3 + 1) (gN Γ)) ∧ ((vp_in (l3 + 2) (gN Γ)) ∧ ((vp_in (l3 + 3) (gN Γ)) ∧ (∃ tx196 : Nat, (G 0 3 = .ref tx196) ∧ ((xOK n K G tx196) ∧ ((fOK n K G) ∧ (fX0_then tx196 n K A G (gS Γ (l3 + 1).toNatClampNeg) (gS Γ (l3 + 2).toNatClampNeg) (gS Γ (l3 + 3).toNatClampNeg) (fun r197 A198 => (vp_in (l3 + 1) (gN Γ)) ∧ ((vp_in (l3 + 2) (gN Γ)) ∧ ((vp_in (l3 + 3) (gN Γ)) ∧ ((mOK n K G) ∧ (fX10_then A198 (gS Γ (l3 + 1).toNatClampNeg) (gS Γ (l3 + 2).toNatClampNeg) (gS Γ (l3 + 3).toNatClampNeg) (fun r202 A203 => (if r197 = r202 then fL_law_J1186 Γ k18 Q l3 n K A203 Lg G kc ks else Q 0 n K A203 Lg G)))))))))))))
theorem fL_law_J887_ok {Γ : jG} (Q : Int32 → Nat → (Nat → pKd) → pA → pL → pG → Prop) (P : jO → pS → Prop) (hP : P = (fun o u => ∃ (r : Int32) (n' : Nat) (K' : Nat → pKd) (A' : pA) (Lg' : pL) (G' : pG), o = .inl (some (.int r)) ∧ u = (n', K', A', Lg', G') ∧ Q r n' K' A' Lg' G')) (k18 : Int32 → Nat → (Nat → pKd) → pA → pL → pG → Nat → Nat → Prop) (ok18 : ∀ (l3 : Int32) (n : Nat) (K : Nat → pKd) (A : pA) (Lg : pL) (G : pG) (kc : Nat) (ks : Nat), k18 l3 n K A Lg G kc ks → J Γ RL cL_law 4 (some .boolean) "law" [] 510 kc ks 18 [(0, .ref 1000201), (1, .ref 0), (2, .ref 1198), (3, .int l3)] [] (n, K, A, Lg, G) P) (l3 : Int32) (n : Nat) (K : Nat → pKd) (A : pA) (Lg : pL) (G : pG) (kc : Nat) (ks : Nat) (h : fL_law_J887 Γ k18 Q l3 n K A Lg G kc ks) : J Γ RL cL_law 4 (some .boolean) "law" [] 510 kc ks 887 [(0, .ref 1000201), (1, .ref 0), (2, .ref 1198), (3, .int l3)] [] (n, K, A, Lg, G) P := by
  unfold fL_law_J887 at h
  refine j_aload_n 1 rfl dL_law_887 ?_
  refine j_aload_n 0 rfl dL_law_888 ?_
  refine j_iload_n 3 rfl dL_law_889 ?_
  refine j_iconst (v := 1) dL_law_890 (by decide) ?_
  refine j_iadd dL_law_891 ?_
  obtain ⟨b193, h⟩ := h
  refine j_sald2 b193 dL_law_892 ?_
  refine j_aload_n 0 rfl dL_law_893 ?_
  refine j_iload_n 3 rfl dL_law_894 ?_
  refine j_iconst (v := 2) dL_law_895 (by decide) ?_
  refine j_iadd dL_law_896 ?_
  obtain ⟨b194, h⟩ := h
  refine j_sald2 b194 dL_law_897 ?_
  refine j_aload_n 0 rfl dL_law_898 ?_
  refine j_iload_n 3 rfl dL_law_899 ?_
  refine j_iconst (v := 3) dL_law_900 (by decide) ?_
  refine j_iadd dL_law_901 ?_
  obtain ⟨b195, h⟩ := h
  refine j_sald2 b195 dL_law_902 ?_
  obtain ⟨tx196, h⟩ := h
  obtain ⟨httx196, h⟩ := h
  obtain ⟨hxtx196, h⟩ := h
  obtain ⟨hf, h⟩ := h
  refine j_callV (b := 0) (As := [.int (gS Γ (l3 + 1).toNatClampNeg), .int (gS Γ (l3 + 2).toNatClampNeg), .int (gS Γ (l3 + 3).toNatClampNeg)]) (st := []) (C := RX0) (kc' := kc) (ks' := ks) (tX0_then hf tx196 httx196 hxtx196 (gS Γ (l3 + 1).toNatClampNeg) (gS Γ (l3 + 2).toNatClampNeg) (gS Γ (l3 + 3).toNatClampNeg) _ h) myX0_then rfl q1461 q1462 q1463 (by decide) (fun s9 H9 hK9 hR9 h69 => jIs_in hK9 hR9 h69 (f_lt hf (by decide)) (fk_0 hf) rfl) rfl (Nat.le_of_ble_eq_true rfl) rfl (by decide) (Nat.le_refl _) (Nat.le_refl _) dL_law_903 (fun v9 u9 hq => ?_) (fun k9 u9 hq => by obtain ⟨_, _, e9, _⟩ := hq; cases e9)
  obtain ⟨r197, A198, e9, rfl, h⟩ := hq
  obtain rfl := Sum.inl.inj e9
  show J Γ RL cL_law 4 (some .boolean) "law" [] 510 kc ks 906 [(0, .ref 1000201), (1, .ref 0), (2, .ref 1198), (3, .int l3)] [.int r197] (n, K, A198, Lg, G) P
  refine j_aload_n 2 rfl dL_law_906 ?_
  refine j_aload_n 0 rfl dL_law_907 ?_
  refine j_iload_n 3 rfl dL_law_908 ?_
  refine j_iconst (v := 1) dL_law_909 (by decide) ?_
  refine j_iadd dL_law_910 ?_
  obtain ⟨b199, h⟩ := h
  refine j_sald2 b199 dL_law_911 ?_
  refine j_aload_n 0 rfl dL_law_912 ?_
  refine j_iload_n 3 rfl dL_law_913 ?_
  refine j_iconst (v := 2) dL_law_914 (by decide) ?_
  refine j_iadd dL_law_915 ?_
  obtain ⟨b200, h⟩ := h
  refine j_sald2 b200 dL_law_916 ?_
  refine j_aload_n 0 rfl dL_law_917 ?_
  refine j_iload_n 3 rfl dL_law_918 ?_
  refine j_iconst (v := 3) dL_law_919 (by decide) ?_
  refine j_iadd dL_law_920 ?_
  obtain ⟨b201, h⟩ := h
  refine j_sald2 b201 dL_law_921 ?_
  obtain ⟨hm, h⟩ := h
  refine j_callV (b := 1198) (As := [.int (gS Γ (l3 + 1).toNatClampNeg), .int (gS Γ (l3 + 2).toNatClampNeg), .int (gS Γ (l3 + 3).toNatClampNeg)]) (st := [.int r197]) (C := RX10) (kc' := kc) (ks' := ks) (tX10_then hm (gS Γ (l3 + 1).toNatClampNeg) (gS Γ (l3 + 2).toNatClampNeg) (gS Γ (l3 + 3).toNatClampNeg) _ h) myX10_then rfl q2103 q2104 q2105 (by decide) (fun s9 H9 hK9 hR9 h69 => jIs_in hK9 hR9 h69 (m_lt hm (by decide)) (fk_1198 hm) rfl) rfl (Nat.le_of_ble_eq_true rfl) rfl (by decide) (Nat.le_refl _) (Nat.le_refl _) dL_law_922 (fun v9 u9 hq => ?_) (fun k9 u9 hq => by obtain ⟨_, _, e9, _⟩ := hq; cases e9)
  obtain ⟨r202, A203, e9, rfl, h⟩ := hq
  obtain rfl := Sum.inl.inj e9
  show J Γ RL cL_law 4 (some .boolean) "law" [] 510 kc ks 925 [(0, .ref 1000201), (1, .ref 0), (2, .ref 1198), (3, .int l3)] [.int r202, .int r197] (n, K, A203, Lg, G) P
  refine j_icmp_eq (tgt := 1186) dL_law_925 (by decide) (fun c => ?_) (fun c => ?_)
  · rw [if_pos c] at h
    exact fL_law_J1186_ok  Q P hP k18 ok18 l3 n K A203 Lg G kc ks h
  · rw [if_neg c] at h
    refine j_iconst (v := 0) dL_law_928 (by decide) ?_
    refine j_zret rfl (by decide) ?_ dL_law_929
    rw [hP]
    exact ⟨0, n, K, A203, Lg, G, rfl, rfl, h⟩
def fL_law_J930 (Γ : jG) (k18 : Int32 → Nat → (Nat → pKd) → pA → pL → pG → Nat → Nat → Prop) (Q : Int32 → Nat → (Nat → pKd) → pA → pL → pG → Prop) (l3 : Int32) (n : Nat) (K : Nat → pKd) (A : pA) (Lg : pL) (G : pG) (kc : Nat) (ks : Nat) : Prop :=
    (vp_in (l3 + 1) (gN Γ)) ∧ ((vp_in (l3 + 2) (gN Γ)) ∧ (∃ tx206 : Nat, (G 0 3 = .ref tx206) ∧ ((xOK n K G tx206) ∧ ((fOK n K G) ∧ (fX0_dogIn tx206 n K A G (gS Γ (l3 + 1).toNatClampNeg) (gS Γ (l3 + 2).toNatClampNeg) (fun r207 A208 => (vp_in (l3 + 1) (gN Γ)) ∧ ((vp_in (l3 + 2) (gN Γ)) ∧ ((mOK n K G) ∧ (fX10_dogIn A208 (gS Γ (l3 + 1).toNatClampNeg) (gS Γ (l3 + 2).toNatClampNeg) (fun r211 A212 => (if r207 = r211 then fL_law_J1186 Γ k18 Q l3 n K A212 Lg G kc ks else Q 0 n K A212 Lg G)))))))))))
theorem fL_law_J930_ok {Γ : jG} (Q : Int32 → Nat → (Nat → pKd) → pA → pL → pG → Prop) (P : jO → pS → Prop) (hP : P = (fun o u => ∃ (r : Int32) (n' : Nat) (K' : Nat → pKd) (A' : pA) (Lg' : pL) (G' : pG), o = .inl (some (.int r)) ∧ u = (n', K', A', Lg', G') ∧ Q r n' K' A' Lg' G')) (k18 : Int32 → Nat → (Nat → pKd) → pA → pL → pG → Nat → Nat → Prop) (ok18 : ∀ (l3 : Int32) (n : Nat) (K : Nat → pKd) (A : pA) (Lg : pL) (G : pG) (kc : Nat) (ks : Nat), k18 l3 n K A Lg G kc ks → J Γ RL cL_law 4 (some .boolean) "law" [] 510 kc ks 18 [(0, .ref 1000201), (1, .ref 0), (2, .ref 1198), (3, .int l3)] [] (n, K, A, Lg, G) P) (l3 : Int32) (n : Nat) (K : Nat → pKd) (A : pA) (Lg : pL) (G : pG) (kc : Nat) (ks : Nat) (h : fL_law_J930 Γ k18 Q l3 n K A Lg G kc ks) : J Γ RL cL_law 4 (some .boolean) "law" [] 510 kc ks 930 [(0, .ref 1000201), (1, .ref 0), (2, .ref 1198), (3, .int l3)] [] (n, K, A, Lg, G) P := by
  unfold fL_law_J930 at h
  refine j_aload_n 1 rfl dL_law_930 ?_
  refine j_aload_n 0 rfl dL_law_931 ?_
  refine j_iload_n 3 rfl dL_law_932 ?_
  refine j_iconst (v := 1) dL_law_933 (by decide) ?_
  refine j_iadd dL_law_934 ?_
  obtain ⟨b204, h⟩ := h
  refine j_sald2 b204 dL_law_935 ?_
  refine j_aload_n 0 rfl dL_law_936 ?_
  refine j_iload_n 3 rfl dL_law_937 ?_
  refine j_iconst (v := 2) dL_law_938 (by decide) ?_
  refine j_iadd dL_law_939 ?_
  obtain ⟨b205, h⟩ := h
  refine j_sald2 b205 dL_law_940 ?_
  obtain ⟨tx206, h⟩ := h
  obtain ⟨httx206, h⟩ := h
  obtain ⟨hxtx206, h⟩ := h
  obtain ⟨hf, h⟩ := h
  refine j_callV (b := 0) (As := [.int (gS Γ (l3 + 1).toNatClampNeg), .int (gS Γ (l3 + 2).toNatClampNeg)]) (st := []) (C := RX0) (kc' := kc) (ks' := ks) (tX0_dogIn hf tx206 httx206 hxtx206 (gS Γ (l3 + 1).toNatClampNeg) (gS Γ (l3 + 2).toNatClampNeg) _ h) myX0_dogIn rfl q1465 q1466 q1467 (by decide) (fun s9 H9 hK9 hR9 h69 => jIs_in hK9 hR9 h69 (f_lt hf (by decide)) (fk_0 hf) rfl) rfl (Nat.le_of_ble_eq_true rfl) rfl (by decide) (Nat.le_refl _) (Nat.le_refl _) dL_law_941 (fun v9 u9 hq => ?_) (fun k9 u9 hq => by obtain ⟨_, _, e9, _⟩ := hq; cases e9)
  obtain ⟨r207, A208, e9, rfl, h⟩ := hq
  obtain rfl := Sum.inl.inj e9
  show J Γ RL cL_law 4 (some .boolean) "law" [] 510 kc ks 944 [(0, .ref 1000201), (1, .ref 0), (2, .ref 1198), (3, .int l3)] [.int r207] (n, K, A208, Lg, G) P
  refine j_aload_n 2 rfl dL_law_944 ?_
  refine j_aload_n 0 rfl dL_law_945 ?_
  refine j_iload_n 3 rfl dL_law_946 ?_
  refine j_iconst (v := 1) dL_law_947 (by decide) ?_
  refine j_iadd dL_law_948 ?_
  obtain ⟨b209, h⟩ := h
  refine j_sald2 b209 dL_law_949 ?_
  refine j_aload_n 0 rfl dL_law_950 ?_
  refine j_iload_n 3 rfl dL_law_951 ?_
  refine j_iconst (v := 2) dL_law_952 (by decide) ?_
  refine j_iadd dL_law_953 ?_
  obtain ⟨b210, h⟩ := h
  refine j_sald2 b210 dL_law_954 ?_
  obtain ⟨hm, h⟩ := h
  refine j_callV (b := 1198) (As := [.int (gS Γ (l3 + 1).toNatClampNeg), .int (gS Γ (l3 + 2).toNatClampNeg)]) (st := [.int r207]) (C := RX10) (kc' := kc) (ks' := ks) (tX10_dogIn hm (gS Γ (l3 + 1).toNatClampNeg) (gS Γ (l3 + 2).toNatClampNeg) _ h) myX10_dogIn rfl q2110 q2111 q2112 (by decide) (fun s9 H9 hK9 hR9 h69 => jIs_in hK9 hR9 h69 (m_lt hm (by decide)) (fk_1198 hm) rfl) rfl (Nat.le_of_ble_eq_true rfl) rfl (by decide) (Nat.le_refl _) (Nat.le_refl _) dL_law_955 (fun v9 u9 hq => ?_) (fun k9 u9 hq => by obtain ⟨_, _, e9, _⟩ := hq; cases e9)
  obtain ⟨r211, A212, e9, rfl, h⟩ := hq
  obtain rfl := Sum.inl.inj e9
  show J Γ RL cL_law 4 (some .boolean) "law" [] 510 kc ks 958 [(0, .ref 1000201), (1, .ref 0), (2, .ref 1198), (3, .int l3)] [.int r211, .int r207] (n, K, A212, Lg, G) P
  refine j_icmp_eq (tgt := 1186) dL_law_958 (by decide) (fun c => ?_) (fun c => ?_)
  · rw [if_pos c] at h
    exact fL_law_J1186_ok  Q P hP k18 ok18 l3 n K A212 Lg G kc ks h
  · rw [if_neg c] at h
    refine j_iconst (v := 0) dL_law_961 (by decide) ?_
    refine j_zret rfl (by decide) ?_ dL_law_962
    rw [hP]
    exact ⟨0, n, K, A212, Lg, G, rfl, rfl, h⟩
def fL_law_J963 (Γ : jG) (k18 : Int32 → Nat → (Nat → pKd) → pA → pL → pG → Nat → Nat → Prop) (Q : Int32 → Nat → (Nat → pKd) → pA → pL → pG → Prop) (l3 : Int32) (n : Nat) (K : Nat → pKd) (A : pA) (Lg : pL) (G : pG) (kc : Nat) (ks : Nat) : Prop :=
    (vp_in (l3 + 1) (gN Γ)) ∧ (∃ tx214 : Nat, (G 0 3 = .ref tx214) ∧ ((xOK n K G tx214) ∧ ((fOK n K G) ∧ (fX0_first tx214 n K A G (gS Γ (l3 + 1).toNatClampNeg) (fun r215 A216 => (vp_in (l3 + 1) (gN Γ)) ∧ ((mOK n K G) ∧ (fX10_first A216 (gS Γ (l3 + 1).toNatClampNeg) (fun r218 A219 => (if r215 = r218 then fL_law_J1186 Γ k18 Q l3 n K A219 Lg G kc ks else Q 0 n K A219 Lg G)))))))))
theorem fL_law_J963_ok {Γ : jG} (Q : Int32 → Nat → (Nat → pKd) → pA → pL → pG → Prop) (P : jO → pS → Prop) (hP : P = (fun o u => ∃ (r : Int32) (n' : Nat) (K' : Nat → pKd) (A' : pA) (Lg' : pL) (G' : pG), o = .inl (some (.int r)) ∧ u = (n', K', A', Lg', G') ∧ Q r n' K' A' Lg' G')) (k18 : Int32 → Nat → (Nat → pKd) → pA → pL → pG → Nat → Nat → Prop) (ok18 : ∀ (l3 : Int32) (n : Nat) (K : Nat → pKd) (A : pA) (Lg : pL) (G : pG) (kc : Nat) (ks : Nat), k18 l3 n K A Lg G kc ks → J Γ RL cL_law 4 (some .boolean) "law" [] 510 kc ks 18 [(0, .ref 1000201), (1, .ref 0), (2, .ref 1198), (3, .int l3)] [] (n, K, A, Lg, G) P) (l3 : Int32) (n : Nat) (K : Nat → pKd) (A : pA) (Lg : pL) (G : pG) (kc : Nat) (ks : Nat) (h : fL_law_J963 Γ k18 Q l3 n K A Lg G kc ks) : J Γ RL cL_law 4 (some .boolean) "law" [] 510 kc ks 963 [(0, .ref 1000201), (1, .ref 0), (2, .ref 1198), (3, .int l3)] [] (n, K, A, Lg, G) P := by
  unfold fL_law_J963 at h
  refine j_aload_n 1 rfl dL_law_963 ?_
  refine j_aload_n 0 rfl dL_law_964 ?_
  refine j_iload_n 3 rfl dL_law_965 ?_
  refine j_iconst (v := 1) dL_law_966 (by decide) ?_
  refine j_iadd dL_law_967 ?_
  obtain ⟨b213, h⟩ := h
  refine j_sald2 b213 dL_law_968 ?_
  obtain ⟨tx214, h⟩ := h
  obtain ⟨httx214, h⟩ := h
  obtain ⟨hxtx214, h⟩ := h
  obtain ⟨hf, h⟩ := h
  refine j_callV (b := 0) (As := [.int (gS Γ (l3 + 1).toNatClampNeg)]) (st := []) (C := RX0) (kc' := kc) (ks' := ks) (tX0_first hf tx214 httx214 hxtx214 (gS Γ (l3 + 1).toNatClampNeg) _ h) myX0_first rfl q1469 q1470 q1471 (by decide) (fun s9 H9 hK9 hR9 h69 => jIs_in hK9 hR9 h69 (f_lt hf (by decide)) (fk_0 hf) rfl) rfl (Nat.le_of_ble_eq_true rfl) rfl (by decide) (Nat.le_refl _) (Nat.le_refl _) dL_law_969 (fun v9 u9 hq => ?_) (fun k9 u9 hq => by obtain ⟨_, _, e9, _⟩ := hq; cases e9)
  obtain ⟨r215, A216, e9, rfl, h⟩ := hq
  obtain rfl := Sum.inl.inj e9
  show J Γ RL cL_law 4 (some .boolean) "law" [] 510 kc ks 972 [(0, .ref 1000201), (1, .ref 0), (2, .ref 1198), (3, .int l3)] [.int r215] (n, K, A216, Lg, G) P
  refine j_aload_n 2 rfl dL_law_972 ?_
  refine j_aload_n 0 rfl dL_law_973 ?_
  refine j_iload_n 3 rfl dL_law_974 ?_
  refine j_iconst (v := 1) dL_law_975 (by decide) ?_
  refine j_iadd dL_law_976 ?_
  obtain ⟨b217, h⟩ := h
  refine j_sald2 b217 dL_law_977 ?_
  obtain ⟨hm, h⟩ := h
  refine j_callV (b := 1198) (As := [.int (gS Γ (l3 + 1).toNatClampNeg)]) (st := [.int r215]) (C := RX10) (kc' := kc) (ks' := ks) (tX10_first hm (gS Γ (l3 + 1).toNatClampNeg) _ h) myX10_first rfl q2114 q2115 q2116 (by decide) (fun s9 H9 hK9 hR9 h69 => jIs_in hK9 hR9 h69 (m_lt hm (by decide)) (fk_1198 hm) rfl) rfl (Nat.le_of_ble_eq_true rfl) rfl (by decide) (Nat.le_refl _) (Nat.le_refl _) dL_law_978 (fun v9 u9 hq => ?_) (fun k9 u9 hq => by obtain ⟨_, _, e9, _⟩ := hq; cases e9)
  obtain ⟨r218, A219, e9, rfl, h⟩ := hq
  obtain rfl := Sum.inl.inj e9
  show J Γ RL cL_law 4 (some .boolean) "law" [] 510 kc ks 981 [(0, .ref 1000201), (1, .ref 0), (2, .ref 1198), (3, .int l3)] [.int r218, .int r215] (n, K, A219, Lg, G) P
  refine j_icmp_eq (tgt := 1186) dL_law_981 (by decide) (fun c => ?_) (fun c => ?_)
  · rw [if_pos c] at h
    exact fL_law_J1186_ok  Q P hP k18 ok18 l3 n K A219 Lg G kc ks h
  · rw [if_neg c] at h
    refine j_iconst (v := 0) dL_law_984 (by decide) ?_
    refine j_zret rfl (by decide) ?_ dL_law_985
    rw [hP]
    exact ⟨0, n, K, A219, Lg, G, rfl, rfl, h⟩
def fL_law_J1027 (Γ : jG) (k18 : Int32 → Nat → (Nat → pKd) → pA → pL → pG → Nat → Nat → Prop) (Q : Int32 → Nat → (Nat → pKd) → pA → pL → pG → Prop) (l3 : Int32) (s0 : Int32) (s1 : Int32) (s3 : Int32) (n : Nat) (K : Nat → pKd) (A : pA) (Lg : pL) (G : pG) (kc : Nat) (ks : Nat) : Prop :=
    (mOK n K G) ∧ (fX10_tell A s1 s0 (fun r220 A221 => (if s3 = r220 then fL_law_J1186 Γ k18 Q l3 n K A221 Lg G kc ks else Q 0 n K A221 Lg G)))
theorem fL_law_J1027_ok {Γ : jG} (Q : Int32 → Nat → (Nat → pKd) → pA → pL → pG → Prop) (P : jO → pS → Prop) (hP : P = (fun o u => ∃ (r : Int32) (n' : Nat) (K' : Nat → pKd) (A' : pA) (Lg' : pL) (G' : pG), o = .inl (some (.int r)) ∧ u = (n', K', A', Lg', G') ∧ Q r n' K' A' Lg' G')) (k18 : Int32 → Nat → (Nat → pKd) → pA → pL → pG → Nat → Nat → Prop) (ok18 : ∀ (l3 : Int32) (n : Nat) (K : Nat → pKd) (A : pA) (Lg : pL) (G : pG) (kc : Nat) (ks : Nat), k18 l3 n K A Lg G kc ks → J Γ RL cL_law 4 (some .boolean) "law" [] 510 kc ks 18 [(0, .ref 1000201), (1, .ref 0), (2, .ref 1198), (3, .int l3)] [] (n, K, A, Lg, G) P) (l3 : Int32) (s0 : Int32) (s1 : Int32) (s3 : Int32) (n : Nat) (K : Nat → pKd) (A : pA) (Lg : pL) (G : pG) (kc : Nat) (ks : Nat) (h : fL_law_J1027 Γ k18 Q l3 s0 s1 s3 n K A Lg G kc ks) : J Γ RL cL_law 4 (some .boolean) "law" [] 510 kc ks 1027 [(0, .ref 1000201), (1, .ref 0), (2, .ref 1198), (3, .int l3)] [.int s0, .int s1, .ref 1198, .int s3] (n, K, A, Lg, G) P := by
  unfold fL_law_J1027 at h
  obtain ⟨hm, h⟩ := h
  refine j_callV (b := 1198) (As := [.int s1, .int s0]) (st := [.int s3]) (C := RX10) (kc' := kc) (ks' := ks) (tX10_tell hm s1 s0 _ h) myX10_tell rfl q2118 q2119 q2120 (by decide) (fun s9 H9 hK9 hR9 h69 => jIs_in hK9 hR9 h69 (m_lt hm (by decide)) (fk_1198 hm) rfl) rfl (Nat.le_of_ble_eq_true rfl) rfl (by decide) (Nat.le_refl _) (Nat.le_refl _) dL_law_1027 (fun v9 u9 hq => ?_) (fun k9 u9 hq => by obtain ⟨_, _, e9, _⟩ := hq; cases e9)
  obtain ⟨r220, A221, e9, rfl, h⟩ := hq
  obtain rfl := Sum.inl.inj e9
  show J Γ RL cL_law 4 (some .boolean) "law" [] 510 kc ks 1030 [(0, .ref 1000201), (1, .ref 0), (2, .ref 1198), (3, .int l3)] [.int r220, .int s3] (n, K, A221, Lg, G) P
  refine j_icmp_eq (tgt := 1186) dL_law_1030 (by decide) (fun c => ?_) (fun c => ?_)
  · rw [if_pos c] at h
    exact fL_law_J1186_ok  Q P hP k18 ok18 l3 n K A221 Lg G kc ks h
  · rw [if_neg c] at h
    refine j_iconst (v := 0) dL_law_1033 (by decide) ?_
    refine j_zret rfl (by decide) ?_ dL_law_1034
    rw [hP]
    exact ⟨0, n, K, A221, Lg, G, rfl, rfl, h⟩
def fL_law_J1005 (Γ : jG) (k18 : Int32 → Nat → (Nat → pKd) → pA → pL → pG → Nat → Nat → Prop) (Q : Int32 → Nat → (Nat → pKd) → pA → pL → pG → Prop) (l3 : Int32) (s0 : Int32) (s1 : Int32) (n : Nat) (K : Nat → pKd) (A : pA) (Lg : pL) (G : pG) (kc : Nat) (ks : Nat) : Prop :=
    ∃ tx222 : Nat, (G 0 3 = .ref tx222) ∧ ((xOK n K G tx222) ∧ ((fOK n K G) ∧ (fX0_tell tx222 A s1 s0 (fun r223 A224 => (vp_in (l3 + 1) (gN Γ)) ∧ ((vp_in (l3 + 2) (gN Γ)) ∧ ((if (gS Γ (l3 + 2).toNatClampNeg) = 0 then fL_law_J1027 Γ k18 Q l3 0 (gS Γ (l3 + 1).toNatClampNeg) r223 n K A224 Lg G kc ks else fL_law_J1027 Γ k18 Q l3 1 (gS Γ (l3 + 1).toNatClampNeg) r223 n K A224 Lg G kc ks)))))))
theorem fL_law_J1005_ok {Γ : jG} (Q : Int32 → Nat → (Nat → pKd) → pA → pL → pG → Prop) (P : jO → pS → Prop) (hP : P = (fun o u => ∃ (r : Int32) (n' : Nat) (K' : Nat → pKd) (A' : pA) (Lg' : pL) (G' : pG), o = .inl (some (.int r)) ∧ u = (n', K', A', Lg', G') ∧ Q r n' K' A' Lg' G')) (k18 : Int32 → Nat → (Nat → pKd) → pA → pL → pG → Nat → Nat → Prop) (ok18 : ∀ (l3 : Int32) (n : Nat) (K : Nat → pKd) (A : pA) (Lg : pL) (G : pG) (kc : Nat) (ks : Nat), k18 l3 n K A Lg G kc ks → J Γ RL cL_law 4 (some .boolean) "law" [] 510 kc ks 18 [(0, .ref 1000201), (1, .ref 0), (2, .ref 1198), (3, .int l3)] [] (n, K, A, Lg, G) P) (l3 : Int32) (s0 : Int32) (s1 : Int32) (n : Nat) (K : Nat → pKd) (A : pA) (Lg : pL) (G : pG) (kc : Nat) (ks : Nat) (h : fL_law_J1005 Γ k18 Q l3 s0 s1 n K A Lg G kc ks) : J Γ RL cL_law 4 (some .boolean) "law" [] 510 kc ks 1005 [(0, .ref 1000201), (1, .ref 0), (2, .ref 1198), (3, .int l3)] [.int s0, .int s1, .ref 0] (n, K, A, Lg, G) P := by
  unfold fL_law_J1005 at h
  obtain ⟨tx222, h⟩ := h
  obtain ⟨httx222, h⟩ := h
  obtain ⟨hxtx222, h⟩ := h
  obtain ⟨hf, h⟩ := h
  refine j_callV (b := 0) (As := [.int s1, .int s0]) (st := []) (C := RX0) (kc' := kc) (ks' := ks) (tX0_tell hf tx222 httx222 hxtx222 s1 s0 _ h) myX0_tell rfl q1473 q1474 q1475 (by decide) (fun s9 H9 hK9 hR9 h69 => jIs_in hK9 hR9 h69 (f_lt hf (by decide)) (fk_0 hf) rfl) rfl (Nat.le_of_ble_eq_true rfl) rfl (by decide) (Nat.le_refl _) (Nat.le_refl _) dL_law_1005 (fun v9 u9 hq => ?_) (fun k9 u9 hq => by obtain ⟨_, _, e9, _⟩ := hq; cases e9)
  obtain ⟨r223, A224, e9, rfl, h⟩ := hq
  obtain rfl := Sum.inl.inj e9
  show J Γ RL cL_law 4 (some .boolean) "law" [] 510 kc ks 1008 [(0, .ref 1000201), (1, .ref 0), (2, .ref 1198), (3, .int l3)] [.int r223] (n, K, A224, Lg, G) P
  refine j_aload_n 2 rfl dL_law_1008 ?_
  refine j_aload_n 0 rfl dL_law_1009 ?_
  refine j_iload_n 3 rfl dL_law_1010 ?_
  refine j_iconst (v := 1) dL_law_1011 (by decide) ?_
  refine j_iadd dL_law_1012 ?_
  obtain ⟨b225, h⟩ := h
  refine j_sald2 b225 dL_law_1013 ?_
  refine j_aload_n 0 rfl dL_law_1014 ?_
  refine j_iload_n 3 rfl dL_law_1015 ?_
  refine j_iconst (v := 2) dL_law_1016 (by decide) ?_
  refine j_iadd dL_law_1017 ?_
  obtain ⟨b226, h⟩ := h
  refine j_sald2 b226 dL_law_1018 ?_
  refine j_if_eq (tgt := 1026) dL_law_1019 (by decide) (fun c => ?_) (fun c => ?_)
  · rw [if_pos c] at h
    refine j_iconst (v := 0) dL_law_1026 (by decide) ?_
    exact fL_law_J1027_ok  Q P hP k18 ok18 l3 0 (gS Γ (l3 + 1).toNatClampNeg) r223 n K A224 Lg G kc ks h
  · rw [if_neg c] at h
    refine j_iconst (v := 1) dL_law_1022 (by decide) ?_
    refine j_goto (tgt := 1027) dL_law_1023 (by decide) ?_
    exact fL_law_J1027_ok  Q P hP k18 ok18 l3 1 (gS Γ (l3 + 1).toNatClampNeg) r223 n K A224 Lg G kc ks h
def fL_law_J986 (Γ : jG) (k18 : Int32 → Nat → (Nat → pKd) → pA → pL → pG → Nat → Nat → Prop) (Q : Int32 → Nat → (Nat → pKd) → pA → pL → pG → Prop) (l3 : Int32) (n : Nat) (K : Nat → pKd) (A : pA) (Lg : pL) (G : pG) (kc : Nat) (ks : Nat) : Prop :=
    (vp_in (l3 + 1) (gN Γ)) ∧ ((vp_in (l3 + 2) (gN Γ)) ∧ ((if (gS Γ (l3 + 2).toNatClampNeg) = 0 then fL_law_J1005 Γ k18 Q l3 0 (gS Γ (l3 + 1).toNatClampNeg) n K A Lg G kc ks else fL_law_J1005 Γ k18 Q l3 1 (gS Γ (l3 + 1).toNatClampNeg) n K A Lg G kc ks)))
theorem fL_law_J986_ok {Γ : jG} (Q : Int32 → Nat → (Nat → pKd) → pA → pL → pG → Prop) (P : jO → pS → Prop) (hP : P = (fun o u => ∃ (r : Int32) (n' : Nat) (K' : Nat → pKd) (A' : pA) (Lg' : pL) (G' : pG), o = .inl (some (.int r)) ∧ u = (n', K', A', Lg', G') ∧ Q r n' K' A' Lg' G')) (k18 : Int32 → Nat → (Nat → pKd) → pA → pL → pG → Nat → Nat → Prop) (ok18 : ∀ (l3 : Int32) (n : Nat) (K : Nat → pKd) (A : pA) (Lg : pL) (G : pG) (kc : Nat) (ks : Nat), k18 l3 n K A Lg G kc ks → J Γ RL cL_law 4 (some .boolean) "law" [] 510 kc ks 18 [(0, .ref 1000201), (1, .ref 0), (2, .ref 1198), (3, .int l3)] [] (n, K, A, Lg, G) P) (l3 : Int32) (n : Nat) (K : Nat → pKd) (A : pA) (Lg : pL) (G : pG) (kc : Nat) (ks : Nat) (h : fL_law_J986 Γ k18 Q l3 n K A Lg G kc ks) : J Γ RL cL_law 4 (some .boolean) "law" [] 510 kc ks 986 [(0, .ref 1000201), (1, .ref 0), (2, .ref 1198), (3, .int l3)] [] (n, K, A, Lg, G) P := by
  unfold fL_law_J986 at h
  refine j_aload_n 1 rfl dL_law_986 ?_
  refine j_aload_n 0 rfl dL_law_987 ?_
  refine j_iload_n 3 rfl dL_law_988 ?_
  refine j_iconst (v := 1) dL_law_989 (by decide) ?_
  refine j_iadd dL_law_990 ?_
  obtain ⟨b227, h⟩ := h
  refine j_sald2 b227 dL_law_991 ?_
  refine j_aload_n 0 rfl dL_law_992 ?_
  refine j_iload_n 3 rfl dL_law_993 ?_
  refine j_iconst (v := 2) dL_law_994 (by decide) ?_
  refine j_iadd dL_law_995 ?_
  obtain ⟨b228, h⟩ := h
  refine j_sald2 b228 dL_law_996 ?_
  refine j_if_eq (tgt := 1004) dL_law_997 (by decide) (fun c => ?_) (fun c => ?_)
  · rw [if_pos c] at h
    refine j_iconst (v := 0) dL_law_1004 (by decide) ?_
    exact fL_law_J1005_ok  Q P hP k18 ok18 l3 0 (gS Γ (l3 + 1).toNatClampNeg) n K A Lg G kc ks h
  · rw [if_neg c] at h
    refine j_iconst (v := 1) dL_law_1000 (by decide) ?_
    refine j_goto (tgt := 1005) dL_law_1001 (by decide) ?_
    exact fL_law_J1005_ok  Q P hP k18 ok18 l3 1 (gS Γ (l3 + 1).toNatClampNeg) n K A Lg G kc ks h
def fL_law_J1035 (Γ : jG) (k18 : Int32 → Nat → (Nat → pKd) → pA → pL → pG → Nat → Nat → Prop) (Q : Int32 → Nat → (Nat → pKd) → pA → pL → pG → Prop) (l3 : Int32) (n : Nat) (K : Nat → pKd) (A : pA) (Lg : pL) (G : pG) (kc : Nat) (ks : Nat) : Prop :=
    ∃ tx229 : Nat, (G 0 3 = .ref tx229) ∧ ((xOK n K G tx229) ∧ ((fOK n K G) ∧ (fX0_forget tx229 A (fun r230 A231 => (mOK n K G) ∧ (fX10_forget A231 (fun r232 A233 => (if r230 = r232 then fL_law_J1186 Γ k18 Q l3 n K A233 Lg G kc ks else Q 0 n K A233 Lg G)))))))
theorem fL_law_J1035_ok {Γ : jG} (Q : Int32 → Nat → (Nat → pKd) → pA → pL → pG → Prop) (P : jO → pS → Prop) (hP : P = (fun o u => ∃ (r : Int32) (n' : Nat) (K' : Nat → pKd) (A' : pA) (Lg' : pL) (G' : pG), o = .inl (some (.int r)) ∧ u = (n', K', A', Lg', G') ∧ Q r n' K' A' Lg' G')) (k18 : Int32 → Nat → (Nat → pKd) → pA → pL → pG → Nat → Nat → Prop) (ok18 : ∀ (l3 : Int32) (n : Nat) (K : Nat → pKd) (A : pA) (Lg : pL) (G : pG) (kc : Nat) (ks : Nat), k18 l3 n K A Lg G kc ks → J Γ RL cL_law 4 (some .boolean) "law" [] 510 kc ks 18 [(0, .ref 1000201), (1, .ref 0), (2, .ref 1198), (3, .int l3)] [] (n, K, A, Lg, G) P) (l3 : Int32) (n : Nat) (K : Nat → pKd) (A : pA) (Lg : pL) (G : pG) (kc : Nat) (ks : Nat) (h : fL_law_J1035 Γ k18 Q l3 n K A Lg G kc ks) : J Γ RL cL_law 4 (some .boolean) "law" [] 510 kc ks 1035 [(0, .ref 1000201), (1, .ref 0), (2, .ref 1198), (3, .int l3)] [] (n, K, A, Lg, G) P := by
  unfold fL_law_J1035 at h
  refine j_aload_n 1 rfl dL_law_1035 ?_
  obtain ⟨tx229, h⟩ := h
  obtain ⟨httx229, h⟩ := h
  obtain ⟨hxtx229, h⟩ := h
  obtain ⟨hf, h⟩ := h
  refine j_callV (b := 0) (As := []) (st := []) (C := RX0) (kc' := kc) (ks' := ks) (tX0_forget hf tx229 httx229 hxtx229 _ h) myX0_forget rfl q1477 q1478 q1479 (by decide) (fun s9 H9 hK9 hR9 h69 => jIs_in hK9 hR9 h69 (f_lt hf (by decide)) (fk_0 hf) rfl) rfl (Nat.le_of_ble_eq_true rfl) rfl (by decide) (Nat.le_refl _) (Nat.le_refl _) dL_law_1036 (fun v9 u9 hq => ?_) (fun k9 u9 hq => by obtain ⟨_, _, e9, _⟩ := hq; cases e9)
  obtain ⟨r230, A231, e9, rfl, h⟩ := hq
  obtain rfl := Sum.inl.inj e9
  show J Γ RL cL_law 4 (some .boolean) "law" [] 510 kc ks 1039 [(0, .ref 1000201), (1, .ref 0), (2, .ref 1198), (3, .int l3)] [.int r230] (n, K, A231, Lg, G) P
  refine j_aload_n 2 rfl dL_law_1039 ?_
  obtain ⟨hm, h⟩ := h
  refine j_callV (b := 1198) (As := []) (st := [.int r230]) (C := RX10) (kc' := kc) (ks' := ks) (tX10_forget hm  _ h) myX10_forget rfl q2122 q2123 q2124 (by decide) (fun s9 H9 hK9 hR9 h69 => jIs_in hK9 hR9 h69 (m_lt hm (by decide)) (fk_1198 hm) rfl) rfl (Nat.le_of_ble_eq_true rfl) rfl (by decide) (Nat.le_refl _) (Nat.le_refl _) dL_law_1040 (fun v9 u9 hq => ?_) (fun k9 u9 hq => by obtain ⟨_, _, e9, _⟩ := hq; cases e9)
  obtain ⟨r232, A233, e9, rfl, h⟩ := hq
  obtain rfl := Sum.inl.inj e9
  show J Γ RL cL_law 4 (some .boolean) "law" [] 510 kc ks 1043 [(0, .ref 1000201), (1, .ref 0), (2, .ref 1198), (3, .int l3)] [.int r232, .int r230] (n, K, A233, Lg, G) P
  refine j_icmp_eq (tgt := 1186) dL_law_1043 (by decide) (fun c => ?_) (fun c => ?_)
  · rw [if_pos c] at h
    exact fL_law_J1186_ok  Q P hP k18 ok18 l3 n K A233 Lg G kc ks h
  · rw [if_neg c] at h
    refine j_iconst (v := 0) dL_law_1046 (by decide) ?_
    refine j_zret rfl (by decide) ?_ dL_law_1047
    rw [hP]
    exact ⟨0, n, K, A233, Lg, G, rfl, rfl, h⟩
def fL_law_J1048 (Γ : jG) (k18 : Int32 → Nat → (Nat → pKd) → pA → pL → pG → Nat → Nat → Prop) (Q : Int32 → Nat → (Nat → pKd) → pA → pL → pG → Prop) (l3 : Int32) (n : Nat) (K : Nat → pKd) (A : pA) (Lg : pL) (G : pG) (kc : Nat) (ks : Nat) : Prop :=
    (vp_in (l3 + 1) (gN Γ)) ∧ (∃ tx235 : Nat, (G 0 3 = .ref tx235) ∧ ((xOK n K G tx235) ∧ ((fOK n K G) ∧ (fX0_kicks tx235 n K A G (gS Γ (l3 + 1).toNatClampNeg) (fun r236 A237 => (vp_in (l3 + 1) (gN Γ)) ∧ ((mOK n K G) ∧ (fX10_kicks A237 (gS Γ (l3 + 1).toNatClampNeg) (fun r239 A240 => (if r236 = r239 then fL_law_J1186 Γ k18 Q l3 n K A240 Lg G kc ks else Q 0 n K A240 Lg G)))))))))
theorem fL_law_J1048_ok {Γ : jG} (Q : Int32 → Nat → (Nat → pKd) → pA → pL → pG → Prop) (P : jO → pS → Prop) (hP : P = (fun o u => ∃ (r : Int32) (n' : Nat) (K' : Nat → pKd) (A' : pA) (Lg' : pL) (G' : pG), o = .inl (some (.int r)) ∧ u = (n', K', A', Lg', G') ∧ Q r n' K' A' Lg' G')) (k18 : Int32 → Nat → (Nat → pKd) → pA → pL → pG → Nat → Nat → Prop) (ok18 : ∀ (l3 : Int32) (n : Nat) (K : Nat → pKd) (A : pA) (Lg : pL) (G : pG) (kc : Nat) (ks : Nat), k18 l3 n K A Lg G kc ks → J Γ RL cL_law 4 (some .boolean) "law" [] 510 kc ks 18 [(0, .ref 1000201), (1, .ref 0), (2, .ref 1198), (3, .int l3)] [] (n, K, A, Lg, G) P) (l3 : Int32) (n : Nat) (K : Nat → pKd) (A : pA) (Lg : pL) (G : pG) (kc : Nat) (ks : Nat) (h : fL_law_J1048 Γ k18 Q l3 n K A Lg G kc ks) : J Γ RL cL_law 4 (some .boolean) "law" [] 510 kc ks 1048 [(0, .ref 1000201), (1, .ref 0), (2, .ref 1198), (3, .int l3)] [] (n, K, A, Lg, G) P := by
  unfold fL_law_J1048 at h
  refine j_aload_n 1 rfl dL_law_1048 ?_
  refine j_aload_n 0 rfl dL_law_1049 ?_
  refine j_iload_n 3 rfl dL_law_1050 ?_
  refine j_iconst (v := 1) dL_law_1051 (by decide) ?_
  refine j_iadd dL_law_1052 ?_
  obtain ⟨b234, h⟩ := h
  refine j_sald2 b234 dL_law_1053 ?_
  obtain ⟨tx235, h⟩ := h
  obtain ⟨httx235, h⟩ := h
  obtain ⟨hxtx235, h⟩ := h
  obtain ⟨hf, h⟩ := h
  refine j_callV (b := 0) (As := [.int (gS Γ (l3 + 1).toNatClampNeg)]) (st := []) (C := RX0) (kc' := kc) (ks' := ks) (tX0_kicks hf tx235 httx235 hxtx235 (gS Γ (l3 + 1).toNatClampNeg) _ h) myX0_kicks rfl q1481 q1482 q1483 (by decide) (fun s9 H9 hK9 hR9 h69 => jIs_in hK9 hR9 h69 (f_lt hf (by decide)) (fk_0 hf) rfl) rfl (Nat.le_of_ble_eq_true rfl) rfl (by decide) (Nat.le_refl _) (Nat.le_refl _) dL_law_1054 (fun v9 u9 hq => ?_) (fun k9 u9 hq => by obtain ⟨_, _, e9, _⟩ := hq; cases e9)
  obtain ⟨r236, A237, e9, rfl, h⟩ := hq
  obtain rfl := Sum.inl.inj e9
  show J Γ RL cL_law 4 (some .boolean) "law" [] 510 kc ks 1057 [(0, .ref 1000201), (1, .ref 0), (2, .ref 1198), (3, .int l3)] [.int r236] (n, K, A237, Lg, G) P
  refine j_aload_n 2 rfl dL_law_1057 ?_
  refine j_aload_n 0 rfl dL_law_1058 ?_
  refine j_iload_n 3 rfl dL_law_1059 ?_
  refine j_iconst (v := 1) dL_law_1060 (by decide) ?_
  refine j_iadd dL_law_1061 ?_
  obtain ⟨b238, h⟩ := h
  refine j_sald2 b238 dL_law_1062 ?_
  obtain ⟨hm, h⟩ := h
  refine j_callV (b := 1198) (As := [.int (gS Γ (l3 + 1).toNatClampNeg)]) (st := [.int r236]) (C := RX10) (kc' := kc) (ks' := ks) (tX10_kicks hm (gS Γ (l3 + 1).toNatClampNeg) _ h) myX10_kicks rfl q2126 q2127 q2128 (by decide) (fun s9 H9 hK9 hR9 h69 => jIs_in hK9 hR9 h69 (m_lt hm (by decide)) (fk_1198 hm) rfl) rfl (Nat.le_of_ble_eq_true rfl) rfl (by decide) (Nat.le_refl _) (Nat.le_refl _) dL_law_1063 (fun v9 u9 hq => ?_) (fun k9 u9 hq => by obtain ⟨_, _, e9, _⟩ := hq; cases e9)
  obtain ⟨r239, A240, e9, rfl, h⟩ := hq
  obtain rfl := Sum.inl.inj e9
  show J Γ RL cL_law 4 (some .boolean) "law" [] 510 kc ks 1066 [(0, .ref 1000201), (1, .ref 0), (2, .ref 1198), (3, .int l3)] [.int r239, .int r236] (n, K, A240, Lg, G) P
  refine j_icmp_eq (tgt := 1186) dL_law_1066 (by decide) (fun c => ?_) (fun c => ?_)
  · rw [if_pos c] at h
    exact fL_law_J1186_ok  Q P hP k18 ok18 l3 n K A240 Lg G kc ks h
  · rw [if_neg c] at h
    refine j_iconst (v := 0) dL_law_1069 (by decide) ?_
    refine j_zret rfl (by decide) ?_ dL_law_1070
    rw [hP]
    exact ⟨0, n, K, A240, Lg, G, rfl, rfl, h⟩
def fL_law_J1071 (Γ : jG) (k18 : Int32 → Nat → (Nat → pKd) → pA → pL → pG → Nat → Nat → Prop) (Q : Int32 → Nat → (Nat → pKd) → pA → pL → pG → Prop) (l3 : Int32) (n : Nat) (K : Nat → pKd) (A : pA) (Lg : pL) (G : pG) (kc : Nat) (ks : Nat) : Prop :=
    (vp_in (l3 + 1) (gN Γ)) ∧ (∃ tx242 : Nat, (G 0 3 = .ref tx242) ∧ ((xOK n K G tx242) ∧ ((fOK n K G) ∧ (fX0_sure tx242 n K A G (gS Γ (l3 + 1).toNatClampNeg) (fun r243 A244 => (vp_in (l3 + 1) (gN Γ)) ∧ ((mOK n K G) ∧ (fX10_sure A244 (gS Γ (l3 + 1).toNatClampNeg) (fun r246 A247 => (if r243 = r246 then fL_law_J1186 Γ k18 Q l3 n K A247 Lg G kc ks else Q 0 n K A247 Lg G)))))))))
theorem fL_law_J1071_ok {Γ : jG} (Q : Int32 → Nat → (Nat → pKd) → pA → pL → pG → Prop) (P : jO → pS → Prop) (hP : P = (fun o u => ∃ (r : Int32) (n' : Nat) (K' : Nat → pKd) (A' : pA) (Lg' : pL) (G' : pG), o = .inl (some (.int r)) ∧ u = (n', K', A', Lg', G') ∧ Q r n' K' A' Lg' G')) (k18 : Int32 → Nat → (Nat → pKd) → pA → pL → pG → Nat → Nat → Prop) (ok18 : ∀ (l3 : Int32) (n : Nat) (K : Nat → pKd) (A : pA) (Lg : pL) (G : pG) (kc : Nat) (ks : Nat), k18 l3 n K A Lg G kc ks → J Γ RL cL_law 4 (some .boolean) "law" [] 510 kc ks 18 [(0, .ref 1000201), (1, .ref 0), (2, .ref 1198), (3, .int l3)] [] (n, K, A, Lg, G) P) (l3 : Int32) (n : Nat) (K : Nat → pKd) (A : pA) (Lg : pL) (G : pG) (kc : Nat) (ks : Nat) (h : fL_law_J1071 Γ k18 Q l3 n K A Lg G kc ks) : J Γ RL cL_law 4 (some .boolean) "law" [] 510 kc ks 1071 [(0, .ref 1000201), (1, .ref 0), (2, .ref 1198), (3, .int l3)] [] (n, K, A, Lg, G) P := by
  unfold fL_law_J1071 at h
  refine j_aload_n 1 rfl dL_law_1071 ?_
  refine j_aload_n 0 rfl dL_law_1072 ?_
  refine j_iload_n 3 rfl dL_law_1073 ?_
  refine j_iconst (v := 1) dL_law_1074 (by decide) ?_
  refine j_iadd dL_law_1075 ?_
  obtain ⟨b241, h⟩ := h
  refine j_sald2 b241 dL_law_1076 ?_
  obtain ⟨tx242, h⟩ := h
  obtain ⟨httx242, h⟩ := h
  obtain ⟨hxtx242, h⟩ := h
  obtain ⟨hf, h⟩ := h
  refine j_callV (b := 0) (As := [.int (gS Γ (l3 + 1).toNatClampNeg)]) (st := []) (C := RX0) (kc' := kc) (ks' := ks) (tX0_sure hf tx242 httx242 hxtx242 (gS Γ (l3 + 1).toNatClampNeg) _ h) myX0_sure rfl q1499 q1500 q1501 (by decide) (fun s9 H9 hK9 hR9 h69 => jIs_in hK9 hR9 h69 (f_lt hf (by decide)) (fk_0 hf) rfl) rfl (Nat.le_of_ble_eq_true rfl) rfl (by decide) (Nat.le_refl _) (Nat.le_refl _) dL_law_1077 (fun v9 u9 hq => ?_) (fun k9 u9 hq => by obtain ⟨_, _, e9, _⟩ := hq; cases e9)
  obtain ⟨r243, A244, e9, rfl, h⟩ := hq
  obtain rfl := Sum.inl.inj e9
  show J Γ RL cL_law 4 (some .boolean) "law" [] 510 kc ks 1080 [(0, .ref 1000201), (1, .ref 0), (2, .ref 1198), (3, .int l3)] [.int r243] (n, K, A244, Lg, G) P
  refine j_aload_n 2 rfl dL_law_1080 ?_
  refine j_aload_n 0 rfl dL_law_1081 ?_
  refine j_iload_n 3 rfl dL_law_1082 ?_
  refine j_iconst (v := 1) dL_law_1083 (by decide) ?_
  refine j_iadd dL_law_1084 ?_
  obtain ⟨b245, h⟩ := h
  refine j_sald2 b245 dL_law_1085 ?_
  obtain ⟨hm, h⟩ := h
  refine j_callV (b := 1198) (As := [.int (gS Γ (l3 + 1).toNatClampNeg)]) (st := [.int r243]) (C := RX10) (kc' := kc) (ks' := ks) (tX10_sure hm (gS Γ (l3 + 1).toNatClampNeg) _ h) myX10_sure rfl q2138 q2139 q2140 (by decide) (fun s9 H9 hK9 hR9 h69 => jIs_in hK9 hR9 h69 (m_lt hm (by decide)) (fk_1198 hm) rfl) rfl (Nat.le_of_ble_eq_true rfl) rfl (by decide) (Nat.le_refl _) (Nat.le_refl _) dL_law_1086 (fun v9 u9 hq => ?_) (fun k9 u9 hq => by obtain ⟨_, _, e9, _⟩ := hq; cases e9)
  obtain ⟨r246, A247, e9, rfl, h⟩ := hq
  obtain rfl := Sum.inl.inj e9
  show J Γ RL cL_law 4 (some .boolean) "law" [] 510 kc ks 1089 [(0, .ref 1000201), (1, .ref 0), (2, .ref 1198), (3, .int l3)] [.int r246, .int r243] (n, K, A247, Lg, G) P
  refine j_icmp_eq (tgt := 1186) dL_law_1089 (by decide) (fun c => ?_) (fun c => ?_)
  · rw [if_pos c] at h
    exact fL_law_J1186_ok  Q P hP k18 ok18 l3 n K A247 Lg G kc ks h
  · rw [if_neg c] at h
    refine j_iconst (v := 0) dL_law_1092 (by decide) ?_
    refine j_zret rfl (by decide) ?_ dL_law_1093
    rw [hP]
    exact ⟨0, n, K, A247, Lg, G, rfl, rfl, h⟩
def fL_law_J1094 (Γ : jG) (k18 : Int32 → Nat → (Nat → pKd) → pA → pL → pG → Nat → Nat → Prop) (Q : Int32 → Nat → (Nat → pKd) → pA → pL → pG → Prop) (l3 : Int32) (n : Nat) (K : Nat → pKd) (A : pA) (Lg : pL) (G : pG) (kc : Nat) (ks : Nat) : Prop :=
    (vp_in (l3 + 1) (gN Γ)) ∧ (∃ tx249 : Nat, (G 0 3 = .ref tx249) ∧ ((xOK n K G tx249) ∧ ((fOK n K G) ∧ (fX0_ask tx249 n K A G (gS Γ (l3 + 1).toNatClampNeg) (fun r250 A251 => (vp_in (l3 + 1) (gN Γ)) ∧ ((mOK n K G) ∧ (fX10_ask A251 (gS Γ (l3 + 1).toNatClampNeg) (fun r253 A254 => (if r250 = r253 then fL_law_J1186 Γ k18 Q l3 n K A254 Lg G kc ks else Q 0 n K A254 Lg G)))))))))
theorem fL_law_J1094_ok {Γ : jG} (Q : Int32 → Nat → (Nat → pKd) → pA → pL → pG → Prop) (P : jO → pS → Prop) (hP : P = (fun o u => ∃ (r : Int32) (n' : Nat) (K' : Nat → pKd) (A' : pA) (Lg' : pL) (G' : pG), o = .inl (some (.int r)) ∧ u = (n', K', A', Lg', G') ∧ Q r n' K' A' Lg' G')) (k18 : Int32 → Nat → (Nat → pKd) → pA → pL → pG → Nat → Nat → Prop) (ok18 : ∀ (l3 : Int32) (n : Nat) (K : Nat → pKd) (A : pA) (Lg : pL) (G : pG) (kc : Nat) (ks : Nat), k18 l3 n K A Lg G kc ks → J Γ RL cL_law 4 (some .boolean) "law" [] 510 kc ks 18 [(0, .ref 1000201), (1, .ref 0), (2, .ref 1198), (3, .int l3)] [] (n, K, A, Lg, G) P) (l3 : Int32) (n : Nat) (K : Nat → pKd) (A : pA) (Lg : pL) (G : pG) (kc : Nat) (ks : Nat) (h : fL_law_J1094 Γ k18 Q l3 n K A Lg G kc ks) : J Γ RL cL_law 4 (some .boolean) "law" [] 510 kc ks 1094 [(0, .ref 1000201), (1, .ref 0), (2, .ref 1198), (3, .int l3)] [] (n, K, A, Lg, G) P := by
  unfold fL_law_J1094 at h
  refine j_aload_n 1 rfl dL_law_1094 ?_
  refine j_aload_n 0 rfl dL_law_1095 ?_
  refine j_iload_n 3 rfl dL_law_1096 ?_
  refine j_iconst (v := 1) dL_law_1097 (by decide) ?_
  refine j_iadd dL_law_1098 ?_
  obtain ⟨b248, h⟩ := h
  refine j_sald2 b248 dL_law_1099 ?_
  obtain ⟨tx249, h⟩ := h
  obtain ⟨httx249, h⟩ := h
  obtain ⟨hxtx249, h⟩ := h
  obtain ⟨hf, h⟩ := h
  refine j_callV (b := 0) (As := [.int (gS Γ (l3 + 1).toNatClampNeg)]) (st := []) (C := RX0) (kc' := kc) (ks' := ks) (tX0_ask hf tx249 httx249 hxtx249 (gS Γ (l3 + 1).toNatClampNeg) _ h) myX0_ask rfl q1507 q1508 q1509 (by decide) (fun s9 H9 hK9 hR9 h69 => jIs_in hK9 hR9 h69 (f_lt hf (by decide)) (fk_0 hf) rfl) rfl (Nat.le_of_ble_eq_true rfl) rfl (by decide) (Nat.le_refl _) (Nat.le_refl _) dL_law_1100 (fun v9 u9 hq => ?_) (fun k9 u9 hq => by obtain ⟨_, _, e9, _⟩ := hq; cases e9)
  obtain ⟨r250, A251, e9, rfl, h⟩ := hq
  obtain rfl := Sum.inl.inj e9
  show J Γ RL cL_law 4 (some .boolean) "law" [] 510 kc ks 1103 [(0, .ref 1000201), (1, .ref 0), (2, .ref 1198), (3, .int l3)] [.int r250] (n, K, A251, Lg, G) P
  refine j_aload_n 2 rfl dL_law_1103 ?_
  refine j_aload_n 0 rfl dL_law_1104 ?_
  refine j_iload_n 3 rfl dL_law_1105 ?_
  refine j_iconst (v := 1) dL_law_1106 (by decide) ?_
  refine j_iadd dL_law_1107 ?_
  obtain ⟨b252, h⟩ := h
  refine j_sald2 b252 dL_law_1108 ?_
  obtain ⟨hm, h⟩ := h
  refine j_callV (b := 1198) (As := [.int (gS Γ (l3 + 1).toNatClampNeg)]) (st := [.int r250]) (C := RX10) (kc' := kc) (ks' := ks) (tX10_ask hm (gS Γ (l3 + 1).toNatClampNeg) _ h) myX10_ask rfl q2142 q2143 q2144 (by decide) (fun s9 H9 hK9 hR9 h69 => jIs_in hK9 hR9 h69 (m_lt hm (by decide)) (fk_1198 hm) rfl) rfl (Nat.le_of_ble_eq_true rfl) rfl (by decide) (Nat.le_refl _) (Nat.le_refl _) dL_law_1109 (fun v9 u9 hq => ?_) (fun k9 u9 hq => by obtain ⟨_, _, e9, _⟩ := hq; cases e9)
  obtain ⟨r253, A254, e9, rfl, h⟩ := hq
  obtain rfl := Sum.inl.inj e9
  show J Γ RL cL_law 4 (some .boolean) "law" [] 510 kc ks 1112 [(0, .ref 1000201), (1, .ref 0), (2, .ref 1198), (3, .int l3)] [.int r253, .int r250] (n, K, A254, Lg, G) P
  refine j_icmp_eq (tgt := 1186) dL_law_1112 (by decide) (fun c => ?_) (fun c => ?_)
  · rw [if_pos c] at h
    exact fL_law_J1186_ok  Q P hP k18 ok18 l3 n K A254 Lg G kc ks h
  · rw [if_neg c] at h
    refine j_iconst (v := 0) dL_law_1115 (by decide) ?_
    refine j_zret rfl (by decide) ?_ dL_law_1116
    rw [hP]
    exact ⟨0, n, K, A254, Lg, G, rfl, rfl, h⟩
def fL_law_J1117 (Γ : jG) (k18 : Int32 → Nat → (Nat → pKd) → pA → pL → pG → Nat → Nat → Prop) (Q : Int32 → Nat → (Nat → pKd) → pA → pL → pG → Prop) (l3 : Int32) (n : Nat) (K : Nat → pKd) (A : pA) (Lg : pL) (G : pG) (kc : Nat) (ks : Nat) : Prop :=
    (vp_in (l3 + 1) (gN Γ)) ∧ (∃ tx256 : Nat, (G 0 3 = .ref tx256) ∧ ((xOK n K G tx256) ∧ ((fOK n K G) ∧ (fX0_hold tx256 A (gS Γ (l3 + 1).toNatClampNeg) (fun r257 A258 => (vp_in (l3 + 1) (gN Γ)) ∧ ((mOK n K G) ∧ (fX10_hold A258 (gS Γ (l3 + 1).toNatClampNeg) (fun r260 A261 => (if r257 = r260 then fL_law_J1186 Γ k18 Q l3 n K A261 Lg G kc ks else Q 0 n K A261 Lg G)))))))))
theorem fL_law_J1117_ok {Γ : jG} (Q : Int32 → Nat → (Nat → pKd) → pA → pL → pG → Prop) (P : jO → pS → Prop) (hP : P = (fun o u => ∃ (r : Int32) (n' : Nat) (K' : Nat → pKd) (A' : pA) (Lg' : pL) (G' : pG), o = .inl (some (.int r)) ∧ u = (n', K', A', Lg', G') ∧ Q r n' K' A' Lg' G')) (k18 : Int32 → Nat → (Nat → pKd) → pA → pL → pG → Nat → Nat → Prop) (ok18 : ∀ (l3 : Int32) (n : Nat) (K : Nat → pKd) (A : pA) (Lg : pL) (G : pG) (kc : Nat) (ks : Nat), k18 l3 n K A Lg G kc ks → J Γ RL cL_law 4 (some .boolean) "law" [] 510 kc ks 18 [(0, .ref 1000201), (1, .ref 0), (2, .ref 1198), (3, .int l3)] [] (n, K, A, Lg, G) P) (l3 : Int32) (n : Nat) (K : Nat → pKd) (A : pA) (Lg : pL) (G : pG) (kc : Nat) (ks : Nat) (h : fL_law_J1117 Γ k18 Q l3 n K A Lg G kc ks) : J Γ RL cL_law 4 (some .boolean) "law" [] 510 kc ks 1117 [(0, .ref 1000201), (1, .ref 0), (2, .ref 1198), (3, .int l3)] [] (n, K, A, Lg, G) P := by
  unfold fL_law_J1117 at h
  refine j_aload_n 1 rfl dL_law_1117 ?_
  refine j_aload_n 0 rfl dL_law_1118 ?_
  refine j_iload_n 3 rfl dL_law_1119 ?_
  refine j_iconst (v := 1) dL_law_1120 (by decide) ?_
  refine j_iadd dL_law_1121 ?_
  obtain ⟨b255, h⟩ := h
  refine j_sald2 b255 dL_law_1122 ?_
  obtain ⟨tx256, h⟩ := h
  obtain ⟨httx256, h⟩ := h
  obtain ⟨hxtx256, h⟩ := h
  obtain ⟨hf, h⟩ := h
  refine j_callV (b := 0) (As := [.int (gS Γ (l3 + 1).toNatClampNeg)]) (st := []) (C := RX0) (kc' := kc) (ks' := ks) (tX0_hold hf tx256 httx256 hxtx256 (gS Γ (l3 + 1).toNatClampNeg) _ h) myX0_hold rfl q1511 q1512 q1513 (by decide) (fun s9 H9 hK9 hR9 h69 => jIs_in hK9 hR9 h69 (f_lt hf (by decide)) (fk_0 hf) rfl) rfl (Nat.le_of_ble_eq_true rfl) rfl (by decide) (Nat.le_refl _) (Nat.le_refl _) dL_law_1123 (fun v9 u9 hq => ?_) (fun k9 u9 hq => by obtain ⟨_, _, e9, _⟩ := hq; cases e9)
  obtain ⟨r257, A258, e9, rfl, h⟩ := hq
  obtain rfl := Sum.inl.inj e9
  show J Γ RL cL_law 4 (some .boolean) "law" [] 510 kc ks 1126 [(0, .ref 1000201), (1, .ref 0), (2, .ref 1198), (3, .int l3)] [.int r257] (n, K, A258, Lg, G) P
  refine j_aload_n 2 rfl dL_law_1126 ?_
  refine j_aload_n 0 rfl dL_law_1127 ?_
  refine j_iload_n 3 rfl dL_law_1128 ?_
  refine j_iconst (v := 1) dL_law_1129 (by decide) ?_
  refine j_iadd dL_law_1130 ?_
  obtain ⟨b259, h⟩ := h
  refine j_sald2 b259 dL_law_1131 ?_
  obtain ⟨hm, h⟩ := h
  refine j_callV (b := 1198) (As := [.int (gS Γ (l3 + 1).toNatClampNeg)]) (st := [.int r257]) (C := RX10) (kc' := kc) (ks' := ks) (tX10_hold hm (gS Γ (l3 + 1).toNatClampNeg) _ h) myX10_hold rfl q2146 q2147 q2148 (by decide) (fun s9 H9 hK9 hR9 h69 => jIs_in hK9 hR9 h69 (m_lt hm (by decide)) (fk_1198 hm) rfl) rfl (Nat.le_of_ble_eq_true rfl) rfl (by decide) (Nat.le_refl _) (Nat.le_refl _) dL_law_1132 (fun v9 u9 hq => ?_) (fun k9 u9 hq => by obtain ⟨_, _, e9, _⟩ := hq; cases e9)
  obtain ⟨r260, A261, e9, rfl, h⟩ := hq
  obtain rfl := Sum.inl.inj e9
  show J Γ RL cL_law 4 (some .boolean) "law" [] 510 kc ks 1135 [(0, .ref 1000201), (1, .ref 0), (2, .ref 1198), (3, .int l3)] [.int r260, .int r257] (n, K, A261, Lg, G) P
  refine j_icmp_eq (tgt := 1186) dL_law_1135 (by decide) (fun c => ?_) (fun c => ?_)
  · rw [if_pos c] at h
    exact fL_law_J1186_ok  Q P hP k18 ok18 l3 n K A261 Lg G kc ks h
  · rw [if_neg c] at h
    refine j_iconst (v := 0) dL_law_1138 (by decide) ?_
    refine j_zret rfl (by decide) ?_ dL_law_1139
    rw [hP]
    exact ⟨0, n, K, A261, Lg, G, rfl, rfl, h⟩
def fL_law_J1140 (Γ : jG) (k18 : Int32 → Nat → (Nat → pKd) → pA → pL → pG → Nat → Nat → Prop) (Q : Int32 → Nat → (Nat → pKd) → pA → pL → pG → Prop) (l3 : Int32) (n : Nat) (K : Nat → pKd) (A : pA) (Lg : pL) (G : pG) (kc : Nat) (ks : Nat) : Prop :=
    (vp_in (l3 + 1) (gN Γ)) ∧ (∃ tx263 : Nat, (G 0 3 = .ref tx263) ∧ ((xOK n K G tx263) ∧ ((fOK n K G) ∧ (fX0_restore tx263 A (gS Γ (l3 + 1).toNatClampNeg) (fun r264 A265 => (vp_in (l3 + 1) (gN Γ)) ∧ ((mOK n K G) ∧ (fX10_restore A265 (gS Γ (l3 + 1).toNatClampNeg) (fun r267 A268 => (if r264 = r267 then fL_law_J1186 Γ k18 Q l3 n K A268 Lg G kc ks else Q 0 n K A268 Lg G)))))))))
theorem fL_law_J1140_ok {Γ : jG} (Q : Int32 → Nat → (Nat → pKd) → pA → pL → pG → Prop) (P : jO → pS → Prop) (hP : P = (fun o u => ∃ (r : Int32) (n' : Nat) (K' : Nat → pKd) (A' : pA) (Lg' : pL) (G' : pG), o = .inl (some (.int r)) ∧ u = (n', K', A', Lg', G') ∧ Q r n' K' A' Lg' G')) (k18 : Int32 → Nat → (Nat → pKd) → pA → pL → pG → Nat → Nat → Prop) (ok18 : ∀ (l3 : Int32) (n : Nat) (K : Nat → pKd) (A : pA) (Lg : pL) (G : pG) (kc : Nat) (ks : Nat), k18 l3 n K A Lg G kc ks → J Γ RL cL_law 4 (some .boolean) "law" [] 510 kc ks 18 [(0, .ref 1000201), (1, .ref 0), (2, .ref 1198), (3, .int l3)] [] (n, K, A, Lg, G) P) (l3 : Int32) (n : Nat) (K : Nat → pKd) (A : pA) (Lg : pL) (G : pG) (kc : Nat) (ks : Nat) (h : fL_law_J1140 Γ k18 Q l3 n K A Lg G kc ks) : J Γ RL cL_law 4 (some .boolean) "law" [] 510 kc ks 1140 [(0, .ref 1000201), (1, .ref 0), (2, .ref 1198), (3, .int l3)] [] (n, K, A, Lg, G) P := by
  unfold fL_law_J1140 at h
  refine j_aload_n 1 rfl dL_law_1140 ?_
  refine j_aload_n 0 rfl dL_law_1141 ?_
  refine j_iload_n 3 rfl dL_law_1142 ?_
  refine j_iconst (v := 1) dL_law_1143 (by decide) ?_
  refine j_iadd dL_law_1144 ?_
  obtain ⟨b262, h⟩ := h
  refine j_sald2 b262 dL_law_1145 ?_
  obtain ⟨tx263, h⟩ := h
  obtain ⟨httx263, h⟩ := h
  obtain ⟨hxtx263, h⟩ := h
  obtain ⟨hf, h⟩ := h
  refine j_callV (b := 0) (As := [.int (gS Γ (l3 + 1).toNatClampNeg)]) (st := []) (C := RX0) (kc' := kc) (ks' := ks) (tX0_restore hf tx263 httx263 hxtx263 (gS Γ (l3 + 1).toNatClampNeg) _ h) myX0_restore rfl q1515 q1516 q1517 (by decide) (fun s9 H9 hK9 hR9 h69 => jIs_in hK9 hR9 h69 (f_lt hf (by decide)) (fk_0 hf) rfl) rfl (Nat.le_of_ble_eq_true rfl) rfl (by decide) (Nat.le_refl _) (Nat.le_refl _) dL_law_1146 (fun v9 u9 hq => ?_) (fun k9 u9 hq => by obtain ⟨_, _, e9, _⟩ := hq; cases e9)
  obtain ⟨r264, A265, e9, rfl, h⟩ := hq
  obtain rfl := Sum.inl.inj e9
  show J Γ RL cL_law 4 (some .boolean) "law" [] 510 kc ks 1149 [(0, .ref 1000201), (1, .ref 0), (2, .ref 1198), (3, .int l3)] [.int r264] (n, K, A265, Lg, G) P
  refine j_aload_n 2 rfl dL_law_1149 ?_
  refine j_aload_n 0 rfl dL_law_1150 ?_
  refine j_iload_n 3 rfl dL_law_1151 ?_
  refine j_iconst (v := 1) dL_law_1152 (by decide) ?_
  refine j_iadd dL_law_1153 ?_
  obtain ⟨b266, h⟩ := h
  refine j_sald2 b266 dL_law_1154 ?_
  obtain ⟨hm, h⟩ := h
  refine j_callV (b := 1198) (As := [.int (gS Γ (l3 + 1).toNatClampNeg)]) (st := [.int r264]) (C := RX10) (kc' := kc) (ks' := ks) (tX10_restore hm (gS Γ (l3 + 1).toNatClampNeg) _ h) myX10_restore rfl q2150 q2151 q2152 (by decide) (fun s9 H9 hK9 hR9 h69 => jIs_in hK9 hR9 h69 (m_lt hm (by decide)) (fk_1198 hm) rfl) rfl (Nat.le_of_ble_eq_true rfl) rfl (by decide) (Nat.le_refl _) (Nat.le_refl _) dL_law_1155 (fun v9 u9 hq => ?_) (fun k9 u9 hq => by obtain ⟨_, _, e9, _⟩ := hq; cases e9)
  obtain ⟨r267, A268, e9, rfl, h⟩ := hq
  obtain rfl := Sum.inl.inj e9
  show J Γ RL cL_law 4 (some .boolean) "law" [] 510 kc ks 1158 [(0, .ref 1000201), (1, .ref 0), (2, .ref 1198), (3, .int l3)] [.int r267, .int r264] (n, K, A268, Lg, G) P
  refine j_icmp_eq (tgt := 1186) dL_law_1158 (by decide) (fun c => ?_) (fun c => ?_)
  · rw [if_pos c] at h
    exact fL_law_J1186_ok  Q P hP k18 ok18 l3 n K A268 Lg G kc ks h
  · rw [if_neg c] at h
    refine j_iconst (v := 0) dL_law_1161 (by decide) ?_
    refine j_zret rfl (by decide) ?_ dL_law_1162
    rw [hP]
    exact ⟨0, n, K, A268, Lg, G, rfl, rfl, h⟩
def fL_law_J1163 (Γ : jG) (k18 : Int32 → Nat → (Nat → pKd) → pA → pL → pG → Nat → Nat → Prop) (Q : Int32 → Nat → (Nat → pKd) → pA → pL → pG → Prop) (l3 : Int32) (n : Nat) (K : Nat → pKd) (A : pA) (Lg : pL) (G : pG) (kc : Nat) (ks : Nat) : Prop :=
    (vp_in (l3 + 1) (gN Γ)) ∧ (∃ tx270 : Nat, (G 0 3 = .ref tx270) ∧ ((xOK n K G tx270) ∧ ((fOK n K G) ∧ (fX0_count tx270 A (gS Γ (l3 + 1).toNatClampNeg) (fun r271 => (vp_in (l3 + 1) (gN Γ)) ∧ ((mOK n K G) ∧ (fX10_count A (gS Γ (l3 + 1).toNatClampNeg) (fun r273 A274 => (if r271 = r273 then fL_law_J1186 Γ k18 Q l3 n K A274 Lg G kc ks else Q 0 n K A274 Lg G)))))))))
theorem fL_law_J1163_ok {Γ : jG} (Q : Int32 → Nat → (Nat → pKd) → pA → pL → pG → Prop) (P : jO → pS → Prop) (hP : P = (fun o u => ∃ (r : Int32) (n' : Nat) (K' : Nat → pKd) (A' : pA) (Lg' : pL) (G' : pG), o = .inl (some (.int r)) ∧ u = (n', K', A', Lg', G') ∧ Q r n' K' A' Lg' G')) (k18 : Int32 → Nat → (Nat → pKd) → pA → pL → pG → Nat → Nat → Prop) (ok18 : ∀ (l3 : Int32) (n : Nat) (K : Nat → pKd) (A : pA) (Lg : pL) (G : pG) (kc : Nat) (ks : Nat), k18 l3 n K A Lg G kc ks → J Γ RL cL_law 4 (some .boolean) "law" [] 510 kc ks 18 [(0, .ref 1000201), (1, .ref 0), (2, .ref 1198), (3, .int l3)] [] (n, K, A, Lg, G) P) (l3 : Int32) (n : Nat) (K : Nat → pKd) (A : pA) (Lg : pL) (G : pG) (kc : Nat) (ks : Nat) (h : fL_law_J1163 Γ k18 Q l3 n K A Lg G kc ks) : J Γ RL cL_law 4 (some .boolean) "law" [] 510 kc ks 1163 [(0, .ref 1000201), (1, .ref 0), (2, .ref 1198), (3, .int l3)] [] (n, K, A, Lg, G) P := by
  unfold fL_law_J1163 at h
  refine j_aload_n 1 rfl dL_law_1163 ?_
  refine j_aload_n 0 rfl dL_law_1164 ?_
  refine j_iload_n 3 rfl dL_law_1165 ?_
  refine j_iconst (v := 1) dL_law_1166 (by decide) ?_
  refine j_iadd dL_law_1167 ?_
  obtain ⟨b269, h⟩ := h
  refine j_sald2 b269 dL_law_1168 ?_
  obtain ⟨tx270, h⟩ := h
  obtain ⟨httx270, h⟩ := h
  obtain ⟨hxtx270, h⟩ := h
  obtain ⟨hf, h⟩ := h
  refine j_callV (b := 0) (As := [.int (gS Γ (l3 + 1).toNatClampNeg)]) (st := []) (C := RX0) (kc' := kc) (ks' := ks) (tX0_count hf tx270 httx270 hxtx270 (gS Γ (l3 + 1).toNatClampNeg) _ h) myX0_count rfl q1519 q1520 q1521 (by decide) (fun s9 H9 hK9 hR9 h69 => jIs_in hK9 hR9 h69 (f_lt hf (by decide)) (fk_0 hf) rfl) rfl (Nat.le_of_ble_eq_true rfl) rfl (by decide) (Nat.le_refl _) (Nat.le_refl _) dL_law_1169 (fun v9 u9 hq => ?_) (fun k9 u9 hq => by obtain ⟨_, e9, _⟩ := hq; cases e9)
  obtain ⟨r271, e9, rfl, h⟩ := hq
  obtain rfl := Sum.inl.inj e9
  show J Γ RL cL_law 4 (some .boolean) "law" [] 510 kc ks 1172 [(0, .ref 1000201), (1, .ref 0), (2, .ref 1198), (3, .int l3)] [.int r271] (n, K, A, Lg, G) P
  refine j_aload_n 2 rfl dL_law_1172 ?_
  refine j_aload_n 0 rfl dL_law_1173 ?_
  refine j_iload_n 3 rfl dL_law_1174 ?_
  refine j_iconst (v := 1) dL_law_1175 (by decide) ?_
  refine j_iadd dL_law_1176 ?_
  obtain ⟨b272, h⟩ := h
  refine j_sald2 b272 dL_law_1177 ?_
  obtain ⟨hm, h⟩ := h
  refine j_callV (b := 1198) (As := [.int (gS Γ (l3 + 1).toNatClampNeg)]) (st := [.int r271]) (C := RX10) (kc' := kc) (ks' := ks) (tX10_count hm (gS Γ (l3 + 1).toNatClampNeg) _ h) myX10_count rfl q2154 q2155 q2156 (by decide) (fun s9 H9 hK9 hR9 h69 => jIs_in hK9 hR9 h69 (m_lt hm (by decide)) (fk_1198 hm) rfl) rfl (Nat.le_of_ble_eq_true rfl) rfl (by decide) (Nat.le_refl _) (Nat.le_refl _) dL_law_1178 (fun v9 u9 hq => ?_) (fun k9 u9 hq => by obtain ⟨_, _, e9, _⟩ := hq; cases e9)
  obtain ⟨r273, A274, e9, rfl, h⟩ := hq
  obtain rfl := Sum.inl.inj e9
  show J Γ RL cL_law 4 (some .boolean) "law" [] 510 kc ks 1181 [(0, .ref 1000201), (1, .ref 0), (2, .ref 1198), (3, .int l3)] [.int r273, .int r271] (n, K, A274, Lg, G) P
  refine j_icmp_eq (tgt := 1186) dL_law_1181 (by decide) (fun c => ?_) (fun c => ?_)
  · rw [if_pos c] at h
    exact fL_law_J1186_ok  Q P hP k18 ok18 l3 n K A274 Lg G kc ks h
  · rw [if_neg c] at h
    refine j_iconst (v := 0) dL_law_1184 (by decide) ?_
    refine j_zret rfl (by decide) ?_ dL_law_1185
    rw [hP]
    exact ⟨0, n, K, A274, Lg, G, rfl, rfl, h⟩
def fL_law_L18 (Γ : jG)  (Q : Int32 → Nat → (Nat → pKd) → pA → pL → pG → Prop) : Nat → Int32 → Nat → (Nat → pKd) → pA → pL → pG → Nat → Nat → Prop
  | 0, _, _, _, _, _, _, _, _ => False
  | n9 + 1, l3, n, K, A, Lg, G, kc, ks =>
    (if ((Int32.ofNat (gN Γ)) - 6) < l3 then Q 1 n K A Lg G else (vp_in l3 (gN Γ)) ∧ ((if ((gS Γ (l3).toNatClampNeg) &&& 63) = 0 then fL_law_J192 Γ (fun x0 x1 x2 x3 x4 x5 x6 x7 => fL_law_L18 Γ  Q n9 x0 x1 x2 x3 x4 x5 x6 x7) Q l3 n K A Lg G kc ks else (if ((gS Γ (l3).toNatClampNeg) &&& 63) = 1 then fL_law_J255 Γ (fun x0 x1 x2 x3 x4 x5 x6 x7 => fL_law_L18 Γ  Q n9 x0 x1 x2 x3 x4 x5 x6 x7) Q l3 n K A Lg G kc ks else (if ((gS Γ (l3).toNatClampNeg) &&& 63) = 2 then fL_law_J278 Γ (fun x0 x1 x2 x3 x4 x5 x6 x7 => fL_law_L18 Γ  Q n9 x0 x1 x2 x3 x4 x5 x6 x7) Q l3 n K A Lg G kc ks else (if ((gS Γ (l3).toNatClampNeg) &&& 63) = 3 then fL_law_J291 Γ (fun x0 x1 x2 x3 x4 x5 x6 x7 => fL_law_L18 Γ  Q n9 x0 x1 x2 x3 x4 x5 x6 x7) Q l3 n K A Lg G kc ks else (if ((gS Γ (l3).toNatClampNeg) &&& 63) = 4 then fL_law_J304 Γ (fun x0 x1 x2 x3 x4 x5 x6 x7 => fL_law_L18 Γ  Q n9 x0 x1 x2 x3 x4 x5 x6 x7) Q l3 n K A Lg G kc ks else (if ((gS Γ (l3).toNatClampNeg) &&& 63) = 5 then fL_law_J337 Γ (fun x0 x1 x2 x3 x4 x5 x6 x7 => fL_law_L18 Γ  Q n9 x0 x1 x2 x3 x4 x5 x6 x7) Q l3 n K A Lg G kc ks else (if ((gS Γ (l3).toNatClampNeg) &&& 63) = 6 then fL_law_J370 Γ (fun x0 x1 x2 x3 x4 x5 x6 x7 => fL_law_L18 Γ  Q n9 x0 x1 x2 x3 x4 x5 x6 x7) Q l3 n K A Lg G kc ks else (if ((gS Γ (l3).toNatClampNeg) &&& 63) = 7 then fL_law_J403 Γ (fun x0 x1 x2 x3 x4 x5 x6 x7 => fL_law_L18 Γ  Q n9 x0 x1 x2 x3 x4 x5 x6 x7) Q l3 n K A Lg G kc ks else (if ((gS Γ (l3).toNatClampNeg) &&& 63) = 8 then fL_law_J446 Γ (fun x0 x1 x2 x3 x4 x5 x6 x7 => fL_law_L18 Γ  Q n9 x0 x1 x2 x3 x4 x5 x6 x7) Q l3 n K A Lg G kc ks else (if ((gS Γ (l3).toNatClampNeg) &&& 63) = 9 then fL_law_J479 Γ (fun x0 x1 x2 x3 x4 x5 x6 x7 => fL_law_L18 Γ  Q n9 x0 x1 x2 x3 x4 x5 x6 x7) Q l3 n K A Lg G kc ks else (if ((gS Γ (l3).toNatClampNeg) &&& 63) = 10 then fL_law_J522 Γ (fun x0 x1 x2 x3 x4 x5 x6 x7 => fL_law_L18 Γ  Q n9 x0 x1 x2 x3 x4 x5 x6 x7) Q l3 n K A Lg G kc ks else (if ((gS Γ (l3).toNatClampNeg) &&& 63) = 11 then fL_law_J555 Γ (fun x0 x1 x2 x3 x4 x5 x6 x7 => fL_law_L18 Γ  Q n9 x0 x1 x2 x3 x4 x5 x6 x7) Q l3 n K A Lg G kc ks else (if ((gS Γ (l3).toNatClampNeg) &&& 63) = 12 then fL_law_J578 Γ (fun x0 x1 x2 x3 x4 x5 x6 x7 => fL_law_L18 Γ  Q n9 x0 x1 x2 x3 x4 x5 x6 x7) Q l3 n K A Lg G kc ks else (if ((gS Γ (l3).toNatClampNeg) &&& 63) = 13 then fL_law_J591 Γ (fun x0 x1 x2 x3 x4 x5 x6 x7 => fL_law_L18 Γ  Q n9 x0 x1 x2 x3 x4 x5 x6 x7) Q l3 n K A Lg G kc ks else (if ((gS Γ (l3).toNatClampNeg) &&& 63) = 14 then fL_law_J624 Γ (fun x0 x1 x2 x3 x4 x5 x6 x7 => fL_law_L18 Γ  Q n9 x0 x1 x2 x3 x4 x5 x6 x7) Q l3 n K A Lg G kc ks else (if ((gS Γ (l3).toNatClampNeg) &&& 63) = 15 then fL_law_J637 Γ (fun x0 x1 x2 x3 x4 x5 x6 x7 => fL_law_L18 Γ  Q n9 x0 x1 x2 x3 x4 x5 x6 x7) Q l3 n K A Lg G kc ks else (if ((gS Γ (l3).toNatClampNeg) &&& 63) = 16 then fL_law_J670 Γ (fun x0 x1 x2 x3 x4 x5 x6 x7 => fL_law_L18 Γ  Q n9 x0 x1 x2 x3 x4 x5 x6 x7) Q l3 n K A Lg G kc ks else (if ((gS Γ (l3).toNatClampNeg) &&& 63) = 17 then fL_law_J693 Γ (fun x0 x1 x2 x3 x4 x5 x6 x7 => fL_law_L18 Γ  Q n9 x0 x1 x2 x3 x4 x5 x6 x7) Q l3 n K A Lg G kc ks else (if ((gS Γ (l3).toNatClampNeg) &&& 63) = 18 then fL_law_J716 Γ (fun x0 x1 x2 x3 x4 x5 x6 x7 => fL_law_L18 Γ  Q n9 x0 x1 x2 x3 x4 x5 x6 x7) Q l3 n K A Lg G kc ks else (if ((gS Γ (l3).toNatClampNeg) &&& 63) = 19 then fL_law_J739 Γ (fun x0 x1 x2 x3 x4 x5 x6 x7 => fL_law_L18 Γ  Q n9 x0 x1 x2 x3 x4 x5 x6 x7) Q l3 n K A Lg G kc ks else (if ((gS Γ (l3).toNatClampNeg) &&& 63) = 20 then fL_law_J772 Γ (fun x0 x1 x2 x3 x4 x5 x6 x7 => fL_law_L18 Γ  Q n9 x0 x1 x2 x3 x4 x5 x6 x7) Q l3 n K A Lg G kc ks else (if ((gS Γ (l3).toNatClampNeg) &&& 63) = 21 then fL_law_J795 Γ (fun x0 x1 x2 x3 x4 x5 x6 x7 => fL_law_L18 Γ  Q n9 x0 x1 x2 x3 x4 x5 x6 x7) Q l3 n K A Lg G kc ks else (if ((gS Γ (l3).toNatClampNeg) &&& 63) = 22 then fL_law_J808 Γ (fun x0 x1 x2 x3 x4 x5 x6 x7 => fL_law_L18 Γ  Q n9 x0 x1 x2 x3 x4 x5 x6 x7) Q l3 n K A Lg G kc ks else (if ((gS Γ (l3).toNatClampNeg) &&& 63) = 23 then fL_law_J831 Γ (fun x0 x1 x2 x3 x4 x5 x6 x7 => fL_law_L18 Γ  Q n9 x0 x1 x2 x3 x4 x5 x6 x7) Q l3 n K A Lg G kc ks else (if ((gS Γ (l3).toNatClampNeg) &&& 63) = 24 then fL_law_J864 Γ (fun x0 x1 x2 x3 x4 x5 x6 x7 => fL_law_L18 Γ  Q n9 x0 x1 x2 x3 x4 x5 x6 x7) Q l3 n K A Lg G kc ks else (if ((gS Γ (l3).toNatClampNeg) &&& 63) = 25 then fL_law_J887 Γ (fun x0 x1 x2 x3 x4 x5 x6 x7 => fL_law_L18 Γ  Q n9 x0 x1 x2 x3 x4 x5 x6 x7) Q l3 n K A Lg G kc ks else (if ((gS Γ (l3).toNatClampNeg) &&& 63) = 26 then fL_law_J930 Γ (fun x0 x1 x2 x3 x4 x5 x6 x7 => fL_law_L18 Γ  Q n9 x0 x1 x2 x3 x4 x5 x6 x7) Q l3 n K A Lg G kc ks else (if ((gS Γ (l3).toNatClampNeg) &&& 63) = 27 then fL_law_J963 Γ (fun x0 x1 x2 x3 x4 x5 x6 x7 => fL_law_L18 Γ  Q n9 x0 x1 x2 x3 x4 x5 x6 x7) Q l3 n K A Lg G kc ks else (if ((gS Γ (l3).toNatClampNeg) &&& 63) = 28 then fL_law_J986 Γ (fun x0 x1 x2 x3 x4 x5 x6 x7 => fL_law_L18 Γ  Q n9 x0 x1 x2 x3 x4 x5 x6 x7) Q l3 n K A Lg G kc ks else (if ((gS Γ (l3).toNatClampNeg) &&& 63) = 29 then fL_law_J1035 Γ (fun x0 x1 x2 x3 x4 x5 x6 x7 => fL_law_L18 Γ  Q n9 x0 x1 x2 x3 x4 x5 x6 x7) Q l3 n K A Lg G kc ks else (if ((gS Γ (l3).toNatClampNeg) &&& 63) = 30 then fL_law_J1048 Γ (fun x0 x1 x2 x3 x4 x5 x6 x7 => fL_law_L18 Γ  Q n9 x0 x1 x2 x3 x4 x5 x6 x7) Q l3 n K A Lg G kc ks else (if ((gS Γ (l3).toNatClampNeg) &&& 63) = 31 then fL_law_J1071 Γ (fun x0 x1 x2 x3 x4 x5 x6 x7 => fL_law_L18 Γ  Q n9 x0 x1 x2 x3 x4 x5 x6 x7) Q l3 n K A Lg G kc ks else (if ((gS Γ (l3).toNatClampNeg) &&& 63) = 32 then fL_law_J1094 Γ (fun x0 x1 x2 x3 x4 x5 x6 x7 => fL_law_L18 Γ  Q n9 x0 x1 x2 x3 x4 x5 x6 x7) Q l3 n K A Lg G kc ks else (if ((gS Γ (l3).toNatClampNeg) &&& 63) = 33 then fL_law_J1117 Γ (fun x0 x1 x2 x3 x4 x5 x6 x7 => fL_law_L18 Γ  Q n9 x0 x1 x2 x3 x4 x5 x6 x7) Q l3 n K A Lg G kc ks else (if ((gS Γ (l3).toNatClampNeg) &&& 63) = 34 then fL_law_J1140 Γ (fun x0 x1 x2 x3 x4 x5 x6 x7 => fL_law_L18 Γ  Q n9 x0 x1 x2 x3 x4 x5 x6 x7) Q l3 n K A Lg G kc ks else (if ((gS Γ (l3).toNatClampNeg) &&& 63) = 35 then fL_law_J1163 Γ (fun x0 x1 x2 x3 x4 x5 x6 x7 => fL_law_L18 Γ  Q n9 x0 x1 x2 x3 x4 x5 x6 x7) Q l3 n K A Lg G kc ks else (fL_law_J1186 Γ (fun x0 x1 x2 x3 x4 x5 x6 x7 => fL_law_L18 Γ  Q n9 x0 x1 x2 x3 x4 x5 x6 x7) Q l3 n K A Lg G kc ks)))))))))))))))))))))))))))))))))))))))
theorem fL_law_L18_ok {Γ : jG} (Q : Int32 → Nat → (Nat → pKd) → pA → pL → pG → Prop) (P : jO → pS → Prop) (hP : P = (fun o u => ∃ (r : Int32) (n' : Nat) (K' : Nat → pKd) (A' : pA) (Lg' : pL) (G' : pG), o = .inl (some (.int r)) ∧ u = (n', K', A', Lg', G') ∧ Q r n' K' A' Lg' G'))    : ∀ (n9 : Nat) (l3 : Int32) (n : Nat) (K : Nat → pKd) (A : pA) (Lg : pL) (G : pG) (kc : Nat) (ks : Nat), fL_law_L18 Γ  Q n9 l3 n K A Lg G kc ks → J Γ RL cL_law 4 (some .boolean) "law" [] 510 kc ks 18 [(0, .ref 1000201), (1, .ref 0), (2, .ref 1198), (3, .int l3)] [] (n, K, A, Lg, G) P := by
  intro n9
  induction n9 with
  | zero => intro l3 n K A Lg G kc ks h; exact h.elim
  | succ n9 ih =>
    intro l3 n K A Lg G kc ks h
    unfold fL_law_L18 at h
    refine j_iload_n 3 rfl dL_law_18 ?_
    refine j_aload_n 0 rfl dL_law_19 ?_
    refine j_slen dL_law_20 ?_
    refine j_bipush (v := 6) dL_law_21 (by decide) ?_
    refine j_isub dL_law_23 ?_
    refine j_icmp_gt (tgt := 1192) dL_law_24 (by decide) (fun c => ?_) (fun c => ?_)
    · rw [if_pos c] at h
      refine j_iconst (v := 1) dL_law_1192 (by decide) ?_
      refine j_zret rfl (by decide) ?_ dL_law_1193
      rw [hP]
      exact ⟨1, n, K, A, Lg, G, rfl, rfl, h⟩
    · rw [if_neg c] at h
      refine j_aload_n 0 rfl dL_law_27 ?_
      refine j_iload_n 3 rfl dL_law_28 ?_
      obtain ⟨b275, h⟩ := h
      refine j_sald2 b275 dL_law_29 ?_
      refine j_bipush (v := 63) dL_law_30 (by decide) ?_
      refine j_iand dL_law_32 ?_
      by_cases c276 : ((gS Γ (l3).toNatClampNeg) &&& 63) = 0
      · rw [if_pos c276] at h
        have c276T : (((gS Γ (l3).toNatClampNeg) &&& 63) : Int32).toInt = 0 := by rw [c276]; rfl
        refine j_tableIn (off := 159) (tgt := 192) (by rw [c276T]; decide) (by rw [c276T]; decide) (by rw [c276T]; rfl) dL_law_33 (by decide) ?_
        exact fL_law_J192_ok  Q P hP (fun x0 x1 x2 x3 x4 x5 x6 x7 => fL_law_L18 Γ  Q n9 x0 x1 x2 x3 x4 x5 x6 x7) (fun x0 x1 x2 x3 x4 x5 x6 x7 h9 => ih x0 x1 x2 x3 x4 x5 x6 x7 h9) l3 n K A Lg G kc ks h
      rw [if_neg c276] at h
      by_cases c277 : ((gS Γ (l3).toNatClampNeg) &&& 63) = 1
      · rw [if_pos c277] at h
        have c277T : (((gS Γ (l3).toNatClampNeg) &&& 63) : Int32).toInt = 1 := by rw [c277]; rfl
        refine j_tableIn (off := 222) (tgt := 255) (by rw [c277T]; decide) (by rw [c277T]; decide) (by rw [c277T]; rfl) dL_law_33 (by decide) ?_
        exact fL_law_J255_ok  Q P hP (fun x0 x1 x2 x3 x4 x5 x6 x7 => fL_law_L18 Γ  Q n9 x0 x1 x2 x3 x4 x5 x6 x7) (fun x0 x1 x2 x3 x4 x5 x6 x7 h9 => ih x0 x1 x2 x3 x4 x5 x6 x7 h9) l3 n K A Lg G kc ks h
      rw [if_neg c277] at h
      by_cases c278 : ((gS Γ (l3).toNatClampNeg) &&& 63) = 2
      · rw [if_pos c278] at h
        have c278T : (((gS Γ (l3).toNatClampNeg) &&& 63) : Int32).toInt = 2 := by rw [c278]; rfl
        refine j_tableIn (off := 245) (tgt := 278) (by rw [c278T]; decide) (by rw [c278T]; decide) (by rw [c278T]; rfl) dL_law_33 (by decide) ?_
        exact fL_law_J278_ok  Q P hP (fun x0 x1 x2 x3 x4 x5 x6 x7 => fL_law_L18 Γ  Q n9 x0 x1 x2 x3 x4 x5 x6 x7) (fun x0 x1 x2 x3 x4 x5 x6 x7 h9 => ih x0 x1 x2 x3 x4 x5 x6 x7 h9) l3 n K A Lg G kc ks h
      rw [if_neg c278] at h
      by_cases c279 : ((gS Γ (l3).toNatClampNeg) &&& 63) = 3
      · rw [if_pos c279] at h
        have c279T : (((gS Γ (l3).toNatClampNeg) &&& 63) : Int32).toInt = 3 := by rw [c279]; rfl
        refine j_tableIn (off := 258) (tgt := 291) (by rw [c279T]; decide) (by rw [c279T]; decide) (by rw [c279T]; rfl) dL_law_33 (by decide) ?_
        exact fL_law_J291_ok  Q P hP (fun x0 x1 x2 x3 x4 x5 x6 x7 => fL_law_L18 Γ  Q n9 x0 x1 x2 x3 x4 x5 x6 x7) (fun x0 x1 x2 x3 x4 x5 x6 x7 h9 => ih x0 x1 x2 x3 x4 x5 x6 x7 h9) l3 n K A Lg G kc ks h
      rw [if_neg c279] at h
      by_cases c280 : ((gS Γ (l3).toNatClampNeg) &&& 63) = 4
      · rw [if_pos c280] at h
        have c280T : (((gS Γ (l3).toNatClampNeg) &&& 63) : Int32).toInt = 4 := by rw [c280]; rfl
        refine j_tableIn (off := 271) (tgt := 304) (by rw [c280T]; decide) (by rw [c280T]; decide) (by rw [c280T]; rfl) dL_law_33 (by decide) ?_
        exact fL_law_J304_ok  Q P hP (fun x0 x1 x2 x3 x4 x5 x6 x7 => fL_law_L18 Γ  Q n9 x0 x1 x2 x3 x4 x5 x6 x7) (fun x0 x1 x2 x3 x4 x5 x6 x7 h9 => ih x0 x1 x2 x3 x4 x5 x6 x7 h9) l3 n K A Lg G kc ks h
      rw [if_neg c280] at h
      by_cases c281 : ((gS Γ (l3).toNatClampNeg) &&& 63) = 5
      · rw [if_pos c281] at h
        have c281T : (((gS Γ (l3).toNatClampNeg) &&& 63) : Int32).toInt = 5 := by rw [c281]; rfl
        refine j_tableIn (off := 304) (tgt := 337) (by rw [c281T]; decide) (by rw [c281T]; decide) (by rw [c281T]; rfl) dL_law_33 (by decide) ?_
        exact fL_law_J337_ok  Q P hP (fun x0 x1 x2 x3 x4 x5 x6 x7 => fL_law_L18 Γ  Q n9 x0 x1 x2 x3 x4 x5 x6 x7) (fun x0 x1 x2 x3 x4 x5 x6 x7 h9 => ih x0 x1 x2 x3 x4 x5 x6 x7 h9) l3 n K A Lg G kc ks h
      rw [if_neg c281] at h
      by_cases c282 : ((gS Γ (l3).toNatClampNeg) &&& 63) = 6
      · rw [if_pos c282] at h
        have c282T : (((gS Γ (l3).toNatClampNeg) &&& 63) : Int32).toInt = 6 := by rw [c282]; rfl
        refine j_tableIn (off := 337) (tgt := 370) (by rw [c282T]; decide) (by rw [c282T]; decide) (by rw [c282T]; rfl) dL_law_33 (by decide) ?_
        exact fL_law_J370_ok  Q P hP (fun x0 x1 x2 x3 x4 x5 x6 x7 => fL_law_L18 Γ  Q n9 x0 x1 x2 x3 x4 x5 x6 x7) (fun x0 x1 x2 x3 x4 x5 x6 x7 h9 => ih x0 x1 x2 x3 x4 x5 x6 x7 h9) l3 n K A Lg G kc ks h
      rw [if_neg c282] at h
      by_cases c283 : ((gS Γ (l3).toNatClampNeg) &&& 63) = 7
      · rw [if_pos c283] at h
        have c283T : (((gS Γ (l3).toNatClampNeg) &&& 63) : Int32).toInt = 7 := by rw [c283]; rfl
        refine j_tableIn (off := 370) (tgt := 403) (by rw [c283T]; decide) (by rw [c283T]; decide) (by rw [c283T]; rfl) dL_law_33 (by decide) ?_
        exact fL_law_J403_ok  Q P hP (fun x0 x1 x2 x3 x4 x5 x6 x7 => fL_law_L18 Γ  Q n9 x0 x1 x2 x3 x4 x5 x6 x7) (fun x0 x1 x2 x3 x4 x5 x6 x7 h9 => ih x0 x1 x2 x3 x4 x5 x6 x7 h9) l3 n K A Lg G kc ks h
      rw [if_neg c283] at h
      by_cases c284 : ((gS Γ (l3).toNatClampNeg) &&& 63) = 8
      · rw [if_pos c284] at h
        have c284T : (((gS Γ (l3).toNatClampNeg) &&& 63) : Int32).toInt = 8 := by rw [c284]; rfl
        refine j_tableIn (off := 413) (tgt := 446) (by rw [c284T]; decide) (by rw [c284T]; decide) (by rw [c284T]; rfl) dL_law_33 (by decide) ?_
        exact fL_law_J446_ok  Q P hP (fun x0 x1 x2 x3 x4 x5 x6 x7 => fL_law_L18 Γ  Q n9 x0 x1 x2 x3 x4 x5 x6 x7) (fun x0 x1 x2 x3 x4 x5 x6 x7 h9 => ih x0 x1 x2 x3 x4 x5 x6 x7 h9) l3 n K A Lg G kc ks h
      rw [if_neg c284] at h
      by_cases c285 : ((gS Γ (l3).toNatClampNeg) &&& 63) = 9
      · rw [if_pos c285] at h
        have c285T : (((gS Γ (l3).toNatClampNeg) &&& 63) : Int32).toInt = 9 := by rw [c285]; rfl
        refine j_tableIn (off := 446) (tgt := 479) (by rw [c285T]; decide) (by rw [c285T]; decide) (by rw [c285T]; rfl) dL_law_33 (by decide) ?_
        exact fL_law_J479_ok  Q P hP (fun x0 x1 x2 x3 x4 x5 x6 x7 => fL_law_L18 Γ  Q n9 x0 x1 x2 x3 x4 x5 x6 x7) (fun x0 x1 x2 x3 x4 x5 x6 x7 h9 => ih x0 x1 x2 x3 x4 x5 x6 x7 h9) l3 n K A Lg G kc ks h
      rw [if_neg c285] at h
      by_cases c286 : ((gS Γ (l3).toNatClampNeg) &&& 63) = 10
      · rw [if_pos c286] at h
        have c286T : (((gS Γ (l3).toNatClampNeg) &&& 63) : Int32).toInt = 10 := by rw [c286]; rfl
        refine j_tableIn (off := 489) (tgt := 522) (by rw [c286T]; decide) (by rw [c286T]; decide) (by rw [c286T]; rfl) dL_law_33 (by decide) ?_
        exact fL_law_J522_ok  Q P hP (fun x0 x1 x2 x3 x4 x5 x6 x7 => fL_law_L18 Γ  Q n9 x0 x1 x2 x3 x4 x5 x6 x7) (fun x0 x1 x2 x3 x4 x5 x6 x7 h9 => ih x0 x1 x2 x3 x4 x5 x6 x7 h9) l3 n K A Lg G kc ks h
      rw [if_neg c286] at h
      by_cases c287 : ((gS Γ (l3).toNatClampNeg) &&& 63) = 11
      · rw [if_pos c287] at h
        have c287T : (((gS Γ (l3).toNatClampNeg) &&& 63) : Int32).toInt = 11 := by rw [c287]; rfl
        refine j_tableIn (off := 522) (tgt := 555) (by rw [c287T]; decide) (by rw [c287T]; decide) (by rw [c287T]; rfl) dL_law_33 (by decide) ?_
        exact fL_law_J555_ok  Q P hP (fun x0 x1 x2 x3 x4 x5 x6 x7 => fL_law_L18 Γ  Q n9 x0 x1 x2 x3 x4 x5 x6 x7) (fun x0 x1 x2 x3 x4 x5 x6 x7 h9 => ih x0 x1 x2 x3 x4 x5 x6 x7 h9) l3 n K A Lg G kc ks h
      rw [if_neg c287] at h
      by_cases c288 : ((gS Γ (l3).toNatClampNeg) &&& 63) = 12
      · rw [if_pos c288] at h
        have c288T : (((gS Γ (l3).toNatClampNeg) &&& 63) : Int32).toInt = 12 := by rw [c288]; rfl
        refine j_tableIn (off := 545) (tgt := 578) (by rw [c288T]; decide) (by rw [c288T]; decide) (by rw [c288T]; rfl) dL_law_33 (by decide) ?_
        exact fL_law_J578_ok  Q P hP (fun x0 x1 x2 x3 x4 x5 x6 x7 => fL_law_L18 Γ  Q n9 x0 x1 x2 x3 x4 x5 x6 x7) (fun x0 x1 x2 x3 x4 x5 x6 x7 h9 => ih x0 x1 x2 x3 x4 x5 x6 x7 h9) l3 n K A Lg G kc ks h
      rw [if_neg c288] at h
      by_cases c289 : ((gS Γ (l3).toNatClampNeg) &&& 63) = 13
      · rw [if_pos c289] at h
        have c289T : (((gS Γ (l3).toNatClampNeg) &&& 63) : Int32).toInt = 13 := by rw [c289]; rfl
        refine j_tableIn (off := 558) (tgt := 591) (by rw [c289T]; decide) (by rw [c289T]; decide) (by rw [c289T]; rfl) dL_law_33 (by decide) ?_
        exact fL_law_J591_ok  Q P hP (fun x0 x1 x2 x3 x4 x5 x6 x7 => fL_law_L18 Γ  Q n9 x0 x1 x2 x3 x4 x5 x6 x7) (fun x0 x1 x2 x3 x4 x5 x6 x7 h9 => ih x0 x1 x2 x3 x4 x5 x6 x7 h9) l3 n K A Lg G kc ks h
      rw [if_neg c289] at h
      by_cases c290 : ((gS Γ (l3).toNatClampNeg) &&& 63) = 14
      · rw [if_pos c290] at h
        have c290T : (((gS Γ (l3).toNatClampNeg) &&& 63) : Int32).toInt = 14 := by rw [c290]; rfl
        refine j_tableIn (off := 591) (tgt := 624) (by rw [c290T]; decide) (by rw [c290T]; decide) (by rw [c290T]; rfl) dL_law_33 (by decide) ?_
        exact fL_law_J624_ok  Q P hP (fun x0 x1 x2 x3 x4 x5 x6 x7 => fL_law_L18 Γ  Q n9 x0 x1 x2 x3 x4 x5 x6 x7) (fun x0 x1 x2 x3 x4 x5 x6 x7 h9 => ih x0 x1 x2 x3 x4 x5 x6 x7 h9) l3 n K A Lg G kc ks h
      rw [if_neg c290] at h
      by_cases c291 : ((gS Γ (l3).toNatClampNeg) &&& 63) = 15
      · rw [if_pos c291] at h
        have c291T : (((gS Γ (l3).toNatClampNeg) &&& 63) : Int32).toInt = 15 := by rw [c291]; rfl
        refine j_tableIn (off := 604) (tgt := 637) (by rw [c291T]; decide) (by rw [c291T]; decide) (by rw [c291T]; rfl) dL_law_33 (by decide) ?_
        exact fL_law_J637_ok  Q P hP (fun x0 x1 x2 x3 x4 x5 x6 x7 => fL_law_L18 Γ  Q n9 x0 x1 x2 x3 x4 x5 x6 x7) (fun x0 x1 x2 x3 x4 x5 x6 x7 h9 => ih x0 x1 x2 x3 x4 x5 x6 x7 h9) l3 n K A Lg G kc ks h
      rw [if_neg c291] at h
      by_cases c292 : ((gS Γ (l3).toNatClampNeg) &&& 63) = 16
      · rw [if_pos c292] at h
        have c292T : (((gS Γ (l3).toNatClampNeg) &&& 63) : Int32).toInt = 16 := by rw [c292]; rfl
        refine j_tableIn (off := 637) (tgt := 670) (by rw [c292T]; decide) (by rw [c292T]; decide) (by rw [c292T]; rfl) dL_law_33 (by decide) ?_
        exact fL_law_J670_ok  Q P hP (fun x0 x1 x2 x3 x4 x5 x6 x7 => fL_law_L18 Γ  Q n9 x0 x1 x2 x3 x4 x5 x6 x7) (fun x0 x1 x2 x3 x4 x5 x6 x7 h9 => ih x0 x1 x2 x3 x4 x5 x6 x7 h9) l3 n K A Lg G kc ks h
      rw [if_neg c292] at h
      by_cases c293 : ((gS Γ (l3).toNatClampNeg) &&& 63) = 17
      · rw [if_pos c293] at h
        have c293T : (((gS Γ (l3).toNatClampNeg) &&& 63) : Int32).toInt = 17 := by rw [c293]; rfl
        refine j_tableIn (off := 660) (tgt := 693) (by rw [c293T]; decide) (by rw [c293T]; decide) (by rw [c293T]; rfl) dL_law_33 (by decide) ?_
        exact fL_law_J693_ok  Q P hP (fun x0 x1 x2 x3 x4 x5 x6 x7 => fL_law_L18 Γ  Q n9 x0 x1 x2 x3 x4 x5 x6 x7) (fun x0 x1 x2 x3 x4 x5 x6 x7 h9 => ih x0 x1 x2 x3 x4 x5 x6 x7 h9) l3 n K A Lg G kc ks h
      rw [if_neg c293] at h
      by_cases c294 : ((gS Γ (l3).toNatClampNeg) &&& 63) = 18
      · rw [if_pos c294] at h
        have c294T : (((gS Γ (l3).toNatClampNeg) &&& 63) : Int32).toInt = 18 := by rw [c294]; rfl
        refine j_tableIn (off := 683) (tgt := 716) (by rw [c294T]; decide) (by rw [c294T]; decide) (by rw [c294T]; rfl) dL_law_33 (by decide) ?_
        exact fL_law_J716_ok  Q P hP (fun x0 x1 x2 x3 x4 x5 x6 x7 => fL_law_L18 Γ  Q n9 x0 x1 x2 x3 x4 x5 x6 x7) (fun x0 x1 x2 x3 x4 x5 x6 x7 h9 => ih x0 x1 x2 x3 x4 x5 x6 x7 h9) l3 n K A Lg G kc ks h
      rw [if_neg c294] at h
      by_cases c295 : ((gS Γ (l3).toNatClampNeg) &&& 63) = 19
      · rw [if_pos c295] at h
        have c295T : (((gS Γ (l3).toNatClampNeg) &&& 63) : Int32).toInt = 19 := by rw [c295]; rfl
        refine j_tableIn (off := 706) (tgt := 739) (by rw [c295T]; decide) (by rw [c295T]; decide) (by rw [c295T]; rfl) dL_law_33 (by decide) ?_
        exact fL_law_J739_ok  Q P hP (fun x0 x1 x2 x3 x4 x5 x6 x7 => fL_law_L18 Γ  Q n9 x0 x1 x2 x3 x4 x5 x6 x7) (fun x0 x1 x2 x3 x4 x5 x6 x7 h9 => ih x0 x1 x2 x3 x4 x5 x6 x7 h9) l3 n K A Lg G kc ks h
      rw [if_neg c295] at h
      by_cases c296 : ((gS Γ (l3).toNatClampNeg) &&& 63) = 20
      · rw [if_pos c296] at h
        have c296T : (((gS Γ (l3).toNatClampNeg) &&& 63) : Int32).toInt = 20 := by rw [c296]; rfl
        refine j_tableIn (off := 739) (tgt := 772) (by rw [c296T]; decide) (by rw [c296T]; decide) (by rw [c296T]; rfl) dL_law_33 (by decide) ?_
        exact fL_law_J772_ok  Q P hP (fun x0 x1 x2 x3 x4 x5 x6 x7 => fL_law_L18 Γ  Q n9 x0 x1 x2 x3 x4 x5 x6 x7) (fun x0 x1 x2 x3 x4 x5 x6 x7 h9 => ih x0 x1 x2 x3 x4 x5 x6 x7 h9) l3 n K A Lg G kc ks h
      rw [if_neg c296] at h
      by_cases c297 : ((gS Γ (l3).toNatClampNeg) &&& 63) = 21
      · rw [if_pos c297] at h
        have c297T : (((gS Γ (l3).toNatClampNeg) &&& 63) : Int32).toInt = 21 := by rw [c297]; rfl
        refine j_tableIn (off := 762) (tgt := 795) (by rw [c297T]; decide) (by rw [c297T]; decide) (by rw [c297T]; rfl) dL_law_33 (by decide) ?_
        exact fL_law_J795_ok  Q P hP (fun x0 x1 x2 x3 x4 x5 x6 x7 => fL_law_L18 Γ  Q n9 x0 x1 x2 x3 x4 x5 x6 x7) (fun x0 x1 x2 x3 x4 x5 x6 x7 h9 => ih x0 x1 x2 x3 x4 x5 x6 x7 h9) l3 n K A Lg G kc ks h
      rw [if_neg c297] at h
      by_cases c298 : ((gS Γ (l3).toNatClampNeg) &&& 63) = 22
      · rw [if_pos c298] at h
        have c298T : (((gS Γ (l3).toNatClampNeg) &&& 63) : Int32).toInt = 22 := by rw [c298]; rfl
        refine j_tableIn (off := 775) (tgt := 808) (by rw [c298T]; decide) (by rw [c298T]; decide) (by rw [c298T]; rfl) dL_law_33 (by decide) ?_
        exact fL_law_J808_ok  Q P hP (fun x0 x1 x2 x3 x4 x5 x6 x7 => fL_law_L18 Γ  Q n9 x0 x1 x2 x3 x4 x5 x6 x7) (fun x0 x1 x2 x3 x4 x5 x6 x7 h9 => ih x0 x1 x2 x3 x4 x5 x6 x7 h9) l3 n K A Lg G kc ks h
      rw [if_neg c298] at h
      by_cases c299 : ((gS Γ (l3).toNatClampNeg) &&& 63) = 23
      · rw [if_pos c299] at h
        have c299T : (((gS Γ (l3).toNatClampNeg) &&& 63) : Int32).toInt = 23 := by rw [c299]; rfl
        refine j_tableIn (off := 798) (tgt := 831) (by rw [c299T]; decide) (by rw [c299T]; decide) (by rw [c299T]; rfl) dL_law_33 (by decide) ?_
        exact fL_law_J831_ok  Q P hP (fun x0 x1 x2 x3 x4 x5 x6 x7 => fL_law_L18 Γ  Q n9 x0 x1 x2 x3 x4 x5 x6 x7) (fun x0 x1 x2 x3 x4 x5 x6 x7 h9 => ih x0 x1 x2 x3 x4 x5 x6 x7 h9) l3 n K A Lg G kc ks h
      rw [if_neg c299] at h
      by_cases c300 : ((gS Γ (l3).toNatClampNeg) &&& 63) = 24
      · rw [if_pos c300] at h
        have c300T : (((gS Γ (l3).toNatClampNeg) &&& 63) : Int32).toInt = 24 := by rw [c300]; rfl
        refine j_tableIn (off := 831) (tgt := 864) (by rw [c300T]; decide) (by rw [c300T]; decide) (by rw [c300T]; rfl) dL_law_33 (by decide) ?_
        exact fL_law_J864_ok  Q P hP (fun x0 x1 x2 x3 x4 x5 x6 x7 => fL_law_L18 Γ  Q n9 x0 x1 x2 x3 x4 x5 x6 x7) (fun x0 x1 x2 x3 x4 x5 x6 x7 h9 => ih x0 x1 x2 x3 x4 x5 x6 x7 h9) l3 n K A Lg G kc ks h
      rw [if_neg c300] at h
      by_cases c301 : ((gS Γ (l3).toNatClampNeg) &&& 63) = 25
      · rw [if_pos c301] at h
        have c301T : (((gS Γ (l3).toNatClampNeg) &&& 63) : Int32).toInt = 25 := by rw [c301]; rfl
        refine j_tableIn (off := 854) (tgt := 887) (by rw [c301T]; decide) (by rw [c301T]; decide) (by rw [c301T]; rfl) dL_law_33 (by decide) ?_
        exact fL_law_J887_ok  Q P hP (fun x0 x1 x2 x3 x4 x5 x6 x7 => fL_law_L18 Γ  Q n9 x0 x1 x2 x3 x4 x5 x6 x7) (fun x0 x1 x2 x3 x4 x5 x6 x7 h9 => ih x0 x1 x2 x3 x4 x5 x6 x7 h9) l3 n K A Lg G kc ks h
      rw [if_neg c301] at h
      by_cases c302 : ((gS Γ (l3).toNatClampNeg) &&& 63) = 26
      · rw [if_pos c302] at h
        have c302T : (((gS Γ (l3).toNatClampNeg) &&& 63) : Int32).toInt = 26 := by rw [c302]; rfl
        refine j_tableIn (off := 897) (tgt := 930) (by rw [c302T]; decide) (by rw [c302T]; decide) (by rw [c302T]; rfl) dL_law_33 (by decide) ?_
        exact fL_law_J930_ok  Q P hP (fun x0 x1 x2 x3 x4 x5 x6 x7 => fL_law_L18 Γ  Q n9 x0 x1 x2 x3 x4 x5 x6 x7) (fun x0 x1 x2 x3 x4 x5 x6 x7 h9 => ih x0 x1 x2 x3 x4 x5 x6 x7 h9) l3 n K A Lg G kc ks h
      rw [if_neg c302] at h
      by_cases c303 : ((gS Γ (l3).toNatClampNeg) &&& 63) = 27
      · rw [if_pos c303] at h
        have c303T : (((gS Γ (l3).toNatClampNeg) &&& 63) : Int32).toInt = 27 := by rw [c303]; rfl
        refine j_tableIn (off := 930) (tgt := 963) (by rw [c303T]; decide) (by rw [c303T]; decide) (by rw [c303T]; rfl) dL_law_33 (by decide) ?_
        exact fL_law_J963_ok  Q P hP (fun x0 x1 x2 x3 x4 x5 x6 x7 => fL_law_L18 Γ  Q n9 x0 x1 x2 x3 x4 x5 x6 x7) (fun x0 x1 x2 x3 x4 x5 x6 x7 h9 => ih x0 x1 x2 x3 x4 x5 x6 x7 h9) l3 n K A Lg G kc ks h
      rw [if_neg c303] at h
      by_cases c304 : ((gS Γ (l3).toNatClampNeg) &&& 63) = 28
      · rw [if_pos c304] at h
        have c304T : (((gS Γ (l3).toNatClampNeg) &&& 63) : Int32).toInt = 28 := by rw [c304]; rfl
        refine j_tableIn (off := 953) (tgt := 986) (by rw [c304T]; decide) (by rw [c304T]; decide) (by rw [c304T]; rfl) dL_law_33 (by decide) ?_
        exact fL_law_J986_ok  Q P hP (fun x0 x1 x2 x3 x4 x5 x6 x7 => fL_law_L18 Γ  Q n9 x0 x1 x2 x3 x4 x5 x6 x7) (fun x0 x1 x2 x3 x4 x5 x6 x7 h9 => ih x0 x1 x2 x3 x4 x5 x6 x7 h9) l3 n K A Lg G kc ks h
      rw [if_neg c304] at h
      by_cases c305 : ((gS Γ (l3).toNatClampNeg) &&& 63) = 29
      · rw [if_pos c305] at h
        have c305T : (((gS Γ (l3).toNatClampNeg) &&& 63) : Int32).toInt = 29 := by rw [c305]; rfl
        refine j_tableIn (off := 1002) (tgt := 1035) (by rw [c305T]; decide) (by rw [c305T]; decide) (by rw [c305T]; rfl) dL_law_33 (by decide) ?_
        exact fL_law_J1035_ok  Q P hP (fun x0 x1 x2 x3 x4 x5 x6 x7 => fL_law_L18 Γ  Q n9 x0 x1 x2 x3 x4 x5 x6 x7) (fun x0 x1 x2 x3 x4 x5 x6 x7 h9 => ih x0 x1 x2 x3 x4 x5 x6 x7 h9) l3 n K A Lg G kc ks h
      rw [if_neg c305] at h
      by_cases c306 : ((gS Γ (l3).toNatClampNeg) &&& 63) = 30
      · rw [if_pos c306] at h
        have c306T : (((gS Γ (l3).toNatClampNeg) &&& 63) : Int32).toInt = 30 := by rw [c306]; rfl
        refine j_tableIn (off := 1015) (tgt := 1048) (by rw [c306T]; decide) (by rw [c306T]; decide) (by rw [c306T]; rfl) dL_law_33 (by decide) ?_
        exact fL_law_J1048_ok  Q P hP (fun x0 x1 x2 x3 x4 x5 x6 x7 => fL_law_L18 Γ  Q n9 x0 x1 x2 x3 x4 x5 x6 x7) (fun x0 x1 x2 x3 x4 x5 x6 x7 h9 => ih x0 x1 x2 x3 x4 x5 x6 x7 h9) l3 n K A Lg G kc ks h
      rw [if_neg c306] at h
      by_cases c307 : ((gS Γ (l3).toNatClampNeg) &&& 63) = 31
      · rw [if_pos c307] at h
        have c307T : (((gS Γ (l3).toNatClampNeg) &&& 63) : Int32).toInt = 31 := by rw [c307]; rfl
        refine j_tableIn (off := 1038) (tgt := 1071) (by rw [c307T]; decide) (by rw [c307T]; decide) (by rw [c307T]; rfl) dL_law_33 (by decide) ?_
        exact fL_law_J1071_ok  Q P hP (fun x0 x1 x2 x3 x4 x5 x6 x7 => fL_law_L18 Γ  Q n9 x0 x1 x2 x3 x4 x5 x6 x7) (fun x0 x1 x2 x3 x4 x5 x6 x7 h9 => ih x0 x1 x2 x3 x4 x5 x6 x7 h9) l3 n K A Lg G kc ks h
      rw [if_neg c307] at h
      by_cases c308 : ((gS Γ (l3).toNatClampNeg) &&& 63) = 32
      · rw [if_pos c308] at h
        have c308T : (((gS Γ (l3).toNatClampNeg) &&& 63) : Int32).toInt = 32 := by rw [c308]; rfl
        refine j_tableIn (off := 1061) (tgt := 1094) (by rw [c308T]; decide) (by rw [c308T]; decide) (by rw [c308T]; rfl) dL_law_33 (by decide) ?_
        exact fL_law_J1094_ok  Q P hP (fun x0 x1 x2 x3 x4 x5 x6 x7 => fL_law_L18 Γ  Q n9 x0 x1 x2 x3 x4 x5 x6 x7) (fun x0 x1 x2 x3 x4 x5 x6 x7 h9 => ih x0 x1 x2 x3 x4 x5 x6 x7 h9) l3 n K A Lg G kc ks h
      rw [if_neg c308] at h
      by_cases c309 : ((gS Γ (l3).toNatClampNeg) &&& 63) = 33
      · rw [if_pos c309] at h
        have c309T : (((gS Γ (l3).toNatClampNeg) &&& 63) : Int32).toInt = 33 := by rw [c309]; rfl
        refine j_tableIn (off := 1084) (tgt := 1117) (by rw [c309T]; decide) (by rw [c309T]; decide) (by rw [c309T]; rfl) dL_law_33 (by decide) ?_
        exact fL_law_J1117_ok  Q P hP (fun x0 x1 x2 x3 x4 x5 x6 x7 => fL_law_L18 Γ  Q n9 x0 x1 x2 x3 x4 x5 x6 x7) (fun x0 x1 x2 x3 x4 x5 x6 x7 h9 => ih x0 x1 x2 x3 x4 x5 x6 x7 h9) l3 n K A Lg G kc ks h
      rw [if_neg c309] at h
      by_cases c310 : ((gS Γ (l3).toNatClampNeg) &&& 63) = 34
      · rw [if_pos c310] at h
        have c310T : (((gS Γ (l3).toNatClampNeg) &&& 63) : Int32).toInt = 34 := by rw [c310]; rfl
        refine j_tableIn (off := 1107) (tgt := 1140) (by rw [c310T]; decide) (by rw [c310T]; decide) (by rw [c310T]; rfl) dL_law_33 (by decide) ?_
        exact fL_law_J1140_ok  Q P hP (fun x0 x1 x2 x3 x4 x5 x6 x7 => fL_law_L18 Γ  Q n9 x0 x1 x2 x3 x4 x5 x6 x7) (fun x0 x1 x2 x3 x4 x5 x6 x7 h9 => ih x0 x1 x2 x3 x4 x5 x6 x7 h9) l3 n K A Lg G kc ks h
      rw [if_neg c310] at h
      by_cases c311 : ((gS Γ (l3).toNatClampNeg) &&& 63) = 35
      · rw [if_pos c311] at h
        have c311T : (((gS Γ (l3).toNatClampNeg) &&& 63) : Int32).toInt = 35 := by rw [c311]; rfl
        refine j_tableIn (off := 1130) (tgt := 1163) (by rw [c311T]; decide) (by rw [c311T]; decide) (by rw [c311T]; rfl) dL_law_33 (by decide) ?_
        exact fL_law_J1163_ok  Q P hP (fun x0 x1 x2 x3 x4 x5 x6 x7 => fL_law_L18 Γ  Q n9 x0 x1 x2 x3 x4 x5 x6 x7) (fun x0 x1 x2 x3 x4 x5 x6 x7 h9 => ih x0 x1 x2 x3 x4 x5 x6 x7 h9) l3 n K A Lg G kc ks h
      rw [if_neg c311] at h
      refine j_tableOut (tgt := 1186) (by have c276T := lv_neT c276 (a := 0) rfl; have c277T := lv_neT c277 (a := 1) rfl; have c278T := lv_neT c278 (a := 2) rfl; have c279T := lv_neT c279 (a := 3) rfl; have c280T := lv_neT c280 (a := 4) rfl; have c281T := lv_neT c281 (a := 5) rfl; have c282T := lv_neT c282 (a := 6) rfl; have c283T := lv_neT c283 (a := 7) rfl; have c284T := lv_neT c284 (a := 8) rfl; have c285T := lv_neT c285 (a := 9) rfl; have c286T := lv_neT c286 (a := 10) rfl; have c287T := lv_neT c287 (a := 11) rfl; have c288T := lv_neT c288 (a := 12) rfl; have c289T := lv_neT c289 (a := 13) rfl; have c290T := lv_neT c290 (a := 14) rfl; have c291T := lv_neT c291 (a := 15) rfl; have c292T := lv_neT c292 (a := 16) rfl; have c293T := lv_neT c293 (a := 17) rfl; have c294T := lv_neT c294 (a := 18) rfl; have c295T := lv_neT c295 (a := 19) rfl; have c296T := lv_neT c296 (a := 20) rfl; have c297T := lv_neT c297 (a := 21) rfl; have c298T := lv_neT c298 (a := 22) rfl; have c299T := lv_neT c299 (a := 23) rfl; have c300T := lv_neT c300 (a := 24) rfl; have c301T := lv_neT c301 (a := 25) rfl; have c302T := lv_neT c302 (a := 26) rfl; have c303T := lv_neT c303 (a := 27) rfl; have c304T := lv_neT c304 (a := 28) rfl; have c305T := lv_neT c305 (a := 29) rfl; have c306T := lv_neT c306 (a := 30) rfl; have c307T := lv_neT c307 (a := 31) rfl; have c308T := lv_neT c308 (a := 32) rfl; have c309T := lv_neT c309 (a := 33) rfl; have c310T := lv_neT c310 (a := 34) rfl; have c311T := lv_neT c311 (a := 35) rfl; omega) dL_law_33 (by decide) ?_
      exact fL_law_J1186_ok  Q P hP (fun x0 x1 x2 x3 x4 x5 x6 x7 => fL_law_L18 Γ  Q n9 x0 x1 x2 x3 x4 x5 x6 x7) (fun x0 x1 x2 x3 x4 x5 x6 x7 h9 => ih x0 x1 x2 x3 x4 x5 x6 x7 h9) l3 n K A Lg G kc ks h
def fL_law (Γ : jG) (K : Nat → pKd) (A : pA) (Lg : pL) (G : pG) (kc : Nat) (ks : Nat) (Q : Int32 → Nat → (Nat → pKd) → pA → pL → pG → Prop) : Prop :=
    (1 ≤ kc) ∧ ((18 ≤ ks) ∧ (∀ (K312 : Nat → pKd) (A313 : pA) (L314 : pL) (G315 : pG), K312 = pkup K 0 (.inl 0) → A313 = prow A 0 (fun _ => 0) → L314 = prow Lg 0 (fun _ => 0) → G315 = prow G 0 (fun _ => .null) → ∃ kY320 sY321 : Nat, kY320 ≤ kc - 1 ∧ sY321 ≤ ks - 18 ∧ (fX0_init 0 (0 + 1) K312 A313 L314 G315 kY320 sY321 (fun n322 K323 A324 Lg325 G326 => n322 = 1198 ∧ ((1 ≤ kc - 1 - kY320) ∧ ((67 ≤ ks - 18 - sY321) ∧ (∀ (K327 : Nat → pKd) (A328 : pA) (L329 : pL) (G330 : pG), K327 = pkup K323 1198 (.inl 9) → A328 = prow A324 1198 (fun _ => 0) → L329 = prow Lg325 1198 (fun _ => 0) → G330 = prow G326 1198 (fun _ => .null) → ∃ kY335 sY336 : Nat, kY335 ≤ kc - 1 - kY320 - 1 ∧ sY336 ≤ ks - 18 - sY321 - 67 ∧ (fX10_init (1198 + 1) K327 A328 L329 G330 kY335 sY336 (fun n337 K338 A339 Lg340 G341 => ∃ m342, fL_law_L18 Γ  Q m342 0 n337 K338 A339 Lg340 G341 (kc - 1 - kY320 - 1 - kY335) (ks - 18 - sY321 - 67 - sY336))))))))))
theorem jL_law {Γ : jG} {K : Nat → pKd} {G : pG} {A : pA} {Lg : pL} {kc ks : Nat} (Q : Int32 → Nat → (Nat → pKd) → pA → pL → pG → Prop) (P : jO → pS → Prop) (hP : P = (fun o u => ∃ (r : Int32) (n' : Nat) (K' : Nat → pKd) (A' : pA) (Lg' : pL) (G' : pG), o = .inl (some (.int r)) ∧ u = (n', K', A', Lg', G') ∧ Q r n' K' A' Lg' G')) (h : fL_law Γ K A Lg G kc ks Q) : J Γ RL cL_law 4 (some .boolean) "law" [] 510 kc ks 0 [(0, .ref 1000201)] [] (0, K, A, Lg, G) P := by
  unfold fL_law at h
  obtain ⟨b316, h⟩ := h
  obtain ⟨b317, h⟩ := h
  refine j_newE cn_L_7 b316 b317 dL_law_0 (fun K312 A313 L314 G315 eK312 eA313 eL314 eG315 => ?_)
  replace h := h K312 A313 L314 G315 eK312 eA313 eL314 eG315
  have b318 : 0 < (0 + 1) := (by omega)
  have b319 : K312 0 = .inl 0 := (by rw [eK312]; exact pkup_self)
  refine j_dup rfl dL_law_3 ?_
  obtain ⟨kY320, sY321, kY320h, sY321h, h⟩ := h
  refine j_callI (b := 0) (As := []) (st := [.ref 0]) (kc' := kc - 1 - kY320) (ks' := ks - 18 - sY321) (tX0_init  0 _ h) myX0_init rfl q161 q162 (by decide) rfl (Nat.le_of_ble_eq_true rfl) rfl (by decide) (by omega) (by omega) dL_law_4 (fun v9 u9 hq => ?_) (fun k9 u9 hq => by obtain ⟨_, _, _, _, _, e9, _⟩ := hq; cases e9)
  obtain ⟨n322, K323, A324, Lg325, G326, e9, rfl, h⟩ := hq
  obtain rfl := Sum.inl.inj e9
  obtain ⟨e9, h⟩ := h
  subst e9
  show J Γ RL cL_law 4 (some .boolean) "law" [] 510 (kc - 1 - kY320) (ks - 18 - sY321) 7 [(0, .ref 1000201)] [.ref 0] (1198, K323, A324, Lg325, G326) P
  refine j_astore_n (by decide) rfl dL_law_7 ?_
  obtain ⟨b331, h⟩ := h
  obtain ⟨b332, h⟩ := h
  refine j_newE cn_L_10 b331 b332 dL_law_8 (fun K327 A328 L329 G330 eK327 eA328 eL329 eG330 => ?_)
  replace h := h K327 A328 L329 G330 eK327 eA328 eL329 eG330
  have b333 : 1198 < (1198 + 1) := (by omega)
  have b334 : K327 1198 = .inl 9 := (by rw [eK327]; exact pkup_self)
  refine j_dup rfl dL_law_11 ?_
  obtain ⟨kY335, sY336, kY335h, sY336h, h⟩ := h
  refine j_callI (b := 1198) (As := []) (st := [.ref 1198]) (kc' := kc - 1 - kY320 - 1 - kY335) (ks' := ks - 18 - sY321 - 67 - sY336) (tX10_init   _ h) myX10_init rfl q1525 q1526 (by decide) rfl (Nat.le_of_ble_eq_true rfl) rfl (by decide) (by omega) (by omega) dL_law_12 (fun v9 u9 hq => ?_) (fun k9 u9 hq => by obtain ⟨_, _, _, _, _, e9, _⟩ := hq; cases e9)
  obtain ⟨n337, K338, A339, Lg340, G341, e9, rfl, h⟩ := hq
  obtain rfl := Sum.inl.inj e9
  show J Γ RL cL_law 4 (some .boolean) "law" [] 510 (kc - 1 - kY320 - 1 - kY335) (ks - 18 - sY321 - 67 - sY336) 15 [(1, .ref 0), (0, .ref 1000201)] [.ref 1198] (n337, K338, A339, Lg340, G341) P
  refine j_astore_n (by decide) rfl dL_law_15 ?_
  refine j_iconst (v := 0) dL_law_16 (by decide) ?_
  refine j_istore_n (by decide) rfl dL_law_17 ?_
  refine j_ls [3, 2, 1, 0] rfl ?_
  obtain ⟨m342, h⟩ := h
  exact fL_law_L18_ok  Q P hP   m342 0 n337 K338 A339 Lg340 G341 (kc - 1 - kY320 - 1 - kY335) (ks - 18 - sY321 - 67 - sY336) h
