set_option maxRecDepth 100000
set_option maxHeartbeats 4000000
theorem myX10_roundOf : jY yX10_roundOf cX10_roundOf 7 (some .int) 1 := ⟨q2054, q139, by decide +kernel, by decide +kernel, by decide⟩
def fX10_roundOf_J32  (k4 : Int32 → Int32 → Int32 → pA → Prop) (Q : Int32 → pA → Prop) (l1 : Int32) (l2 : Int32) (l3 : Int32) (A : pA) : Prop :=
    k4 l1 l2 (l3 + 1) A
theorem fX10_roundOf_J32_ok {Γ : jG} {n : Nat} {K : Nat → pKd} {G : pG} {Lg : pL} (hf : mOK n K G) (Q : Int32 → pA → Prop) (P : jO → pS → Prop) (hP : P = (fun o u => ∃ (r : Int32) (A' : pA), o = .inl (some (.int r)) ∧ u = (n, K, A', Lg, G) ∧ Q r A')) (k4 : Int32 → Int32 → Int32 → pA → Prop) (ok4 : ∀ (l1 : Int32) (l2 : Int32) (l3 : Int32) (A : pA), k4 l1 l2 l3 A → J Γ RX10 cX10_roundOf 7 (some .int) "roundOf" [] 2 0 0 4 [(0, .ref 1198), (1, .int l1), (2, .int l2), (3, .int l3)] [] (n, K, A, Lg, G) P) (l1 : Int32) (l2 : Int32) (l3 : Int32) (A : pA) (h : fX10_roundOf_J32  k4 Q l1 l2 l3 A) : J Γ RX10 cX10_roundOf 7 (some .int) "roundOf" [] 2 0 0 32 [(0, .ref 1198), (1, .int l1), (2, .int l2), (3, .int l3)] [] (n, K, A, Lg, G) P := by
  unfold fX10_roundOf_J32 at h
  refine j_iinc (v := l3 + 1) 3 rfl rfl (by decide) rfl dX10_roundOf_32 ?_
  refine j_goto (tgt := 4) dX10_roundOf_35 (by decide) ?_
  refine j_ls [1, 2, 3, 0] rfl ?_
  exact ok4 l1 l2 (l3 + 1) A h
def fX10_roundOf_J111  (k64 : Int32 → Int32 → Int32 → pA → Prop) (Q : Int32 → pA → Prop) (l1 : Int32) (l2 : Int32) (l3 : Int32) (A : pA) : Prop :=
    k64 l1 l2 (l3 + 1) A
theorem fX10_roundOf_J111_ok {Γ : jG} {n : Nat} {K : Nat → pKd} {G : pG} {Lg : pL} (hf : mOK n K G) (Q : Int32 → pA → Prop) (P : jO → pS → Prop) (hP : P = (fun o u => ∃ (r : Int32) (A' : pA), o = .inl (some (.int r)) ∧ u = (n, K, A', Lg, G) ∧ Q r A')) (k64 : Int32 → Int32 → Int32 → pA → Prop) (ok64 : ∀ (l1 : Int32) (l2 : Int32) (l3 : Int32) (A : pA), k64 l1 l2 l3 A → J Γ RX10 cX10_roundOf 7 (some .int) "roundOf" [] 2 0 0 64 [(0, .ref 1198), (1, .int l1), (2, .int l2), (3, .int l3)] [] (n, K, A, Lg, G) P) (l1 : Int32) (l2 : Int32) (l3 : Int32) (A : pA) (h : fX10_roundOf_J111  k64 Q l1 l2 l3 A) : J Γ RX10 cX10_roundOf 7 (some .int) "roundOf" [] 2 0 0 111 [(0, .ref 1198), (1, .int l1), (2, .int l2), (3, .int l3)] [] (n, K, A, Lg, G) P := by
  unfold fX10_roundOf_J111 at h
  refine j_iinc (v := l3 + 1) 3 rfl rfl (by decide) rfl dX10_roundOf_111 ?_
  refine j_goto (tgt := 64) dX10_roundOf_114 (by decide) ?_
  refine j_ls [1, 2, 3, 0] rfl ?_
  exact ok64 l1 l2 (l3 + 1) A h
def fX10_roundOf_J262  (k127 : Int32 → Int32 → Int32 → Int32 → pA → Prop) (Q : Int32 → pA → Prop) (l1 : Int32) (l2 : Int32) (l3 : Int32) (l4 : Int32) (A : pA) : Prop :=
    k127 l1 l2 l3 (l4 + 1) A
theorem fX10_roundOf_J262_ok {Γ : jG} {n : Nat} {K : Nat → pKd} {G : pG} {Lg : pL} (hf : mOK n K G) (Q : Int32 → pA → Prop) (P : jO → pS → Prop) (hP : P = (fun o u => ∃ (r : Int32) (A' : pA), o = .inl (some (.int r)) ∧ u = (n, K, A', Lg, G) ∧ Q r A')) (k127 : Int32 → Int32 → Int32 → Int32 → pA → Prop) (ok127 : ∀ (l1 : Int32) (l2 : Int32) (l3 : Int32) (l4 : Int32) (A : pA), k127 l1 l2 l3 l4 A → J Γ RX10 cX10_roundOf 7 (some .int) "roundOf" [] 2 0 0 127 [(0, .ref 1198), (1, .int l1), (2, .int l2), (3, .int l3), (4, .int l4)] [] (n, K, A, Lg, G) P) (l1 : Int32) (l2 : Int32) (l3 : Int32) (l4 : Int32) (A : pA) (h : fX10_roundOf_J262  k127 Q l1 l2 l3 l4 A) : J Γ RX10 cX10_roundOf 7 (some .int) "roundOf" [] 2 0 0 262 [(0, .ref 1198), (1, .int l1), (2, .int l2), (3, .int l3), (4, .int l4)] [] (n, K, A, Lg, G) P := by
  unfold fX10_roundOf_J262 at h
  refine j_iinc (v := l4 + 1) 4 rfl rfl (by decide) rfl dX10_roundOf_262 ?_
  refine j_goto (tgt := 127) dX10_roundOf_265 (by decide) ?_
  refine j_ls [1, 2, 3, 4, 0] rfl ?_
  exact ok127 l1 l2 l3 (l4 + 1) A h
def fX10_roundOf_J256  (k158 : Int32 → Int32 → Int32 → Int32 → Int32 → pA → Prop) (Q : Int32 → pA → Prop) (l1 : Int32) (l2 : Int32) (l3 : Int32) (l4 : Int32) (l5 : Int32) (A : pA) : Prop :=
    k158 l1 l2 l3 l4 (l5 + 1) A
theorem fX10_roundOf_J256_ok {Γ : jG} {n : Nat} {K : Nat → pKd} {G : pG} {Lg : pL} (hf : mOK n K G) (Q : Int32 → pA → Prop) (P : jO → pS → Prop) (hP : P = (fun o u => ∃ (r : Int32) (A' : pA), o = .inl (some (.int r)) ∧ u = (n, K, A', Lg, G) ∧ Q r A')) (k158 : Int32 → Int32 → Int32 → Int32 → Int32 → pA → Prop) (ok158 : ∀ (l1 : Int32) (l2 : Int32) (l3 : Int32) (l4 : Int32) (l5 : Int32) (A : pA), k158 l1 l2 l3 l4 l5 A → J Γ RX10 cX10_roundOf 7 (some .int) "roundOf" [] 2 0 0 158 [(0, .ref 1198), (1, .int l1), (2, .int l2), (3, .int l3), (4, .int l4), (5, .int l5)] [] (n, K, A, Lg, G) P) (l1 : Int32) (l2 : Int32) (l3 : Int32) (l4 : Int32) (l5 : Int32) (A : pA) (h : fX10_roundOf_J256  k158 Q l1 l2 l3 l4 l5 A) : J Γ RX10 cX10_roundOf 7 (some .int) "roundOf" [] 2 0 0 256 [(0, .ref 1198), (1, .int l1), (2, .int l2), (3, .int l3), (4, .int l4), (5, .int l5)] [] (n, K, A, Lg, G) P := by
  unfold fX10_roundOf_J256 at h
  refine j_iinc (v := l5 + 1) 5 rfl rfl (by decide) rfl dX10_roundOf_256 ?_
  refine j_goto (tgt := 158) dX10_roundOf_259 (by decide) ?_
  refine j_ls [1, 2, 3, 4, 5, 0] rfl ?_
  exact ok158 l1 l2 l3 l4 (l5 + 1) A h
def fX10_roundOf_L158  (k127 : Int32 → Int32 → Int32 → Int32 → pA → Prop) (Q : Int32 → pA → Prop) : Nat → Int32 → Int32 → Int32 → Int32 → Int32 → pA → Prop
  | 0, _, _, _, _, _, _ => False
  | n9 + 1, l1, l2, l3, l4, l5, A =>
    (if 7 ≤ l5 then fX10_roundOf_J262  k127 Q l1 l2 l3 l4 A else (if ((l2 >>> (l5 &&& 31)) &&& 1) = 0 then fX10_roundOf_J256  (fun x0 x1 x2 x3 x4 x5 => fX10_roundOf_L158  k127 Q n9 x0 x1 x2 x3 x4 x5) Q l1 l2 l3 l4 l5 A else (if ((l3 >>> (l5 &&& 31)) &&& 1) = 1 then fX10_roundOf_J256  (fun x0 x1 x2 x3 x4 x5 => fX10_roundOf_L158  k127 Q n9 x0 x1 x2 x3 x4 x5) Q l1 l2 l3 l4 l5 A else (vp_in ((7 * l3) + l4) 896) ∧ ((vp_in ((7 * l4) + l5) 49) ∧ ((vp_in ((7 * (l3 ||| ((1 : Int32) <<< (l5 &&& 31)))) + l5) 896) ∧ ((if (A 1240 ((7 * (l3 ||| ((1 : Int32) <<< (l5 &&& 31)))) + l5).toNatClampNeg) ≤ ((A 1240 ((7 * l3) + l4).toNatClampNeg) + (A 1236 ((7 * l4) + l5).toNatClampNeg)) then fX10_roundOf_J256  (fun x0 x1 x2 x3 x4 x5 => fX10_roundOf_L158  k127 Q n9 x0 x1 x2 x3 x4 x5) Q l1 l2 l3 l4 l5 A else (vp_in ((7 * (l3 ||| ((1 : Int32) <<< (l5 &&& 31)))) + l5) 896) ∧ (∀ A5 : pA, A5 = pup A 1240 ((7 * (l3 ||| ((1 : Int32) <<< (l5 &&& 31)))) + l5).toNatClampNeg ((A 1240 ((7 * l3) + l4).toNatClampNeg) + (A 1236 ((7 * l4) + l5).toNatClampNeg)) → fX10_roundOf_J256  (fun x0 x1 x2 x3 x4 x5 => fX10_roundOf_L158  k127 Q n9 x0 x1 x2 x3 x4 x5) Q l1 l2 l3 l4 l5 A5))))))))
theorem fX10_roundOf_L158_ok {Γ : jG} {n : Nat} {K : Nat → pKd} {G : pG} {Lg : pL} (hf : mOK n K G) (Q : Int32 → pA → Prop) (P : jO → pS → Prop) (hP : P = (fun o u => ∃ (r : Int32) (A' : pA), o = .inl (some (.int r)) ∧ u = (n, K, A', Lg, G) ∧ Q r A'))  (k127 : Int32 → Int32 → Int32 → Int32 → pA → Prop) (ok127 : ∀ (l1 : Int32) (l2 : Int32) (l3 : Int32) (l4 : Int32) (A : pA), k127 l1 l2 l3 l4 A → J Γ RX10 cX10_roundOf 7 (some .int) "roundOf" [] 2 0 0 127 [(0, .ref 1198), (1, .int l1), (2, .int l2), (3, .int l3), (4, .int l4)] [] (n, K, A, Lg, G) P) : ∀ (n9 : Nat) (l1 : Int32) (l2 : Int32) (l3 : Int32) (l4 : Int32) (l5 : Int32) (A : pA), fX10_roundOf_L158  k127 Q n9 l1 l2 l3 l4 l5 A → J Γ RX10 cX10_roundOf 7 (some .int) "roundOf" [] 2 0 0 158 [(0, .ref 1198), (1, .int l1), (2, .int l2), (3, .int l3), (4, .int l4), (5, .int l5)] [] (n, K, A, Lg, G) P := by
  intro n9
  induction n9 with
  | zero => intro l1 l2 l3 l4 l5 A h; exact h.elim
  | succ n9 ih =>
    intro l1 l2 l3 l4 l5 A h
    unfold fX10_roundOf_L158 at h
    refine j_iload 5 rfl dX10_roundOf_158 ?_
    refine j_bipush (v := 7) dX10_roundOf_160 (by decide) ?_
    refine j_icmp_ge (tgt := 262) dX10_roundOf_162 (by decide) (fun c => ?_) (fun c => ?_)
    · rw [if_pos c] at h
      refine j_ls [0, 1, 2, 3, 4] rfl ?_
      exact fX10_roundOf_J262_ok hf Q P hP k127 ok127 l1 l2 l3 l4 A h
    · rw [if_neg c] at h
      refine j_iload_n 2 rfl dX10_roundOf_165 ?_
      refine j_iload 5 rfl dX10_roundOf_166 ?_
      refine j_ishr dX10_roundOf_168 ?_
      refine j_iconst (v := 1) dX10_roundOf_169 (by decide) ?_
      refine j_iand dX10_roundOf_170 ?_
      refine j_if_eq (tgt := 256) dX10_roundOf_171 (by decide) (fun c => ?_) (fun c => ?_)
      · rw [if_pos c] at h
        exact fX10_roundOf_J256_ok hf Q P hP (fun x0 x1 x2 x3 x4 x5 => fX10_roundOf_L158  k127 Q n9 x0 x1 x2 x3 x4 x5) (fun x0 x1 x2 x3 x4 x5 h9 => ih x0 x1 x2 x3 x4 x5 h9) l1 l2 l3 l4 l5 A h
      · rw [if_neg c] at h
        refine j_iload_n 3 rfl dX10_roundOf_174 ?_
        refine j_iload 5 rfl dX10_roundOf_175 ?_
        refine j_ishr dX10_roundOf_177 ?_
        refine j_iconst (v := 1) dX10_roundOf_178 (by decide) ?_
        refine j_iand dX10_roundOf_179 ?_
        refine j_iconst (v := 1) dX10_roundOf_180 (by decide) ?_
        refine j_icmp_ne (tgt := 187) dX10_roundOf_181 (by decide) (fun c => ?_) (fun c => ?_)
        · rw [if_neg c] at h
          refine j_aload_n 0 rfl dX10_roundOf_187 ?_
          refine j_getfr fl_X10_143_9 rfl (m_lt hf (by decide)) (fk_1198 hf) (fg_1198_60 hf) dX10_roundOf_188 ?_
          refine j_bipush (v := 7) dX10_roundOf_191 (by decide) ?_
          refine j_iload_n 3 rfl dX10_roundOf_193 ?_
          refine j_imul dX10_roundOf_194 ?_
          refine j_iload 4 rfl dX10_roundOf_195 ?_
          refine j_iadd dX10_roundOf_197 ?_
          obtain ⟨b1, h⟩ := h
          refine j_ialdJ (j := ((7 * l3) + l4).toNatClampNeg) (m_lt hf (by decide)) (fk_1240 hf) b1 rfl dX10_roundOf_198 ?_
          refine j_aload_n 0 rfl dX10_roundOf_199 ?_
          refine j_getfr fl_X10_131_9 rfl (m_lt hf (by decide)) (fk_1198 hf) (fg_1198_55 hf) dX10_roundOf_200 ?_
          refine j_bipush (v := 7) dX10_roundOf_203 (by decide) ?_
          refine j_iload 4 rfl dX10_roundOf_205 ?_
          refine j_imul dX10_roundOf_207 ?_
          refine j_iload 5 rfl dX10_roundOf_208 ?_
          refine j_iadd dX10_roundOf_210 ?_
          obtain ⟨b2, h⟩ := h
          refine j_ialdJ (j := ((7 * l4) + l5).toNatClampNeg) (m_lt hf (by decide)) (fk_1236 hf) b2 rfl dX10_roundOf_211 ?_
          refine j_iadd dX10_roundOf_212 ?_
          refine j_istore (by decide) rfl dX10_roundOf_213 ?_
          refine j_iload 0 rfl dX10_roundOf_215 ?_
          refine j_aload_n 1 rfl dX10_roundOf_217 ?_
          refine j_getfr fl_X10_143_9 rfl (m_lt hf (by decide)) (fk_1198 hf) (fg_1198_60 hf) dX10_roundOf_218 ?_
          refine j_bipush (v := 7) dX10_roundOf_221 (by decide) ?_
          refine j_iload_n 4 rfl dX10_roundOf_223 ?_
          refine j_iconst (v := 1) dX10_roundOf_224 (by decide) ?_
          refine j_iload 6 rfl dX10_roundOf_225 ?_
          refine j_ishl dX10_roundOf_227 ?_
          refine j_ior dX10_roundOf_228 ?_
          refine j_imul dX10_roundOf_229 ?_
          refine j_iload 6 rfl dX10_roundOf_230 ?_
          refine j_iadd dX10_roundOf_232 ?_
          obtain ⟨b3, h⟩ := h
          refine j_ialdJ (j := ((7 * (l3 ||| ((1 : Int32) <<< (l5 &&& 31)))) + l5).toNatClampNeg) (m_lt hf (by decide)) (fk_1240 hf) b3 rfl dX10_roundOf_233 ?_
          refine j_icmp_ge (tgt := 256) dX10_roundOf_234 (by decide) (fun c => ?_) (fun c => ?_)
          · rw [if_pos c] at h
            refine j_ls [1, 2, 3, 4, 5, 6] rfl ?_
            exact fX10_roundOf_J256_ok hf Q P hP (fun x0 x1 x2 x3 x4 x5 => fX10_roundOf_L158  k127 Q n9 x0 x1 x2 x3 x4 x5) (fun x0 x1 x2 x3 x4 x5 h9 => ih x0 x1 x2 x3 x4 x5 h9) l1 l2 l3 l4 l5 A h
          · rw [if_neg c] at h
            refine j_aload_n 1 rfl dX10_roundOf_237 ?_
            refine j_getfr fl_X10_143_9 rfl (m_lt hf (by decide)) (fk_1198 hf) (fg_1198_60 hf) dX10_roundOf_238 ?_
            refine j_bipush (v := 7) dX10_roundOf_241 (by decide) ?_
            refine j_iload_n 4 rfl dX10_roundOf_243 ?_
            refine j_iconst (v := 1) dX10_roundOf_244 (by decide) ?_
            refine j_iload 6 rfl dX10_roundOf_245 ?_
            refine j_ishl dX10_roundOf_247 ?_
            refine j_ior dX10_roundOf_248 ?_
            refine j_imul dX10_roundOf_249 ?_
            refine j_iload 6 rfl dX10_roundOf_250 ?_
            refine j_iadd dX10_roundOf_252 ?_
            refine j_iload 0 rfl dX10_roundOf_253 ?_
            obtain ⟨b4, h⟩ := h
            refine j_iastJ (j := ((7 * (l3 ||| ((1 : Int32) <<< (l5 &&& 31)))) + l5).toNatClampNeg) (m_lt hf (by decide)) (fk_1240 hf) b4 rfl dX10_roundOf_255 (fun A5 eA5 => ?_)
            replace h := h A5 eA5
            refine j_ls [1, 2, 3, 4, 5, 6] rfl ?_
            exact fX10_roundOf_J256_ok hf Q P hP (fun x0 x1 x2 x3 x4 x5 => fX10_roundOf_L158  k127 Q n9 x0 x1 x2 x3 x4 x5) (fun x0 x1 x2 x3 x4 x5 h9 => ih x0 x1 x2 x3 x4 x5 h9) l1 l2 l3 l4 l5 A5 h
        · rw [if_pos c] at h
          refine j_goto (tgt := 256) dX10_roundOf_184 (by decide) ?_
          exact fX10_roundOf_J256_ok hf Q P hP (fun x0 x1 x2 x3 x4 x5 => fX10_roundOf_L158  k127 Q n9 x0 x1 x2 x3 x4 x5) (fun x0 x1 x2 x3 x4 x5 h9 => ih x0 x1 x2 x3 x4 x5 h9) l1 l2 l3 l4 l5 A h
def fX10_roundOf_L127  (k119 : Int32 → Int32 → Int32 → pA → Prop) (Q : Int32 → pA → Prop) : Nat → Int32 → Int32 → Int32 → Int32 → pA → Prop
  | 0, _, _, _, _, _ => False
  | n9 + 1, l1, l2, l3, l4, A =>
    (if 7 ≤ l4 then k119 l1 l2 (l3 + 1) A else (vp_in ((7 * l3) + l4) 896) ∧ ((if (A 1240 ((7 * l3) + l4).toNatClampNeg) < 999 then ∃ m7, fX10_roundOf_L158  (fun x0 x1 x2 x3 x4 => fX10_roundOf_L127  k119 Q n9 x0 x1 x2 x3 x4) Q m7 l1 l2 l3 l4 0 A else fX10_roundOf_J262  (fun x0 x1 x2 x3 x4 => fX10_roundOf_L127  k119 Q n9 x0 x1 x2 x3 x4) Q l1 l2 l3 l4 A)))
theorem fX10_roundOf_L127_ok {Γ : jG} {n : Nat} {K : Nat → pKd} {G : pG} {Lg : pL} (hf : mOK n K G) (Q : Int32 → pA → Prop) (P : jO → pS → Prop) (hP : P = (fun o u => ∃ (r : Int32) (A' : pA), o = .inl (some (.int r)) ∧ u = (n, K, A', Lg, G) ∧ Q r A'))  (k119 : Int32 → Int32 → Int32 → pA → Prop) (ok119 : ∀ (l1 : Int32) (l2 : Int32) (l3 : Int32) (A : pA), k119 l1 l2 l3 A → J Γ RX10 cX10_roundOf 7 (some .int) "roundOf" [] 2 0 0 119 [(0, .ref 1198), (1, .int l1), (2, .int l2), (3, .int l3)] [] (n, K, A, Lg, G) P) : ∀ (n9 : Nat) (l1 : Int32) (l2 : Int32) (l3 : Int32) (l4 : Int32) (A : pA), fX10_roundOf_L127  k119 Q n9 l1 l2 l3 l4 A → J Γ RX10 cX10_roundOf 7 (some .int) "roundOf" [] 2 0 0 127 [(0, .ref 1198), (1, .int l1), (2, .int l2), (3, .int l3), (4, .int l4)] [] (n, K, A, Lg, G) P := by
  intro n9
  induction n9 with
  | zero => intro l1 l2 l3 l4 A h; exact h.elim
  | succ n9 ih =>
    intro l1 l2 l3 l4 A h
    unfold fX10_roundOf_L127 at h
    refine j_iload 4 rfl dX10_roundOf_127 ?_
    refine j_bipush (v := 7) dX10_roundOf_129 (by decide) ?_
    refine j_icmp_ge (tgt := 268) dX10_roundOf_131 (by decide) (fun c => ?_) (fun c => ?_)
    · rw [if_pos c] at h
      refine j_iinc (v := l3 + 1) 3 rfl rfl (by decide) rfl dX10_roundOf_268 ?_
      refine j_goto (tgt := 119) dX10_roundOf_271 (by decide) ?_
      refine j_ls [1, 2, 3, 0] rfl ?_
      exact ok119 l1 l2 (l3 + 1) A h
    · rw [if_neg c] at h
      refine j_aload_n 0 rfl dX10_roundOf_134 ?_
      refine j_getfr fl_X10_143_9 rfl (m_lt hf (by decide)) (fk_1198 hf) (fg_1198_60 hf) dX10_roundOf_135 ?_
      refine j_bipush (v := 7) dX10_roundOf_138 (by decide) ?_
      refine j_iload_n 3 rfl dX10_roundOf_140 ?_
      refine j_imul dX10_roundOf_141 ?_
      refine j_iload 4 rfl dX10_roundOf_142 ?_
      refine j_iadd dX10_roundOf_144 ?_
      obtain ⟨b6, h⟩ := h
      refine j_ialdJ (j := ((7 * l3) + l4).toNatClampNeg) (m_lt hf (by decide)) (fk_1240 hf) b6 rfl dX10_roundOf_145 ?_
      refine j_sipush (v := 999) dX10_roundOf_146 (by decide) ?_
      refine j_icmp_lt (tgt := 155) dX10_roundOf_149 (by decide) (fun c => ?_) (fun c => ?_)
      · rw [if_pos c] at h
        refine j_iconst (v := 0) dX10_roundOf_155 (by decide) ?_
        refine j_istore (by decide) rfl dX10_roundOf_156 ?_
        refine j_ls [1, 2, 3, 4, 5, 0] rfl ?_
        obtain ⟨m7, h⟩ := h
        exact fX10_roundOf_L158_ok hf Q P hP (fun x0 x1 x2 x3 x4 => fX10_roundOf_L127  k119 Q n9 x0 x1 x2 x3 x4) (fun x0 x1 x2 x3 x4 h9 => ih x0 x1 x2 x3 x4 h9) m7 l1 l2 l3 l4 0 A h
      · rw [if_neg c] at h
        refine j_goto (tgt := 262) dX10_roundOf_152 (by decide) ?_
        exact fX10_roundOf_J262_ok hf Q P hP (fun x0 x1 x2 x3 x4 => fX10_roundOf_L127  k119 Q n9 x0 x1 x2 x3 x4) (fun x0 x1 x2 x3 x4 h9 => ih x0 x1 x2 x3 x4 h9) l1 l2 l3 l4 A h
def fX10_roundOf_J384  (k320 : Int32 → Int32 → Int32 → Int32 → pA → Prop) (Q : Int32 → pA → Prop) (l2 : Int32) (l3 : Int32) (l4 : Int32) (l5 : Int32) (A : pA) : Prop :=
    k320 l2 l3 l4 (l5 + 1) A
theorem fX10_roundOf_J384_ok {Γ : jG} {n : Nat} {K : Nat → pKd} {G : pG} {Lg : pL} (hf : mOK n K G) (Q : Int32 → pA → Prop) (P : jO → pS → Prop) (hP : P = (fun o u => ∃ (r : Int32) (A' : pA), o = .inl (some (.int r)) ∧ u = (n, K, A', Lg, G) ∧ Q r A')) (k320 : Int32 → Int32 → Int32 → Int32 → pA → Prop) (ok320 : ∀ (l2 : Int32) (l3 : Int32) (l4 : Int32) (l5 : Int32) (A : pA), k320 l2 l3 l4 l5 A → J Γ RX10 cX10_roundOf 7 (some .int) "roundOf" [] 2 0 0 320 [(0, .ref 1198), (2, .int l2), (3, .int l3), (4, .int l4), (5, .int l5)] [] (n, K, A, Lg, G) P) (l2 : Int32) (l3 : Int32) (l4 : Int32) (l5 : Int32) (A : pA) (h : fX10_roundOf_J384  k320 Q l2 l3 l4 l5 A) : J Γ RX10 cX10_roundOf 7 (some .int) "roundOf" [] 2 0 0 384 [(0, .ref 1198), (2, .int l2), (3, .int l3), (4, .int l4), (5, .int l5)] [] (n, K, A, Lg, G) P := by
  unfold fX10_roundOf_J384 at h
  refine j_iinc (v := l5 + 1) 4 rfl rfl (by decide) rfl dX10_roundOf_384 ?_
  refine j_goto (tgt := 320) dX10_roundOf_387 (by decide) ?_
  refine j_ls [1, 2, 3, 4, 0] rfl ?_
  exact ok320 l2 l3 l4 (l5 + 1) A h
def fX10_roundOf_L320   (Q : Int32 → pA → Prop) : Nat → Int32 → Int32 → Int32 → Int32 → pA → Prop
  | 0, _, _, _, _, _ => False
  | n9 + 1, l2, l3, l4, l5, A =>
    (if 7 ≤ l5 then Q l4 A else (vp_in ((7 * l2) + l5) 896) ∧ ((vp_in ((7 * l5) + l3) 49) ∧ ((if l4 ≤ ((A 1240 ((7 * l2) + l5).toNatClampNeg) + (A 1236 ((7 * l5) + l3).toNatClampNeg)) then fX10_roundOf_J384  (fun x0 x1 x2 x3 x4 => fX10_roundOf_L320   Q n9 x0 x1 x2 x3 x4) Q l2 l3 l4 l5 A else (vp_in ((7 * l2) + l5) 896) ∧ ((vp_in ((7 * l5) + l3) 49) ∧ (fX10_roundOf_J384  (fun x0 x1 x2 x3 x4 => fX10_roundOf_L320   Q n9 x0 x1 x2 x3 x4) Q l2 l3 ((A 1240 ((7 * l2) + l5).toNatClampNeg) + (A 1236 ((7 * l5) + l3).toNatClampNeg)) l5 A))))))
theorem fX10_roundOf_L320_ok {Γ : jG} {n : Nat} {K : Nat → pKd} {G : pG} {Lg : pL} (hf : mOK n K G) (Q : Int32 → pA → Prop) (P : jO → pS → Prop) (hP : P = (fun o u => ∃ (r : Int32) (A' : pA), o = .inl (some (.int r)) ∧ u = (n, K, A', Lg, G) ∧ Q r A'))    : ∀ (n9 : Nat) (l2 : Int32) (l3 : Int32) (l4 : Int32) (l5 : Int32) (A : pA), fX10_roundOf_L320   Q n9 l2 l3 l4 l5 A → J Γ RX10 cX10_roundOf 7 (some .int) "roundOf" [] 2 0 0 320 [(0, .ref 1198), (2, .int l2), (3, .int l3), (4, .int l4), (5, .int l5)] [] (n, K, A, Lg, G) P := by
  intro n9
  induction n9 with
  | zero => intro l2 l3 l4 l5 A h; exact h.elim
  | succ n9 ih =>
    intro l2 l3 l4 l5 A h
    unfold fX10_roundOf_L320 at h
    refine j_iload 4 rfl dX10_roundOf_320 ?_
    refine j_bipush (v := 7) dX10_roundOf_322 (by decide) ?_
    refine j_icmp_ge (tgt := 390) dX10_roundOf_324 (by decide) (fun c => ?_) (fun c => ?_)
    · rw [if_pos c] at h
      refine j_iload 3 rfl dX10_roundOf_390 ?_
      refine j_iret rfl ?_ dX10_roundOf_392
      rw [hP]
      exact ⟨l4, A, rfl, rfl, h⟩
    · rw [if_neg c] at h
      refine j_aload_n 0 rfl dX10_roundOf_327 ?_
      refine j_getfr fl_X10_143_9 rfl (m_lt hf (by decide)) (fk_1198 hf) (fg_1198_60 hf) dX10_roundOf_328 ?_
      refine j_bipush (v := 7) dX10_roundOf_331 (by decide) ?_
      refine j_iload_n 1 rfl dX10_roundOf_333 ?_
      refine j_imul dX10_roundOf_334 ?_
      refine j_iload 4 rfl dX10_roundOf_335 ?_
      refine j_iadd dX10_roundOf_337 ?_
      obtain ⟨b8, h⟩ := h
      refine j_ialdJ (j := ((7 * l2) + l5).toNatClampNeg) (m_lt hf (by decide)) (fk_1240 hf) b8 rfl dX10_roundOf_338 ?_
      refine j_aload_n 0 rfl dX10_roundOf_339 ?_
      refine j_getfr fl_X10_131_9 rfl (m_lt hf (by decide)) (fk_1198 hf) (fg_1198_55 hf) dX10_roundOf_340 ?_
      refine j_bipush (v := 7) dX10_roundOf_343 (by decide) ?_
      refine j_iload 4 rfl dX10_roundOf_345 ?_
      refine j_imul dX10_roundOf_347 ?_
      refine j_iload_n 2 rfl dX10_roundOf_348 ?_
      refine j_iadd dX10_roundOf_349 ?_
      obtain ⟨b9, h⟩ := h
      refine j_ialdJ (j := ((7 * l5) + l3).toNatClampNeg) (m_lt hf (by decide)) (fk_1236 hf) b9 rfl dX10_roundOf_350 ?_
      refine j_iadd dX10_roundOf_351 ?_
      refine j_iload 3 rfl dX10_roundOf_352 ?_
      refine j_icmp_ge (tgt := 384) dX10_roundOf_354 (by decide) (fun c => ?_) (fun c => ?_)
      · rw [if_pos c] at h
        exact fX10_roundOf_J384_ok hf Q P hP (fun x0 x1 x2 x3 x4 => fX10_roundOf_L320   Q n9 x0 x1 x2 x3 x4) (fun x0 x1 x2 x3 x4 h9 => ih x0 x1 x2 x3 x4 h9) l2 l3 l4 l5 A h
      · rw [if_neg c] at h
        refine j_aload_n 0 rfl dX10_roundOf_357 ?_
        refine j_getfr fl_X10_143_9 rfl (m_lt hf (by decide)) (fk_1198 hf) (fg_1198_60 hf) dX10_roundOf_358 ?_
        refine j_bipush (v := 7) dX10_roundOf_361 (by decide) ?_
        refine j_iload_n 1 rfl dX10_roundOf_363 ?_
        refine j_imul dX10_roundOf_364 ?_
        refine j_iload 4 rfl dX10_roundOf_365 ?_
        refine j_iadd dX10_roundOf_367 ?_
        obtain ⟨b10, h⟩ := h
        refine j_ialdJ (j := ((7 * l2) + l5).toNatClampNeg) (m_lt hf (by decide)) (fk_1240 hf) b10 rfl dX10_roundOf_368 ?_
        refine j_aload_n 0 rfl dX10_roundOf_369 ?_
        refine j_getfr fl_X10_131_9 rfl (m_lt hf (by decide)) (fk_1198 hf) (fg_1198_55 hf) dX10_roundOf_370 ?_
        refine j_bipush (v := 7) dX10_roundOf_373 (by decide) ?_
        refine j_iload 4 rfl dX10_roundOf_375 ?_
        refine j_imul dX10_roundOf_377 ?_
        refine j_iload_n 2 rfl dX10_roundOf_378 ?_
        refine j_iadd dX10_roundOf_379 ?_
        obtain ⟨b11, h⟩ := h
        refine j_ialdJ (j := ((7 * l5) + l3).toNatClampNeg) (m_lt hf (by decide)) (fk_1236 hf) b11 rfl dX10_roundOf_380 ?_
        refine j_iadd dX10_roundOf_381 ?_
        refine j_istore (by decide) rfl dX10_roundOf_382 ?_
        refine j_ls [1, 2, 3, 0, 4] rfl ?_
        exact fX10_roundOf_J384_ok hf Q P hP (fun x0 x1 x2 x3 x4 => fX10_roundOf_L320   Q n9 x0 x1 x2 x3 x4) (fun x0 x1 x2 x3 x4 h9 => ih x0 x1 x2 x3 x4 h9) l2 l3 ((A 1240 ((7 * l2) + l5).toNatClampNeg) + (A 1236 ((7 * l5) + l3).toNatClampNeg)) l5 A h
def fX10_roundOf_L119   (Q : Int32 → pA → Prop) : Nat → Int32 → Int32 → Int32 → pA → Prop
  | 0, _, _, _, _ => False
  | n9 + 1, l1, l2, l3, A =>
    (if l2 < l3 then (vp_in ((4 * (A 1198 18)) + l1) 8) ∧ ((if l2 = 0 then (vp_in (15 + l1) 77) ∧ ((vp_in ((7 * (A 1238 (15 + l1).toNatClampNeg)) + (A 1216 ((4 * (A 1198 18)) + l1).toNatClampNeg)) 49) ∧ (Q (A 1236 ((7 * (A 1238 (15 + l1).toNatClampNeg)) + (A 1216 ((4 * (A 1198 18)) + l1).toNatClampNeg)).toNatClampNeg) A)) else ∃ m13, fX10_roundOf_L320   Q m13 l2 (A 1216 ((4 * (A 1198 18)) + l1).toNatClampNeg) 999 0 A)) else ∃ m16, fX10_roundOf_L127  (fun x0 x1 x2 x3 => fX10_roundOf_L119   Q n9 x0 x1 x2 x3) Q m16 l1 l2 l3 0 A)
theorem fX10_roundOf_L119_ok {Γ : jG} {n : Nat} {K : Nat → pKd} {G : pG} {Lg : pL} (hf : mOK n K G) (Q : Int32 → pA → Prop) (P : jO → pS → Prop) (hP : P = (fun o u => ∃ (r : Int32) (A' : pA), o = .inl (some (.int r)) ∧ u = (n, K, A', Lg, G) ∧ Q r A'))    : ∀ (n9 : Nat) (l1 : Int32) (l2 : Int32) (l3 : Int32) (A : pA), fX10_roundOf_L119   Q n9 l1 l2 l3 A → J Γ RX10 cX10_roundOf 7 (some .int) "roundOf" [] 2 0 0 119 [(0, .ref 1198), (1, .int l1), (2, .int l2), (3, .int l3)] [] (n, K, A, Lg, G) P := by
  intro n9
  induction n9 with
  | zero => intro l1 l2 l3 A h; exact h.elim
  | succ n9 ih =>
    intro l1 l2 l3 A h
    unfold fX10_roundOf_L119 at h
    refine j_iload_n 3 rfl dX10_roundOf_119 ?_
    refine j_iload_n 2 rfl dX10_roundOf_120 ?_
    refine j_icmp_gt (tgt := 274) dX10_roundOf_121 (by decide) (fun c => ?_) (fun c => ?_)
    · rw [if_pos c] at h
      refine j_aload_n 0 rfl dX10_roundOf_274 ?_
      refine j_getfr fl_X10_70_9 rfl (m_lt hf (by decide)) (fk_1198 hf) (fg_1198_31 hf) dX10_roundOf_275 ?_
      refine j_iconst (v := 4) dX10_roundOf_278 (by decide) ?_
      refine j_aload_n 0 rfl dX10_roundOf_279 ?_
      refine j_getfi fl_X10_242_9 rfl (m_lt hf (by decide)) (fk_1198 hf) dX10_roundOf_280 ?_
      refine j_imul dX10_roundOf_283 ?_
      refine j_iload_n 1 rfl dX10_roundOf_284 ?_
      refine j_iadd dX10_roundOf_285 ?_
      obtain ⟨b12, h⟩ := h
      refine j_ialdJ (j := ((4 * (A 1198 18)) + l1).toNatClampNeg) (m_lt hf (by decide)) (fk_1216 hf) b12 rfl dX10_roundOf_286 ?_
      refine j_istore_n (by decide) rfl dX10_roundOf_287 ?_
      refine j_iload_n 3 rfl dX10_roundOf_288 ?_
      refine j_if_ne (tgt := 312) dX10_roundOf_289 (by decide) (fun c => ?_) (fun c => ?_)
      · rw [if_neg c] at h
        refine j_sipush (v := 999) dX10_roundOf_312 (by decide) ?_
        refine j_istore (by decide) rfl dX10_roundOf_315 ?_
        refine j_iconst (v := 0) dX10_roundOf_317 (by decide) ?_
        refine j_istore (by decide) rfl dX10_roundOf_318 ?_
        refine j_ls [3, 5, 2, 1, 0] rfl ?_
        obtain ⟨m13, h⟩ := h
        exact fX10_roundOf_L320_ok hf Q P hP   m13 l2 (A 1216 ((4 * (A 1198 18)) + l1).toNatClampNeg) 999 0 A h
      · rw [if_pos c] at h
        refine j_aload_n 1 rfl dX10_roundOf_292 ?_
        refine j_getfr fl_X10_131_9 rfl (m_lt hf (by decide)) (fk_1198 hf) (fg_1198_55 hf) dX10_roundOf_293 ?_
        refine j_bipush (v := 7) dX10_roundOf_296 (by decide) ?_
        refine j_aload_n 1 rfl dX10_roundOf_298 ?_
        refine j_getfr fl_X10_137_9 rfl (m_lt hf (by decide)) (fk_1198 hf) (fg_1198_57 hf) dX10_roundOf_299 ?_
        refine j_bipush (v := 15) dX10_roundOf_302 (by decide) ?_
        refine j_iload_n 2 rfl dX10_roundOf_304 ?_
        refine j_iadd dX10_roundOf_305 ?_
        obtain ⟨b14, h⟩ := h
        refine j_ialdJ (j := (15 + l1).toNatClampNeg) (m_lt hf (by decide)) (fk_1238 hf) b14 rfl dX10_roundOf_306 ?_
        refine j_imul dX10_roundOf_307 ?_
        refine j_iload_n 0 rfl dX10_roundOf_308 ?_
        refine j_iadd dX10_roundOf_309 ?_
        obtain ⟨b15, h⟩ := h
        refine j_ialdJ (j := ((7 * (A 1238 (15 + l1).toNatClampNeg)) + (A 1216 ((4 * (A 1198 18)) + l1).toNatClampNeg)).toNatClampNeg) (m_lt hf (by decide)) (fk_1236 hf) b15 rfl dX10_roundOf_310 ?_
        refine j_iret rfl ?_ dX10_roundOf_311
        rw [hP]
        exact ⟨A 1236 ((7 * (A 1238 (15 + l1).toNatClampNeg)) + (A 1216 ((4 * (A 1198 18)) + l1).toNatClampNeg)).toNatClampNeg, A, rfl, rfl, h⟩
    · rw [if_neg c] at h
      refine j_iconst (v := 0) dX10_roundOf_124 (by decide) ?_
      refine j_istore (by decide) rfl dX10_roundOf_125 ?_
      refine j_ls [1, 2, 3, 4, 0] rfl ?_
      obtain ⟨m16, h⟩ := h
      exact fX10_roundOf_L127_ok hf Q P hP (fun x0 x1 x2 x3 => fX10_roundOf_L119   Q n9 x0 x1 x2 x3) (fun x0 x1 x2 x3 h9 => ih x0 x1 x2 x3 h9) m16 l1 l2 l3 0 A h
def fX10_roundOf_L64   (Q : Int32 → pA → Prop) : Nat → Int32 → Int32 → Int32 → pA → Prop
  | 0, _, _, _, _ => False
  | n9 + 1, l1, l2, l3, A =>
    (if 7 ≤ l3 then ∃ m17, fX10_roundOf_L119   Q m17 l1 l2 1 A else (if ((l2 >>> (l3 &&& 31)) &&& 1) = 1 then (vp_in (15 + l1) 77) ∧ ((vp_in ((7 * (A 1238 (15 + l1).toNatClampNeg)) + l3) 49) ∧ ((vp_in ((7 * ((1 : Int32) <<< (l3 &&& 31))) + l3) 896) ∧ (∀ A21 : pA, A21 = pup A 1240 ((7 * ((1 : Int32) <<< (l3 &&& 31))) + l3).toNatClampNeg (A 1236 ((7 * (A 1238 (15 + l1).toNatClampNeg)) + l3).toNatClampNeg) → fX10_roundOf_J111  (fun x0 x1 x2 x3 => fX10_roundOf_L64   Q n9 x0 x1 x2 x3) Q l1 l2 l3 A21))) else fX10_roundOf_J111  (fun x0 x1 x2 x3 => fX10_roundOf_L64   Q n9 x0 x1 x2 x3) Q l1 l2 l3 A))
theorem fX10_roundOf_L64_ok {Γ : jG} {n : Nat} {K : Nat → pKd} {G : pG} {Lg : pL} (hf : mOK n K G) (Q : Int32 → pA → Prop) (P : jO → pS → Prop) (hP : P = (fun o u => ∃ (r : Int32) (A' : pA), o = .inl (some (.int r)) ∧ u = (n, K, A', Lg, G) ∧ Q r A'))    : ∀ (n9 : Nat) (l1 : Int32) (l2 : Int32) (l3 : Int32) (A : pA), fX10_roundOf_L64   Q n9 l1 l2 l3 A → J Γ RX10 cX10_roundOf 7 (some .int) "roundOf" [] 2 0 0 64 [(0, .ref 1198), (1, .int l1), (2, .int l2), (3, .int l3)] [] (n, K, A, Lg, G) P := by
  intro n9
  induction n9 with
  | zero => intro l1 l2 l3 A h; exact h.elim
  | succ n9 ih =>
    intro l1 l2 l3 A h
    unfold fX10_roundOf_L64 at h
    refine j_iload_n 3 rfl dX10_roundOf_64 ?_
    refine j_bipush (v := 7) dX10_roundOf_65 (by decide) ?_
    refine j_icmp_ge (tgt := 117) dX10_roundOf_67 (by decide) (fun c => ?_) (fun c => ?_)
    · rw [if_pos c] at h
      refine j_iconst (v := 1) dX10_roundOf_117 (by decide) ?_
      refine j_istore_n (by decide) rfl dX10_roundOf_118 ?_
      refine j_ls [1, 2, 3, 0] rfl ?_
      obtain ⟨m17, h⟩ := h
      exact fX10_roundOf_L119_ok hf Q P hP   m17 l1 l2 1 A h
    · rw [if_neg c] at h
      refine j_iload_n 2 rfl dX10_roundOf_70 ?_
      refine j_iload_n 3 rfl dX10_roundOf_71 ?_
      refine j_ishr dX10_roundOf_72 ?_
      refine j_iconst (v := 1) dX10_roundOf_73 (by decide) ?_
      refine j_iand dX10_roundOf_74 ?_
      refine j_iconst (v := 1) dX10_roundOf_75 (by decide) ?_
      refine j_icmp_ne (tgt := 111) dX10_roundOf_76 (by decide) (fun c => ?_) (fun c => ?_)
      · rw [if_neg c] at h
        exact fX10_roundOf_J111_ok hf Q P hP (fun x0 x1 x2 x3 => fX10_roundOf_L64   Q n9 x0 x1 x2 x3) (fun x0 x1 x2 x3 h9 => ih x0 x1 x2 x3 h9) l1 l2 l3 A h
      · rw [if_pos c] at h
        refine j_aload_n 0 rfl dX10_roundOf_79 ?_
        refine j_getfr fl_X10_143_9 rfl (m_lt hf (by decide)) (fk_1198 hf) (fg_1198_60 hf) dX10_roundOf_80 ?_
        refine j_bipush (v := 7) dX10_roundOf_83 (by decide) ?_
        refine j_iconst (v := 1) dX10_roundOf_85 (by decide) ?_
        refine j_iload_n 3 rfl dX10_roundOf_86 ?_
        refine j_ishl dX10_roundOf_87 ?_
        refine j_imul dX10_roundOf_88 ?_
        refine j_iload_n 3 rfl dX10_roundOf_89 ?_
        refine j_iadd dX10_roundOf_90 ?_
        refine j_aload_n 0 rfl dX10_roundOf_91 ?_
        refine j_getfr fl_X10_131_9 rfl (m_lt hf (by decide)) (fk_1198 hf) (fg_1198_55 hf) dX10_roundOf_92 ?_
        refine j_bipush (v := 7) dX10_roundOf_95 (by decide) ?_
        refine j_aload_n 0 rfl dX10_roundOf_97 ?_
        refine j_getfr fl_X10_137_9 rfl (m_lt hf (by decide)) (fk_1198 hf) (fg_1198_57 hf) dX10_roundOf_98 ?_
        refine j_bipush (v := 15) dX10_roundOf_101 (by decide) ?_
        refine j_iload_n 1 rfl dX10_roundOf_103 ?_
        refine j_iadd dX10_roundOf_104 ?_
        obtain ⟨b18, h⟩ := h
        refine j_ialdJ (j := (15 + l1).toNatClampNeg) (m_lt hf (by decide)) (fk_1238 hf) b18 rfl dX10_roundOf_105 ?_
        refine j_imul dX10_roundOf_106 ?_
        refine j_iload_n 3 rfl dX10_roundOf_107 ?_
        refine j_iadd dX10_roundOf_108 ?_
        obtain ⟨b19, h⟩ := h
        refine j_ialdJ (j := ((7 * (A 1238 (15 + l1).toNatClampNeg)) + l3).toNatClampNeg) (m_lt hf (by decide)) (fk_1236 hf) b19 rfl dX10_roundOf_109 ?_
        obtain ⟨b20, h⟩ := h
        refine j_iastJ (j := ((7 * ((1 : Int32) <<< (l3 &&& 31))) + l3).toNatClampNeg) (m_lt hf (by decide)) (fk_1240 hf) b20 rfl dX10_roundOf_110 (fun A21 eA21 => ?_)
        replace h := h A21 eA21
        exact fX10_roundOf_J111_ok hf Q P hP (fun x0 x1 x2 x3 => fX10_roundOf_L64   Q n9 x0 x1 x2 x3) (fun x0 x1 x2 x3 h9 => ih x0 x1 x2 x3 h9) l1 l2 l3 A21 h
def fX10_roundOf_L40   (Q : Int32 → pA → Prop) : Nat → Int32 → Int32 → Int32 → pA → Prop
  | 0, _, _, _, _ => False
  | n9 + 1, l1, l2, l3, A =>
    (if 896 ≤ l3 then ∃ m22, fX10_roundOf_L64   Q m22 l1 l2 0 A else (vp_in l3 896) ∧ (∀ A24 : pA, A24 = pup A 1240 (l3).toNatClampNeg 999 → fX10_roundOf_L40   Q n9 l1 l2 (l3 + 1) A24))
theorem fX10_roundOf_L40_ok {Γ : jG} {n : Nat} {K : Nat → pKd} {G : pG} {Lg : pL} (hf : mOK n K G) (Q : Int32 → pA → Prop) (P : jO → pS → Prop) (hP : P = (fun o u => ∃ (r : Int32) (A' : pA), o = .inl (some (.int r)) ∧ u = (n, K, A', Lg, G) ∧ Q r A'))    : ∀ (n9 : Nat) (l1 : Int32) (l2 : Int32) (l3 : Int32) (A : pA), fX10_roundOf_L40   Q n9 l1 l2 l3 A → J Γ RX10 cX10_roundOf 7 (some .int) "roundOf" [] 2 0 0 40 [(0, .ref 1198), (1, .int l1), (2, .int l2), (3, .int l3)] [] (n, K, A, Lg, G) P := by
  intro n9
  induction n9 with
  | zero => intro l1 l2 l3 A h; exact h.elim
  | succ n9 ih =>
    intro l1 l2 l3 A h
    unfold fX10_roundOf_L40 at h
    refine j_iload_n 3 rfl dX10_roundOf_40 ?_
    refine j_sipush (v := 896) dX10_roundOf_41 (by decide) ?_
    refine j_icmp_ge (tgt := 62) dX10_roundOf_44 (by decide) (fun c => ?_) (fun c => ?_)
    · rw [if_pos c] at h
      refine j_iconst (v := 0) dX10_roundOf_62 (by decide) ?_
      refine j_istore_n (by decide) rfl dX10_roundOf_63 ?_
      refine j_ls [1, 2, 3, 0] rfl ?_
      obtain ⟨m22, h⟩ := h
      exact fX10_roundOf_L64_ok hf Q P hP   m22 l1 l2 0 A h
    · rw [if_neg c] at h
      refine j_aload_n 0 rfl dX10_roundOf_47 ?_
      refine j_getfr fl_X10_143_9 rfl (m_lt hf (by decide)) (fk_1198 hf) (fg_1198_60 hf) dX10_roundOf_48 ?_
      refine j_iload_n 3 rfl dX10_roundOf_51 ?_
      refine j_sipush (v := 999) dX10_roundOf_52 (by decide) ?_
      obtain ⟨b23, h⟩ := h
      refine j_iastJ (j := (l3).toNatClampNeg) (m_lt hf (by decide)) (fk_1240 hf) b23 rfl dX10_roundOf_55 (fun A24 eA24 => ?_)
      replace h := h A24 eA24
      refine j_iinc (v := l3 + 1) 3 rfl rfl (by decide) rfl dX10_roundOf_56 ?_
      refine j_goto (tgt := 40) dX10_roundOf_59 (by decide) ?_
      refine j_ls [1, 2, 3, 0] rfl ?_
      exact ih l1 l2 (l3 + 1) A24 h
def fX10_roundOf_L4   (Q : Int32 → pA → Prop) : Nat → Int32 → Int32 → Int32 → pA → Prop
  | 0, _, _, _, _ => False
  | n9 + 1, l1, l2, l3, A =>
    (vp_in (A 1198 18) 2) ∧ ((if (A 1208 (A 1198 18).toNatClampNeg) ≤ l3 then ∃ m26, fX10_roundOf_L40   Q m26 l1 l2 0 A else fX10_errandsLeft A l1 l3 (fun r27 => (if r27 ≤ 0 then fX10_roundOf_J32  (fun x0 x1 x2 x3 => fX10_roundOf_L4   Q n9 x0 x1 x2 x3) Q l1 l2 l3 A else fX10_roundOf_J32  (fun x0 x1 x2 x3 => fX10_roundOf_L4   Q n9 x0 x1 x2 x3) Q l1 (l2 ||| ((1 : Int32) <<< (l3 &&& 31))) l3 A))))
theorem fX10_roundOf_L4_ok {Γ : jG} {n : Nat} {K : Nat → pKd} {G : pG} {Lg : pL} (hf : mOK n K G) (Q : Int32 → pA → Prop) (P : jO → pS → Prop) (hP : P = (fun o u => ∃ (r : Int32) (A' : pA), o = .inl (some (.int r)) ∧ u = (n, K, A', Lg, G) ∧ Q r A'))    : ∀ (n9 : Nat) (l1 : Int32) (l2 : Int32) (l3 : Int32) (A : pA), fX10_roundOf_L4   Q n9 l1 l2 l3 A → J Γ RX10 cX10_roundOf 7 (some .int) "roundOf" [] 2 0 0 4 [(0, .ref 1198), (1, .int l1), (2, .int l2), (3, .int l3)] [] (n, K, A, Lg, G) P := by
  intro n9
  induction n9 with
  | zero => intro l1 l2 l3 A h; exact h.elim
  | succ n9 ih =>
    intro l1 l2 l3 A h
    unfold fX10_roundOf_L4 at h
    refine j_iload_n 3 rfl dX10_roundOf_4 ?_
    refine j_aload_n 0 rfl dX10_roundOf_5 ?_
    refine j_getfr fl_X10_46_9 rfl (m_lt hf (by decide)) (fk_1198 hf) (fg_1198_23 hf) dX10_roundOf_6 ?_
    refine j_aload_n 0 rfl dX10_roundOf_9 ?_
    refine j_getfi fl_X10_242_9 rfl (m_lt hf (by decide)) (fk_1198 hf) dX10_roundOf_10 ?_
    obtain ⟨b25, h⟩ := h
    refine j_ialdJ (j := (A 1198 18).toNatClampNeg) (m_lt hf (by decide)) (fk_1208 hf) b25 rfl dX10_roundOf_13 ?_
    refine j_icmp_ge (tgt := 38) dX10_roundOf_14 (by decide) (fun c => ?_) (fun c => ?_)
    · rw [if_pos c] at h
      refine j_iconst (v := 0) dX10_roundOf_38 (by decide) ?_
      refine j_istore_n (by decide) rfl dX10_roundOf_39 ?_
      refine j_ls [1, 2, 3, 0] rfl ?_
      obtain ⟨m26, h⟩ := h
      exact fX10_roundOf_L40_ok hf Q P hP   m26 l1 l2 0 A h
    · rw [if_neg c] at h
      refine j_aload_n 0 rfl dX10_roundOf_17 ?_
      refine j_iload_n 1 rfl dX10_roundOf_18 ?_
      refine j_iload_n 3 rfl dX10_roundOf_19 ?_
      refine j_callV (b := 1198) (As := [.int l1, .int l3]) (st := []) (C := RX10) (kc' := 0) (ks' := 0) (tX10_errandsLeft hf l1 l3 _ h) myX10_errandsLeft rfl q1903 q1905 qs88 (by decide) (fun s9 H9 hK9 hR9 h69 => jIs_in hK9 hR9 h69 (m_lt hf (by decide)) (fk_1198 hf) rfl) rfl (Nat.le_of_ble_eq_true rfl) rfl (by decide) (Nat.le_refl 0) (Nat.le_refl 0) dX10_roundOf_20 (fun v9 u9 hq => ?_) (fun k9 u9 hq => by obtain ⟨_, e9, _⟩ := hq; cases e9)
      obtain ⟨r27, e9, rfl, h⟩ := hq
      obtain rfl := Sum.inl.inj e9
      show J Γ RX10 cX10_roundOf 7 (some .int) "roundOf" [] 2 0 0 23 [(0, .ref 1198), (1, .int l1), (2, .int l2), (3, .int l3)] [.int r27] (n, K, A, Lg, G) P
      refine j_if_le (tgt := 32) dX10_roundOf_23 (by decide) (fun c => ?_) (fun c => ?_)
      · rw [if_pos c] at h
        exact fX10_roundOf_J32_ok hf Q P hP (fun x0 x1 x2 x3 => fX10_roundOf_L4   Q n9 x0 x1 x2 x3) (fun x0 x1 x2 x3 h9 => ih x0 x1 x2 x3 h9) l1 l2 l3 A h
      · rw [if_neg c] at h
        refine j_iload_n 2 rfl dX10_roundOf_26 ?_
        refine j_iconst (v := 1) dX10_roundOf_27 (by decide) ?_
        refine j_iload_n 3 rfl dX10_roundOf_28 ?_
        refine j_ishl dX10_roundOf_29 ?_
        refine j_ior dX10_roundOf_30 ?_
        refine j_istore_n (by decide) rfl dX10_roundOf_31 ?_
        refine j_ls [1, 2, 0, 3] rfl ?_
        exact fX10_roundOf_J32_ok hf Q P hP (fun x0 x1 x2 x3 => fX10_roundOf_L4   Q n9 x0 x1 x2 x3) (fun x0 x1 x2 x3 h9 => ih x0 x1 x2 x3 h9) l1 (l2 ||| ((1 : Int32) <<< (l3 &&& 31))) l3 A h
def fX10_roundOf (A : pA) (p1 : Int32) (Q : Int32 → pA → Prop) : Prop :=
    ∃ m28, fX10_roundOf_L4   Q m28 p1 0 0 A
theorem tX10_roundOf {Γ : jG} {n : Nat} {K : Nat → pKd} {G : pG} {Lg : pL} (hf : mOK n K G) {A : pA} (p1 : Int32) (Q : Int32 → pA → Prop) (h : fX10_roundOf A p1 Q) : jMet Γ yX10_roundOf cX10_roundOf 7 (some .int) [] 2 0 0 [.ref 1198, .int p1] (n, K, A, Lg, G) (fun o u => ∃ (r : Int32) (A' : pA), o = .inl (some (.int r)) ∧ u = (n, K, A', Lg, G) ∧ Q r A') := by
  unfold fX10_roundOf at h
  obtain ⟨P, hP⟩ : ∃ P : jO → pS → Prop, P = (fun o u => ∃ (r : Int32) (A' : pA), o = .inl (some (.int r)) ∧ u = (n, K, A', Lg, G) ∧ Q r A') := ⟨_, rfl⟩
  rw [← hP]
  refine jMet_of rfl rfl rfl (Nat.le_of_ble_eq_true rfl) ?_
  show J Γ RX10 cX10_roundOf 7 (some .int) "roundOf" [] 2 0 0 0 [(0, .ref 1198), (1, .int p1)] [] (n, K, A, Lg, G) P
  refine j_iconst (v := 0) dX10_roundOf_0 (by decide) ?_
  refine j_istore_n (by decide) rfl dX10_roundOf_1 ?_
  refine j_iconst (v := 0) dX10_roundOf_2 (by decide) ?_
  refine j_istore_n (by decide) rfl dX10_roundOf_3 ?_
  refine j_ls [2, 3, 1, 0] rfl ?_
  obtain ⟨m28, h⟩ := h
  exact fX10_roundOf_L4_ok hf Q P hP   m28 p1 0 0 A h
theorem myX10_round : jY yX10_round cX10_round 4 (some .int) 2 := ⟨q2050, q139, by decide +kernel, by decide +kernel, by decide⟩
def fX10_round (A : pA) (p1 : Int32) (p2 : Int32) (Q : Int32 → pA → Prop) : Prop :=
    fX10_isPerson A p1 (fun r1 => (if r1 = 0 then Q (-1) A else fX10_in A p2 0 1 (fun r2 => (if r2 = 0 then Q (-1) A else fX10_copies A (fun A3 => fX10_roundOf A3 p1 (fun r4 A5 => (if r4 < 99 then (if p2 = 0 then Q r4 A5 else fX10_isHour A5 (fun r6 => (if r6 = 0 then fX10_tillNext A5 (fun r7 => (if r7 < r4 then Q 0 A5 else Q 1 A5)) else Q 0 A5))) else Q (-2) A5)))))))
theorem tX10_round {Γ : jG} {n : Nat} {K : Nat → pKd} {G : pG} {Lg : pL} (hf : mOK n K G) {A : pA} (p1 : Int32) (p2 : Int32) (Q : Int32 → pA → Prop) (h : fX10_round A p1 p2 Q) : jMet Γ yX10_round cX10_round 4 (some .int) [] 3 0 0 [.ref 1198, .int p1, .int p2] (n, K, A, Lg, G) (fun o u => ∃ (r : Int32) (A' : pA), o = .inl (some (.int r)) ∧ u = (n, K, A', Lg, G) ∧ Q r A') := by
  unfold fX10_round at h
  obtain ⟨P, hP⟩ : ∃ P : jO → pS → Prop, P = (fun o u => ∃ (r : Int32) (A' : pA), o = .inl (some (.int r)) ∧ u = (n, K, A', Lg, G) ∧ Q r A') := ⟨_, rfl⟩
  rw [← hP]
  refine jMet_of rfl rfl rfl (Nat.le_of_ble_eq_true rfl) ?_
  show J Γ RX10 cX10_round 4 (some .int) "round" [] 3 0 0 0 [(0, .ref 1198), (1, .int p1), (2, .int p2)] [] (n, K, A, Lg, G) P
  refine j_aload_n 0 rfl dX10_round_0 ?_
  refine j_iload_n 1 rfl dX10_round_1 ?_
  refine j_callV (b := 1198) (As := [.int p1]) (st := []) (C := RX10) (kc' := 0) (ks' := 0) (tX10_isPerson hf p1 _ h) myX10_isPerson rfl q1919 q1921 qs90 (by decide) (fun s9 H9 hK9 hR9 h69 => jIs_in hK9 hR9 h69 (m_lt hf (by decide)) (fk_1198 hf) rfl) rfl (Nat.le_of_ble_eq_true rfl) rfl (by decide) (Nat.le_refl 0) (Nat.le_refl 0) dX10_round_2 (fun v9 u9 hq => ?_) (fun k9 u9 hq => by obtain ⟨_, e9, _⟩ := hq; cases e9)
  obtain ⟨r1, e9, rfl, h⟩ := hq
  obtain rfl := Sum.inl.inj e9
  show J Γ RX10 cX10_round 4 (some .int) "round" [] 3 0 0 5 [(0, .ref 1198), (1, .int p1), (2, .int p2)] [.int r1] (n, K, A, Lg, G) P
  refine j_if_eq (tgt := 17) dX10_round_5 (by decide) (fun c => ?_) (fun c => ?_)
  · rw [if_pos c] at h
    refine j_iconst (v := (-1)) dX10_round_17 (by decide) ?_
    refine j_iret rfl ?_ dX10_round_18
    rw [hP]
    exact ⟨(-1), A, rfl, rfl, h⟩
  · rw [if_neg c] at h
    refine j_iload_n 2 rfl dX10_round_8 ?_
    refine j_iconst (v := 0) dX10_round_9 (by decide) ?_
    refine j_iconst (v := 1) dX10_round_10 (by decide) ?_
    refine j_callS (As := [.int p2, .int 0, .int 1]) (st := []) (kc' := 0) (ks' := 0) (tX10_in hf p2 0 1 _ h) myX10_in q1892 q1893 rfl (Nat.le_of_ble_eq_true rfl) rfl (by decide) (Nat.le_refl 0) (Nat.le_refl 0) dX10_round_11 (fun v9 u9 hq => ?_) (fun k9 u9 hq => by obtain ⟨_, e9, _⟩ := hq; cases e9)
    obtain ⟨r2, e9, rfl, h⟩ := hq
    obtain rfl := Sum.inl.inj e9
    show J Γ RX10 cX10_round 4 (some .int) "round" [] 3 0 0 14 [(0, .ref 1198), (1, .int p1), (2, .int p2)] [.int r2] (n, K, A, Lg, G) P
    refine j_if_ne (tgt := 19) dX10_round_14 (by decide) (fun c => ?_) (fun c => ?_)
    · rw [if_neg c] at h
      refine j_aload_n 0 rfl dX10_round_19 ?_
      refine j_callV (b := 1198) (As := []) (st := []) (C := RX10) (kc' := 0) (ks' := 0) (tX10_copies hf  _ h) myX10_copies rfl q1895 q1897 qs86 (by decide) (fun s9 H9 hK9 hR9 h69 => jIs_in hK9 hR9 h69 (m_lt hf (by decide)) (fk_1198 hf) rfl) rfl (Nat.le_of_ble_eq_true rfl) rfl (by decide) (Nat.le_refl 0) (Nat.le_refl 0) dX10_round_20 (fun v9 u9 hq => ?_) (fun k9 u9 hq => by obtain ⟨_, e9, _⟩ := hq; cases e9)
      obtain ⟨A3, e9, rfl, h⟩ := hq
      obtain rfl := Sum.inl.inj e9
      show J Γ RX10 cX10_round 4 (some .int) "round" [] 3 0 0 23 [(0, .ref 1198), (1, .int p1), (2, .int p2)] [] (n, K, A3, Lg, G) P
      refine j_aload_n 0 rfl dX10_round_23 ?_
      refine j_iload_n 1 rfl dX10_round_24 ?_
      refine j_callV (b := 1198) (As := [.int p1]) (st := []) (C := RX10) (kc' := 0) (ks' := 0) (tX10_roundOf hf p1 _ h) myX10_roundOf rfl q2051 q2053 qs113 (by decide) (fun s9 H9 hK9 hR9 h69 => jIs_in hK9 hR9 h69 (m_lt hf (by decide)) (fk_1198 hf) rfl) rfl (Nat.le_of_ble_eq_true rfl) rfl (by decide) (Nat.le_refl 0) (Nat.le_refl 0) dX10_round_25 (fun v9 u9 hq => ?_) (fun k9 u9 hq => by obtain ⟨_, _, e9, _⟩ := hq; cases e9)
      obtain ⟨r4, A5, e9, rfl, h⟩ := hq
      obtain rfl := Sum.inl.inj e9
      show J Γ RX10 cX10_round 4 (some .int) "round" [] 3 0 0 28 [(0, .ref 1198), (1, .int p1), (2, .int p2)] [.int r4] (n, K, A5, Lg, G) P
      refine j_istore_n (by decide) rfl dX10_round_28 ?_
      refine j_iload_n 0 rfl dX10_round_29 ?_
      refine j_bipush (v := 99) dX10_round_30 (by decide) ?_
      refine j_icmp_lt (tgt := 38) dX10_round_32 (by decide) (fun c => ?_) (fun c => ?_)
      · rw [if_pos c] at h
        refine j_iload_n 3 rfl dX10_round_38 ?_
        refine j_if_ne (tgt := 46) dX10_round_39 (by decide) (fun c => ?_) (fun c => ?_)
        · rw [if_neg c] at h
          refine j_aload_n 1 rfl dX10_round_46 ?_
          refine j_callV (b := 1198) (As := []) (st := []) (C := RX10) (kc' := 0) (ks' := 0) (tX10_isHour hf  _ h) myX10_isHour rfl q2007 q2009 qs106 (by decide) (fun s9 H9 hK9 hR9 h69 => jIs_in hK9 hR9 h69 (m_lt hf (by decide)) (fk_1198 hf) rfl) rfl (Nat.le_of_ble_eq_true rfl) rfl (by decide) (Nat.le_refl 0) (Nat.le_refl 0) dX10_round_47 (fun v9 u9 hq => ?_) (fun k9 u9 hq => by obtain ⟨_, e9, _⟩ := hq; cases e9)
          obtain ⟨r6, e9, rfl, h⟩ := hq
          obtain rfl := Sum.inl.inj e9
          show J Γ RX10 cX10_round 4 (some .int) "round" [] 3 0 0 50 [(3, .int r4), (0, .ref 1198), (1, .int p1), (2, .int p2)] [.int r6] (n, K, A5, Lg, G) P
          refine j_if_ne (tgt := 65) dX10_round_50 (by decide) (fun c => ?_) (fun c => ?_)
          · rw [if_neg c] at h
            refine j_iconst (v := 0) dX10_round_65 (by decide) ?_
            refine j_iret rfl ?_ dX10_round_66
            rw [hP]
            exact ⟨0, A5, rfl, rfl, h⟩
          · rw [if_pos c] at h
            refine j_iload_n 0 rfl dX10_round_53 ?_
            refine j_aload_n 1 rfl dX10_round_54 ?_
            refine j_callV (b := 1198) (As := []) (st := [.int r4]) (C := RX10) (kc' := 0) (ks' := 0) (tX10_tillNext hf  _ h) myX10_tillNext rfl q2043 q2045 qs112 (by decide) (fun s9 H9 hK9 hR9 h69 => jIs_in hK9 hR9 h69 (m_lt hf (by decide)) (fk_1198 hf) rfl) rfl (Nat.le_of_ble_eq_true rfl) rfl (by decide) (Nat.le_refl 0) (Nat.le_refl 0) dX10_round_55 (fun v9 u9 hq => ?_) (fun k9 u9 hq => by obtain ⟨_, e9, _⟩ := hq; cases e9)
            obtain ⟨r7, e9, rfl, h⟩ := hq
            obtain rfl := Sum.inl.inj e9
            show J Γ RX10 cX10_round 4 (some .int) "round" [] 3 0 0 58 [(3, .int r4), (0, .ref 1198), (1, .int p1), (2, .int p2)] [.int r7, .int r4] (n, K, A5, Lg, G) P
            refine j_icmp_gt (tgt := 65) dX10_round_58 (by decide) (fun c => ?_) (fun c => ?_)
            · rw [if_pos c] at h
              refine j_iconst (v := 0) dX10_round_65 (by decide) ?_
              refine j_iret rfl ?_ dX10_round_66
              rw [hP]
              exact ⟨0, A5, rfl, rfl, h⟩
            · rw [if_neg c] at h
              refine j_iconst (v := 1) dX10_round_61 (by decide) ?_
              refine j_goto (tgt := 66) dX10_round_62 (by decide) ?_
              refine j_iret rfl ?_ dX10_round_66
              rw [hP]
              exact ⟨1, A5, rfl, rfl, h⟩
        · rw [if_pos c] at h
          refine j_iload_n 0 rfl dX10_round_42 ?_
          refine j_goto (tgt := 66) dX10_round_43 (by decide) ?_
          refine j_iret rfl ?_ dX10_round_66
          rw [hP]
          exact ⟨r4, A5, rfl, rfl, h⟩
      · rw [if_neg c] at h
        refine j_bipush (v := (-2)) dX10_round_35 (by decide) ?_
        refine j_iret rfl ?_ dX10_round_37
        rw [hP]
        exact ⟨(-2), A5, rfl, rfl, h⟩
    · rw [if_pos c] at h
      refine j_iconst (v := (-1)) dX10_round_17 (by decide) ?_
      refine j_iret rfl ?_ dX10_round_18
      rw [hP]
      exact ⟨(-1), A, rfl, rfl, h⟩
theorem myX10_minds : jY yX10_minds cX10_minds 2 (some .int) 1 := ⟨q2058, q139, by decide +kernel, by decide +kernel, by decide⟩
def fX10_minds (A : pA) (p1 : Int32) (Q : Int32 → pA → Prop) : Prop :=
    fX10_isDog A p1 (fun r1 => (if r1 = 0 then Q (-1) A else fX10_copies A (fun A2 => fX10_mindsNow A2 p1 (fun r3 A4 => Q r3 A4))))
theorem tX10_minds {Γ : jG} {n : Nat} {K : Nat → pKd} {G : pG} {Lg : pL} (hf : mOK n K G) {A : pA} (p1 : Int32) (Q : Int32 → pA → Prop) (h : fX10_minds A p1 Q) : jMet Γ yX10_minds cX10_minds 2 (some .int) [] 5 0 0 [.ref 1198, .int p1] (n, K, A, Lg, G) (fun o u => ∃ (r : Int32) (A' : pA), o = .inl (some (.int r)) ∧ u = (n, K, A', Lg, G) ∧ Q r A') := by
  unfold fX10_minds at h
  obtain ⟨P, hP⟩ : ∃ P : jO → pS → Prop, P = (fun o u => ∃ (r : Int32) (A' : pA), o = .inl (some (.int r)) ∧ u = (n, K, A', Lg, G) ∧ Q r A') := ⟨_, rfl⟩
  rw [← hP]
  refine jMet_of rfl rfl rfl (Nat.le_of_ble_eq_true rfl) ?_
  show J Γ RX10 cX10_minds 2 (some .int) "minds" [] 5 0 0 0 [(0, .ref 1198), (1, .int p1)] [] (n, K, A, Lg, G) P
  refine j_aload_n 0 rfl dX10_minds_0 ?_
  refine j_iload_n 1 rfl dX10_minds_1 ?_
  refine j_callV (b := 1198) (As := [.int p1]) (st := []) (C := RX10) (kc' := 0) (ks' := 0) (tX10_isDog hf p1 _ h) myX10_isDog rfl q1911 q1913 qs89 (by decide) (fun s9 H9 hK9 hR9 h69 => jIs_in hK9 hR9 h69 (m_lt hf (by decide)) (fk_1198 hf) rfl) rfl (Nat.le_of_ble_eq_true rfl) rfl (by decide) (Nat.le_refl 0) (Nat.le_refl 0) dX10_minds_2 (fun v9 u9 hq => ?_) (fun k9 u9 hq => by obtain ⟨_, e9, _⟩ := hq; cases e9)
  obtain ⟨r1, e9, rfl, h⟩ := hq
  obtain rfl := Sum.inl.inj e9
  show J Γ RX10 cX10_minds 2 (some .int) "minds" [] 5 0 0 5 [(0, .ref 1198), (1, .int p1)] [.int r1] (n, K, A, Lg, G) P
  refine j_if_ne (tgt := 10) dX10_minds_5 (by decide) (fun c => ?_) (fun c => ?_)
  · rw [if_neg c] at h
    refine j_aload_n 0 rfl dX10_minds_10 ?_
    refine j_callV (b := 1198) (As := []) (st := []) (C := RX10) (kc' := 0) (ks' := 0) (tX10_copies hf  _ h) myX10_copies rfl q1895 q1897 qs86 (by decide) (fun s9 H9 hK9 hR9 h69 => jIs_in hK9 hR9 h69 (m_lt hf (by decide)) (fk_1198 hf) rfl) rfl (Nat.le_of_ble_eq_true rfl) rfl (by decide) (Nat.le_refl 0) (Nat.le_refl 0) dX10_minds_11 (fun v9 u9 hq => ?_) (fun k9 u9 hq => by obtain ⟨_, e9, _⟩ := hq; cases e9)
    obtain ⟨A2, e9, rfl, h⟩ := hq
    obtain rfl := Sum.inl.inj e9
    show J Γ RX10 cX10_minds 2 (some .int) "minds" [] 5 0 0 14 [(0, .ref 1198), (1, .int p1)] [] (n, K, A2, Lg, G) P
    refine j_aload_n 0 rfl dX10_minds_14 ?_
    refine j_iload_n 1 rfl dX10_minds_15 ?_
    refine j_callV (b := 1198) (As := [.int p1]) (st := []) (C := RX10) (kc' := 0) (ks' := 0) (tX10_mindsNow hf p1 _ h) myX10_mindsNow rfl q2019 q2021 qs109 (by decide) (fun s9 H9 hK9 hR9 h69 => jIs_in hK9 hR9 h69 (m_lt hf (by decide)) (fk_1198 hf) rfl) rfl (Nat.le_of_ble_eq_true rfl) rfl (by decide) (Nat.le_refl 0) (Nat.le_refl 0) dX10_minds_16 (fun v9 u9 hq => ?_) (fun k9 u9 hq => by obtain ⟨_, _, e9, _⟩ := hq; cases e9)
    obtain ⟨r3, A4, e9, rfl, h⟩ := hq
    obtain rfl := Sum.inl.inj e9
    show J Γ RX10 cX10_minds 2 (some .int) "minds" [] 5 0 0 19 [(0, .ref 1198), (1, .int p1)] [.int r3] (n, K, A4, Lg, G) P
    refine j_iret rfl ?_ dX10_minds_19
    rw [hP]
    exact ⟨r3, A4, rfl, rfl, h⟩
  · rw [if_pos c] at h
    refine j_iconst (v := (-1)) dX10_minds_8 (by decide) ?_
    refine j_iret rfl ?_ dX10_minds_9
    rw [hP]
    exact ⟨(-1), A, rfl, rfl, h⟩
theorem myX10_feeding : jY yX10_feeding cX10_feeding 5 (some .int) 1 := ⟨q2062, q139, by decide +kernel, by decide +kernel, by decide⟩
def fX10_feeding_J66 (A : pA) (k14 : Int32 → Int32 → Int32 → Prop) (Q : Int32 → Prop) (l1 : Int32) (l2 : Int32) (l3 : Int32) : Prop :=
    k14 l1 l2 (l3 + 1)
theorem fX10_feeding_J66_ok {Γ : jG} {n : Nat} {K : Nat → pKd} {G : pG} {A : pA} {Lg : pL} (hf : mOK n K G) (Q : Int32 → Prop) (P : jO → pS → Prop) (hP : P = (fun o u => ∃ (r : Int32), o = .inl (some (.int r)) ∧ u = (n, K, A, Lg, G) ∧ Q r)) (k14 : Int32 → Int32 → Int32 → Prop) (ok14 : ∀ (l1 : Int32) (l2 : Int32) (l3 : Int32), k14 l1 l2 l3 → J Γ RX10 cX10_feeding 5 (some .int) "feeding" [] 3 0 0 14 [(0, .ref 1198), (1, .int l1), (2, .int l2), (3, .int l3)] [] (n, K, A, Lg, G) P) (l1 : Int32) (l2 : Int32) (l3 : Int32) (h : fX10_feeding_J66 A k14 Q l1 l2 l3) : J Γ RX10 cX10_feeding 5 (some .int) "feeding" [] 3 0 0 66 [(0, .ref 1198), (1, .int l1), (2, .int l2), (3, .int l3)] [] (n, K, A, Lg, G) P := by
  unfold fX10_feeding_J66 at h
  refine j_iinc (v := l3 + 1) 3 rfl rfl (by decide) rfl dX10_feeding_66 ?_
  refine j_goto (tgt := 14) dX10_feeding_69 (by decide) ?_
  refine j_ls [1, 2, 3, 0] rfl ?_
  exact ok14 l1 l2 (l3 + 1) h
def fX10_feeding_L14 (A : pA)  (Q : Int32 → Prop) : Nat → Int32 → Int32 → Int32 → Prop
  | 0, _, _, _ => False
  | n9 + 1, l1, l2, l3 =>
    (vp_in (A 1198 18) 2) ∧ ((if (A 1211 (A 1198 18).toNatClampNeg) ≤ l3 then Q l2 else (vp_in ((55 + (4 * l3)) + l1) 77) ∧ ((vp_in ((35 + (4 * l3)) + l1) 77) ∧ ((if ((A 1237 ((55 + (4 * l3)) + l1).toNatClampNeg) - (A 1237 ((35 + (4 * l3)) + l1).toNatClampNeg)) ≤ 0 then fX10_feeding_J66 A (fun x0 x1 x2 => fX10_feeding_L14 A  Q n9 x0 x1 x2) Q l1 l2 l3 else fX10_feeding_J66 A (fun x0 x1 x2 => fX10_feeding_L14 A  Q n9 x0 x1 x2) Q l1 (l2 + ((A 1237 ((55 + (4 * l3)) + l1).toNatClampNeg) - (A 1237 ((35 + (4 * l3)) + l1).toNatClampNeg))) l3)))))
theorem fX10_feeding_L14_ok {Γ : jG} {n : Nat} {K : Nat → pKd} {G : pG} {A : pA} {Lg : pL} (hf : mOK n K G) (Q : Int32 → Prop) (P : jO → pS → Prop) (hP : P = (fun o u => ∃ (r : Int32), o = .inl (some (.int r)) ∧ u = (n, K, A, Lg, G) ∧ Q r))    : ∀ (n9 : Nat) (l1 : Int32) (l2 : Int32) (l3 : Int32), fX10_feeding_L14 A  Q n9 l1 l2 l3 → J Γ RX10 cX10_feeding 5 (some .int) "feeding" [] 3 0 0 14 [(0, .ref 1198), (1, .int l1), (2, .int l2), (3, .int l3)] [] (n, K, A, Lg, G) P := by
  intro n9
  induction n9 with
  | zero => intro l1 l2 l3 h; exact h.elim
  | succ n9 ih =>
    intro l1 l2 l3 h
    unfold fX10_feeding_L14 at h
    refine j_iload_n 3 rfl dX10_feeding_14 ?_
    refine j_aload_n 0 rfl dX10_feeding_15 ?_
    refine j_getfr fl_X10_55_9 rfl (m_lt hf (by decide)) (fk_1198 hf) (fg_1198_26 hf) dX10_feeding_16 ?_
    refine j_aload_n 0 rfl dX10_feeding_19 ?_
    refine j_getfi fl_X10_242_9 rfl (m_lt hf (by decide)) (fk_1198 hf) dX10_feeding_20 ?_
    obtain ⟨b1, h⟩ := h
    refine j_ialdJ (j := (A 1198 18).toNatClampNeg) (m_lt hf (by decide)) (fk_1211 hf) b1 rfl dX10_feeding_23 ?_
    refine j_icmp_ge (tgt := 72) dX10_feeding_24 (by decide) (fun c => ?_) (fun c => ?_)
    · rw [if_pos c] at h
      refine j_iload_n 2 rfl dX10_feeding_72 ?_
      refine j_iret rfl ?_ dX10_feeding_73
      rw [hP]
      exact ⟨l2, rfl, rfl, h⟩
    · rw [if_neg c] at h
      refine j_aload_n 0 rfl dX10_feeding_27 ?_
      refine j_getfr fl_X10_134_9 rfl (m_lt hf (by decide)) (fk_1198 hf) (fg_1198_56 hf) dX10_feeding_28 ?_
      refine j_bipush (v := 55) dX10_feeding_31 (by decide) ?_
      refine j_iconst (v := 4) dX10_feeding_33 (by decide) ?_
      refine j_iload_n 3 rfl dX10_feeding_34 ?_
      refine j_imul dX10_feeding_35 ?_
      refine j_iadd dX10_feeding_36 ?_
      refine j_iload_n 1 rfl dX10_feeding_37 ?_
      refine j_iadd dX10_feeding_38 ?_
      obtain ⟨b2, h⟩ := h
      refine j_ialdJ (j := ((55 + (4 * l3)) + l1).toNatClampNeg) (m_lt hf (by decide)) (fk_1237 hf) b2 rfl dX10_feeding_39 ?_
      refine j_aload_n 0 rfl dX10_feeding_40 ?_
      refine j_getfr fl_X10_134_9 rfl (m_lt hf (by decide)) (fk_1198 hf) (fg_1198_56 hf) dX10_feeding_41 ?_
      refine j_bipush (v := 35) dX10_feeding_44 (by decide) ?_
      refine j_iconst (v := 4) dX10_feeding_46 (by decide) ?_
      refine j_iload_n 3 rfl dX10_feeding_47 ?_
      refine j_imul dX10_feeding_48 ?_
      refine j_iadd dX10_feeding_49 ?_
      refine j_iload_n 1 rfl dX10_feeding_50 ?_
      refine j_iadd dX10_feeding_51 ?_
      obtain ⟨b3, h⟩ := h
      refine j_ialdJ (j := ((35 + (4 * l3)) + l1).toNatClampNeg) (m_lt hf (by decide)) (fk_1237 hf) b3 rfl dX10_feeding_52 ?_
      refine j_isub dX10_feeding_53 ?_
      refine j_istore (by decide) rfl dX10_feeding_54 ?_
      refine j_iload 0 rfl dX10_feeding_56 ?_
      refine j_if_le (tgt := 66) dX10_feeding_58 (by decide) (fun c => ?_) (fun c => ?_)
      · rw [if_pos c] at h
        refine j_ls [1, 2, 3, 4] rfl ?_
        exact fX10_feeding_J66_ok hf Q P hP (fun x0 x1 x2 => fX10_feeding_L14 A  Q n9 x0 x1 x2) (fun x0 x1 x2 h9 => ih x0 x1 x2 h9) l1 l2 l3 h
      · rw [if_neg c] at h
        refine j_iload_n 3 rfl dX10_feeding_61 ?_
        refine j_iload 0 rfl dX10_feeding_62 ?_
        refine j_iadd dX10_feeding_64 ?_
        refine j_istore_n (by decide) rfl dX10_feeding_65 ?_
        refine j_ls [2, 3, 0, 4] rfl ?_
        exact fX10_feeding_J66_ok hf Q P hP (fun x0 x1 x2 => fX10_feeding_L14 A  Q n9 x0 x1 x2) (fun x0 x1 x2 h9 => ih x0 x1 x2 h9) l1 (l2 + ((A 1237 ((55 + (4 * l3)) + l1).toNatClampNeg) - (A 1237 ((35 + (4 * l3)) + l1).toNatClampNeg))) l3 h
def fX10_feeding (A : pA) (p1 : Int32) (Q : Int32 → Prop) : Prop :=
    fX10_isPerson A p1 (fun r4 => (if r4 = 0 then Q (-1) else ∃ m5, fX10_feeding_L14 A  Q m5 p1 0 0))
theorem tX10_feeding {Γ : jG} {n : Nat} {K : Nat → pKd} {G : pG} {Lg : pL} (hf : mOK n K G) {A : pA} (p1 : Int32) (Q : Int32 → Prop) (h : fX10_feeding A p1 Q) : jMet Γ yX10_feeding cX10_feeding 5 (some .int) [] 3 0 0 [.ref 1198, .int p1] (n, K, A, Lg, G) (fun o u => ∃ (r : Int32), o = .inl (some (.int r)) ∧ u = (n, K, A, Lg, G) ∧ Q r) := by
  unfold fX10_feeding at h
  obtain ⟨P, hP⟩ : ∃ P : jO → pS → Prop, P = (fun o u => ∃ (r : Int32), o = .inl (some (.int r)) ∧ u = (n, K, A, Lg, G) ∧ Q r) := ⟨_, rfl⟩
  rw [← hP]
  refine jMet_of rfl rfl rfl (Nat.le_of_ble_eq_true rfl) ?_
  show J Γ RX10 cX10_feeding 5 (some .int) "feeding" [] 3 0 0 0 [(0, .ref 1198), (1, .int p1)] [] (n, K, A, Lg, G) P
  refine j_aload_n 0 rfl dX10_feeding_0 ?_
  refine j_iload_n 1 rfl dX10_feeding_1 ?_
  refine j_callV (b := 1198) (As := [.int p1]) (st := []) (C := RX10) (kc' := 0) (ks' := 0) (tX10_isPerson hf p1 _ h) myX10_isPerson rfl q1919 q1921 qs90 (by decide) (fun s9 H9 hK9 hR9 h69 => jIs_in hK9 hR9 h69 (m_lt hf (by decide)) (fk_1198 hf) rfl) rfl (Nat.le_of_ble_eq_true rfl) rfl (by decide) (Nat.le_refl 0) (Nat.le_refl 0) dX10_feeding_2 (fun v9 u9 hq => ?_) (fun k9 u9 hq => by obtain ⟨_, e9, _⟩ := hq; cases e9)
  obtain ⟨r4, e9, rfl, h⟩ := hq
  obtain rfl := Sum.inl.inj e9
  show J Γ RX10 cX10_feeding 5 (some .int) "feeding" [] 3 0 0 5 [(0, .ref 1198), (1, .int p1)] [.int r4] (n, K, A, Lg, G) P
  refine j_if_ne (tgt := 10) dX10_feeding_5 (by decide) (fun c => ?_) (fun c => ?_)
  · rw [if_neg c] at h
    refine j_iconst (v := 0) dX10_feeding_10 (by decide) ?_
    refine j_istore_n (by decide) rfl dX10_feeding_11 ?_
    refine j_iconst (v := 0) dX10_feeding_12 (by decide) ?_
    refine j_istore_n (by decide) rfl dX10_feeding_13 ?_
    refine j_ls [2, 3, 1, 0] rfl ?_
    obtain ⟨m5, h⟩ := h
    exact fX10_feeding_L14_ok hf Q P hP   m5 p1 0 0 h
  · rw [if_pos c] at h
    refine j_iconst (v := (-1)) dX10_feeding_8 (by decide) ?_
    refine j_iret rfl ?_ dX10_feeding_9
    rw [hP]
    exact ⟨(-1), rfl, rfl, h⟩
theorem myX10_nextHour : jY yX10_nextHour cX10_nextHour 2 none 0 := ⟨q2074, q139, by decide +kernel, by decide +kernel, by decide⟩
def fX10_nextHour_L20   (Q : pA → Prop) : Nat → Int32 → pA → Prop
  | 0, _, _ => False
  | n9 + 1, l1, A =>
    (if 4 ≤ l1 then (vp_in (A 1198 18) 2) ∧ ((vp_in (A 1198 18) 2) ∧ (fX10_goes A ((A 1222 (A 1198 18).toNatClampNeg) - (A 1221 (A 1198 18).toNatClampNeg)) (fun A3 => Q A3))) else (vp_in (19 + l1) 77) ∧ (∀ A5 : pA, A5 = pup A 1238 (19 + l1).toNatClampNeg (-2) → fX10_nextHour_L20   Q n9 (l1 + 1) A5))
theorem fX10_nextHour_L20_ok {Γ : jG} {n : Nat} {K : Nat → pKd} {G : pG} {Lg : pL} (hf : mOK n K G) (Q : pA → Prop) (P : jO → pS → Prop) (hP : P = (fun o u => ∃ (A' : pA), o = .inl none ∧ u = (n, K, A', Lg, G) ∧ Q A'))    : ∀ (n9 : Nat) (l1 : Int32) (A : pA), fX10_nextHour_L20   Q n9 l1 A → J Γ RX10 cX10_nextHour 2 none "nextHour" [] 8 0 0 20 [(0, .ref 1198), (1, .int l1)] [] (n, K, A, Lg, G) P := by
  intro n9
  induction n9 with
  | zero => intro l1 A h; exact h.elim
  | succ n9 ih =>
    intro l1 A h
    unfold fX10_nextHour_L20 at h
    refine j_iload_n 1 rfl dX10_nextHour_20 ?_
    refine j_iconst (v := 4) dX10_nextHour_21 (by decide) ?_
    refine j_icmp_ge (tgt := 42) dX10_nextHour_22 (by decide) (fun c => ?_) (fun c => ?_)
    · rw [if_pos c] at h
      refine j_aload_n 0 rfl dX10_nextHour_42 ?_
      refine j_aload_n 0 rfl dX10_nextHour_43 ?_
      refine j_getfr fl_X10_88_9 rfl (m_lt hf (by decide)) (fk_1198 hf) (fg_1198_37 hf) dX10_nextHour_44 ?_
      refine j_aload_n 0 rfl dX10_nextHour_47 ?_
      refine j_getfi fl_X10_242_9 rfl (m_lt hf (by decide)) (fk_1198 hf) dX10_nextHour_48 ?_
      obtain ⟨b1, h⟩ := h
      refine j_ialdJ (j := (A 1198 18).toNatClampNeg) (m_lt hf (by decide)) (fk_1222 hf) b1 rfl dX10_nextHour_51 ?_
      refine j_aload_n 0 rfl dX10_nextHour_52 ?_
      refine j_getfr fl_X10_85_9 rfl (m_lt hf (by decide)) (fk_1198 hf) (fg_1198_36 hf) dX10_nextHour_53 ?_
      refine j_aload_n 0 rfl dX10_nextHour_56 ?_
      refine j_getfi fl_X10_242_9 rfl (m_lt hf (by decide)) (fk_1198 hf) dX10_nextHour_57 ?_
      obtain ⟨b2, h⟩ := h
      refine j_ialdJ (j := (A 1198 18).toNatClampNeg) (m_lt hf (by decide)) (fk_1221 hf) b2 rfl dX10_nextHour_60 ?_
      refine j_isub dX10_nextHour_61 ?_
      refine j_callV (b := 1198) (As := [.int ((A 1222 (A 1198 18).toNatClampNeg) - (A 1221 (A 1198 18).toNatClampNeg))]) (st := []) (C := RX10) (kc' := 0) (ks' := 0) (tX10_goes hf ((A 1222 (A 1198 18).toNatClampNeg) - (A 1221 (A 1198 18).toNatClampNeg)) _ h) myX10_goes rfl q1991 q1993 qs102 (by decide) (fun s9 H9 hK9 hR9 h69 => jIs_in hK9 hR9 h69 (m_lt hf (by decide)) (fk_1198 hf) rfl) rfl (Nat.le_of_ble_eq_true rfl) rfl (by decide) (Nat.le_refl 0) (Nat.le_refl 0) dX10_nextHour_62 (fun v9 u9 hq => ?_) (fun k9 u9 hq => by obtain ⟨_, e9, _⟩ := hq; cases e9)
      obtain ⟨A3, e9, rfl, h⟩ := hq
      obtain rfl := Sum.inl.inj e9
      show J Γ RX10 cX10_nextHour 2 none "nextHour" [] 8 0 0 65 [(0, .ref 1198), (1, .int l1)] [] (n, K, A3, Lg, G) P
      refine j_vret rfl ?_ dX10_nextHour_65
      rw [hP]
      exact ⟨A3, rfl, rfl, h⟩
    · rw [if_neg c] at h
      refine j_aload_n 0 rfl dX10_nextHour_25 ?_
      refine j_getfr fl_X10_137_9 rfl (m_lt hf (by decide)) (fk_1198 hf) (fg_1198_57 hf) dX10_nextHour_26 ?_
      refine j_bipush (v := 19) dX10_nextHour_29 (by decide) ?_
      refine j_iload_n 1 rfl dX10_nextHour_31 ?_
      refine j_iadd dX10_nextHour_32 ?_
      refine j_bipush (v := (-2)) dX10_nextHour_33 (by decide) ?_
      obtain ⟨b4, h⟩ := h
      refine j_iastJ (j := (19 + l1).toNatClampNeg) (m_lt hf (by decide)) (fk_1238 hf) b4 rfl dX10_nextHour_35 (fun A5 eA5 => ?_)
      replace h := h A5 eA5
      refine j_iinc (v := l1 + 1) 1 rfl rfl (by decide) rfl dX10_nextHour_36 ?_
      refine j_goto (tgt := 20) dX10_nextHour_39 (by decide) ?_
      refine j_ls [1, 0] rfl ?_
      exact ih (l1 + 1) A5 h
def fX10_nextHour (A : pA) (Q : pA → Prop) : Prop :=
    fX10_tillNext A (fun r6 => ∀ A7 : pA, A7 = pup A 1238 76 ((A 1238 76) + r6) → fX10_dogsRest A7 (fun A8 => ∃ m9, fX10_nextHour_L20   Q m9 0 A8))
theorem tX10_nextHour {Γ : jG} {n : Nat} {K : Nat → pKd} {G : pG} {Lg : pL} (hf : mOK n K G) {A : pA}  (Q : pA → Prop) (h : fX10_nextHour A Q) : jMet Γ yX10_nextHour cX10_nextHour 2 none [] 8 0 0 [.ref 1198] (n, K, A, Lg, G) (fun o u => ∃ (A' : pA), o = .inl none ∧ u = (n, K, A', Lg, G) ∧ Q A') := by
  unfold fX10_nextHour at h
  obtain ⟨P, hP⟩ : ∃ P : jO → pS → Prop, P = (fun o u => ∃ (A' : pA), o = .inl none ∧ u = (n, K, A', Lg, G) ∧ Q A') := ⟨_, rfl⟩
  rw [← hP]
  refine jMet_of rfl rfl rfl (Nat.le_of_ble_eq_true rfl) ?_
  show J Γ RX10 cX10_nextHour 2 none "nextHour" [] 8 0 0 0 [(0, .ref 1198)] [] (n, K, A, Lg, G) P
  refine j_aload_n 0 rfl dX10_nextHour_0 ?_
  refine j_getfr fl_X10_137_9 rfl (m_lt hf (by decide)) (fk_1198 hf) (fg_1198_57 hf) dX10_nextHour_1 ?_
  refine j_bipush (v := 76) dX10_nextHour_4 (by decide) ?_
  refine j_dup2 rfl rfl dX10_nextHour_6 ?_
  refine j_ialdJ (j := 76) (m_lt hf (by decide)) (fk_1238 hf) (by unfold vp_in; decide) rfl dX10_nextHour_7 ?_
  refine j_aload_n 0 rfl dX10_nextHour_8 ?_
  refine j_callV (b := 1198) (As := []) (st := [.int (A 1238 76), .int 76, .ref 1238]) (C := RX10) (kc' := 0) (ks' := 0) (tX10_tillNext hf  _ h) myX10_tillNext rfl q2043 q2045 qs112 (by decide) (fun s9 H9 hK9 hR9 h69 => jIs_in hK9 hR9 h69 (m_lt hf (by decide)) (fk_1198 hf) rfl) rfl (Nat.le_of_ble_eq_true rfl) rfl (by decide) (Nat.le_refl 0) (Nat.le_refl 0) dX10_nextHour_9 (fun v9 u9 hq => ?_) (fun k9 u9 hq => by obtain ⟨_, e9, _⟩ := hq; cases e9)
  obtain ⟨r6, e9, rfl, h⟩ := hq
  obtain rfl := Sum.inl.inj e9
  show J Γ RX10 cX10_nextHour 2 none "nextHour" [] 8 0 0 12 [(0, .ref 1198)] [.int r6, .int (A 1238 76), .int 76, .ref 1238] (n, K, A, Lg, G) P
  refine j_iadd dX10_nextHour_12 ?_
  refine j_iastJ (j := 76) (m_lt hf (by decide)) (fk_1238 hf) (by unfold vp_in; decide) rfl dX10_nextHour_13 (fun A7 eA7 => ?_)
  replace h := h A7 eA7
  refine j_aload_n 0 rfl dX10_nextHour_14 ?_
  refine j_callV (b := 1198) (As := []) (st := []) (C := RX10) (kc' := 0) (ks' := 0) (tX10_dogsRest hf  _ h) myX10_dogsRest rfl q2011 q2013 qs107 (by decide) (fun s9 H9 hK9 hR9 h69 => jIs_in hK9 hR9 h69 (m_lt hf (by decide)) (fk_1198 hf) rfl) rfl (Nat.le_of_ble_eq_true rfl) rfl (by decide) (Nat.le_refl 0) (Nat.le_refl 0) dX10_nextHour_15 (fun v9 u9 hq => ?_) (fun k9 u9 hq => by obtain ⟨_, e9, _⟩ := hq; cases e9)
  obtain ⟨A8, e9, rfl, h⟩ := hq
  obtain rfl := Sum.inl.inj e9
  show J Γ RX10 cX10_nextHour 2 none "nextHour" [] 8 0 0 18 [(0, .ref 1198)] [] (n, K, A8, Lg, G) P
  refine j_iconst (v := 0) dX10_nextHour_18 (by decide) ?_
  refine j_istore_n (by decide) rfl dX10_nextHour_19 ?_
  refine j_ls [1, 0] rfl ?_
  obtain ⟨m9, h⟩ := h
  exact fX10_nextHour_L20_ok hf Q P hP   m9 0 A8 h
theorem myX10_safeBits : jY yX10_safeBits cX10_safeBits 4 (some .int) 1 := ⟨q2070, q139, by decide +kernel, by decide +kernel, by decide⟩
def fX10_safeBits_J53  (k4 : Int32 → Int32 → Int32 → pA → Prop) (Q : Int32 → pA → Prop) (l1 : Int32) (l2 : Int32) (l3 : Int32) (A : pA) : Prop :=
    k4 l1 l2 (l3 + 1) A
theorem fX10_safeBits_J53_ok {Γ : jG} {n : Nat} {K : Nat → pKd} {G : pG} {Lg : pL} (hf : mOK n K G) (Q : Int32 → pA → Prop) (P : jO → pS → Prop) (hP : P = (fun o u => ∃ (r : Int32) (A' : pA), o = .inl (some (.int r)) ∧ u = (n, K, A', Lg, G) ∧ Q r A')) (k4 : Int32 → Int32 → Int32 → pA → Prop) (ok4 : ∀ (l1 : Int32) (l2 : Int32) (l3 : Int32) (A : pA), k4 l1 l2 l3 A → J Γ RX10 cX10_safeBits 4 (some .int) "safeBits" [] 9 0 0 4 [(0, .ref 1198), (1, .int l1), (2, .int l2), (3, .int l3)] [] (n, K, A, Lg, G) P) (l1 : Int32) (l2 : Int32) (l3 : Int32) (A : pA) (h : fX10_safeBits_J53  k4 Q l1 l2 l3 A) : J Γ RX10 cX10_safeBits 4 (some .int) "safeBits" [] 9 0 0 53 [(0, .ref 1198), (1, .int l1), (2, .int l2), (3, .int l3)] [] (n, K, A, Lg, G) P := by
  unfold fX10_safeBits_J53 at h
  refine j_iinc (v := l3 + 1) 3 rfl rfl (by decide) rfl dX10_safeBits_53 ?_
  refine j_goto (tgt := 4) dX10_safeBits_56 (by decide) ?_
  refine j_ls [1, 2, 3, 0] rfl ?_
  exact ok4 l1 l2 (l3 + 1) A h
def fX10_safeBits_L4   (Q : Int32 → pA → Prop) : Nat → Int32 → Int32 → Int32 → pA → Prop
  | 0, _, _, _, _ => False
  | n9 + 1, l1, l2, l3, A =>
    (vp_in (A 1198 18) 2) ∧ ((if (A 1208 (A 1198 18).toNatClampNeg) ≤ l3 then Q l2 A else fX10_copies A (fun A2 => (vp_in (15 + l1) 77) ∧ (∀ A4 : pA, A4 = pup A2 1238 (15 + l1).toNatClampNeg l3 → fX10_nextHour A4 (fun A5 => (vp_in (27 + l1) 77) ∧ ((if (A5 1238 (27 + l1).toNatClampNeg) = 0 then fX10_safeBits_J53  (fun x0 x1 x2 x3 => fX10_safeBits_L4   Q n9 x0 x1 x2 x3) Q l1 (l2 ||| ((1 : Int32) <<< (l3 &&& 31))) l3 A5 else fX10_safeBits_J53  (fun x0 x1 x2 x3 => fX10_safeBits_L4   Q n9 x0 x1 x2 x3) Q l1 l2 l3 A5)))))))
theorem fX10_safeBits_L4_ok {Γ : jG} {n : Nat} {K : Nat → pKd} {G : pG} {Lg : pL} (hf : mOK n K G) (Q : Int32 → pA → Prop) (P : jO → pS → Prop) (hP : P = (fun o u => ∃ (r : Int32) (A' : pA), o = .inl (some (.int r)) ∧ u = (n, K, A', Lg, G) ∧ Q r A'))    : ∀ (n9 : Nat) (l1 : Int32) (l2 : Int32) (l3 : Int32) (A : pA), fX10_safeBits_L4   Q n9 l1 l2 l3 A → J Γ RX10 cX10_safeBits 4 (some .int) "safeBits" [] 9 0 0 4 [(0, .ref 1198), (1, .int l1), (2, .int l2), (3, .int l3)] [] (n, K, A, Lg, G) P := by
  intro n9
  induction n9 with
  | zero => intro l1 l2 l3 A h; exact h.elim
  | succ n9 ih =>
    intro l1 l2 l3 A h
    unfold fX10_safeBits_L4 at h
    refine j_iload_n 3 rfl dX10_safeBits_4 ?_
    refine j_aload_n 0 rfl dX10_safeBits_5 ?_
    refine j_getfr fl_X10_46_9 rfl (m_lt hf (by decide)) (fk_1198 hf) (fg_1198_23 hf) dX10_safeBits_6 ?_
    refine j_aload_n 0 rfl dX10_safeBits_9 ?_
    refine j_getfi fl_X10_242_9 rfl (m_lt hf (by decide)) (fk_1198 hf) dX10_safeBits_10 ?_
    obtain ⟨b1, h⟩ := h
    refine j_ialdJ (j := (A 1198 18).toNatClampNeg) (m_lt hf (by decide)) (fk_1208 hf) b1 rfl dX10_safeBits_13 ?_
    refine j_icmp_ge (tgt := 59) dX10_safeBits_14 (by decide) (fun c => ?_) (fun c => ?_)
    · rw [if_pos c] at h
      refine j_iload_n 2 rfl dX10_safeBits_59 ?_
      refine j_iret rfl ?_ dX10_safeBits_60
      rw [hP]
      exact ⟨l2, A, rfl, rfl, h⟩
    · rw [if_neg c] at h
      refine j_aload_n 0 rfl dX10_safeBits_17 ?_
      refine j_callV (b := 1198) (As := []) (st := []) (C := RX10) (kc' := 0) (ks' := 0) (tX10_copies hf  _ h) myX10_copies rfl q1895 q1897 qs86 (by decide) (fun s9 H9 hK9 hR9 h69 => jIs_in hK9 hR9 h69 (m_lt hf (by decide)) (fk_1198 hf) rfl) rfl (Nat.le_of_ble_eq_true rfl) rfl (by decide) (Nat.le_refl 0) (Nat.le_refl 0) dX10_safeBits_18 (fun v9 u9 hq => ?_) (fun k9 u9 hq => by obtain ⟨_, e9, _⟩ := hq; cases e9)
      obtain ⟨A2, e9, rfl, h⟩ := hq
      obtain rfl := Sum.inl.inj e9
      show J Γ RX10 cX10_safeBits 4 (some .int) "safeBits" [] 9 0 0 21 [(0, .ref 1198), (1, .int l1), (2, .int l2), (3, .int l3)] [] (n, K, A2, Lg, G) P
      refine j_aload_n 0 rfl dX10_safeBits_21 ?_
      refine j_getfr fl_X10_137_9 rfl (m_lt hf (by decide)) (fk_1198 hf) (fg_1198_57 hf) dX10_safeBits_22 ?_
      refine j_bipush (v := 15) dX10_safeBits_25 (by decide) ?_
      refine j_iload_n 1 rfl dX10_safeBits_27 ?_
      refine j_iadd dX10_safeBits_28 ?_
      refine j_iload_n 3 rfl dX10_safeBits_29 ?_
      obtain ⟨b3, h⟩ := h
      refine j_iastJ (j := (15 + l1).toNatClampNeg) (m_lt hf (by decide)) (fk_1238 hf) b3 rfl dX10_safeBits_30 (fun A4 eA4 => ?_)
      replace h := h A4 eA4
      refine j_aload_n 0 rfl dX10_safeBits_31 ?_
      refine j_callV (b := 1198) (As := []) (st := []) (C := RX10) (kc' := 0) (ks' := 0) (tX10_nextHour hf  _ h) myX10_nextHour rfl q2071 q2073 qs115 (by decide) (fun s9 H9 hK9 hR9 h69 => jIs_in hK9 hR9 h69 (m_lt hf (by decide)) (fk_1198 hf) rfl) rfl (Nat.le_of_ble_eq_true rfl) rfl (by decide) (Nat.le_refl 0) (Nat.le_refl 0) dX10_safeBits_32 (fun v9 u9 hq => ?_) (fun k9 u9 hq => by obtain ⟨_, e9, _⟩ := hq; cases e9)
      obtain ⟨A5, e9, rfl, h⟩ := hq
      obtain rfl := Sum.inl.inj e9
      show J Γ RX10 cX10_safeBits 4 (some .int) "safeBits" [] 9 0 0 35 [(0, .ref 1198), (1, .int l1), (2, .int l2), (3, .int l3)] [] (n, K, A5, Lg, G) P
      refine j_aload_n 0 rfl dX10_safeBits_35 ?_
      refine j_getfr fl_X10_137_9 rfl (m_lt hf (by decide)) (fk_1198 hf) (fg_1198_57 hf) dX10_safeBits_36 ?_
      refine j_bipush (v := 27) dX10_safeBits_39 (by decide) ?_
      refine j_iload_n 1 rfl dX10_safeBits_41 ?_
      refine j_iadd dX10_safeBits_42 ?_
      obtain ⟨b6, h⟩ := h
      refine j_ialdJ (j := (27 + l1).toNatClampNeg) (m_lt hf (by decide)) (fk_1238 hf) b6 rfl dX10_safeBits_43 ?_
      refine j_if_ne (tgt := 53) dX10_safeBits_44 (by decide) (fun c => ?_) (fun c => ?_)
      · rw [if_neg c] at h
        exact fX10_safeBits_J53_ok hf Q P hP (fun x0 x1 x2 x3 => fX10_safeBits_L4   Q n9 x0 x1 x2 x3) (fun x0 x1 x2 x3 h9 => ih x0 x1 x2 x3 h9) l1 l2 l3 A5 h
      · rw [if_pos c] at h
        refine j_iload_n 2 rfl dX10_safeBits_47 ?_
        refine j_iconst (v := 1) dX10_safeBits_48 (by decide) ?_
        refine j_iload_n 3 rfl dX10_safeBits_49 ?_
        refine j_ishl dX10_safeBits_50 ?_
        refine j_ior dX10_safeBits_51 ?_
        refine j_istore_n (by decide) rfl dX10_safeBits_52 ?_
        refine j_ls [1, 2, 0, 3] rfl ?_
        exact fX10_safeBits_J53_ok hf Q P hP (fun x0 x1 x2 x3 => fX10_safeBits_L4   Q n9 x0 x1 x2 x3) (fun x0 x1 x2 x3 h9 => ih x0 x1 x2 x3 h9) l1 (l2 ||| ((1 : Int32) <<< (l3 &&& 31))) l3 A5 h
def fX10_safeBits (A : pA) (p1 : Int32) (Q : Int32 → pA → Prop) : Prop :=
    ∃ m7, fX10_safeBits_L4   Q m7 p1 0 0 A
theorem tX10_safeBits {Γ : jG} {n : Nat} {K : Nat → pKd} {G : pG} {Lg : pL} (hf : mOK n K G) {A : pA} (p1 : Int32) (Q : Int32 → pA → Prop) (h : fX10_safeBits A p1 Q) : jMet Γ yX10_safeBits cX10_safeBits 4 (some .int) [] 9 0 0 [.ref 1198, .int p1] (n, K, A, Lg, G) (fun o u => ∃ (r : Int32) (A' : pA), o = .inl (some (.int r)) ∧ u = (n, K, A', Lg, G) ∧ Q r A') := by
  unfold fX10_safeBits at h
  obtain ⟨P, hP⟩ : ∃ P : jO → pS → Prop, P = (fun o u => ∃ (r : Int32) (A' : pA), o = .inl (some (.int r)) ∧ u = (n, K, A', Lg, G) ∧ Q r A') := ⟨_, rfl⟩
  rw [← hP]
  refine jMet_of rfl rfl rfl (Nat.le_of_ble_eq_true rfl) ?_
  show J Γ RX10 cX10_safeBits 4 (some .int) "safeBits" [] 9 0 0 0 [(0, .ref 1198), (1, .int p1)] [] (n, K, A, Lg, G) P
  refine j_iconst (v := 0) dX10_safeBits_0 (by decide) ?_
  refine j_istore_n (by decide) rfl dX10_safeBits_1 ?_
  refine j_iconst (v := 0) dX10_safeBits_2 (by decide) ?_
  refine j_istore_n (by decide) rfl dX10_safeBits_3 ?_
  refine j_ls [2, 3, 1, 0] rfl ?_
  obtain ⟨m7, h⟩ := h
  exact fX10_safeBits_L4_ok hf Q P hP   m7 p1 0 0 A h
theorem myX10_safe : jY yX10_safe cX10_safe 2 (some .int) 1 := ⟨q2066, q139, by decide +kernel, by decide +kernel, by decide⟩
def fX10_safe (A : pA) (p1 : Int32) (Q : Int32 → pA → Prop) : Prop :=
    fX10_isPerson A p1 (fun r1 => (if r1 = 0 then Q (-1) A else fX10_safeBits A p1 (fun r2 A3 => Q r2 A3)))
theorem tX10_safe {Γ : jG} {n : Nat} {K : Nat → pKd} {G : pG} {Lg : pL} (hf : mOK n K G) {A : pA} (p1 : Int32) (Q : Int32 → pA → Prop) (h : fX10_safe A p1 Q) : jMet Γ yX10_safe cX10_safe 2 (some .int) [] 10 0 0 [.ref 1198, .int p1] (n, K, A, Lg, G) (fun o u => ∃ (r : Int32) (A' : pA), o = .inl (some (.int r)) ∧ u = (n, K, A', Lg, G) ∧ Q r A') := by
  unfold fX10_safe at h
  obtain ⟨P, hP⟩ : ∃ P : jO → pS → Prop, P = (fun o u => ∃ (r : Int32) (A' : pA), o = .inl (some (.int r)) ∧ u = (n, K, A', Lg, G) ∧ Q r A') := ⟨_, rfl⟩
  rw [← hP]
  refine jMet_of rfl rfl rfl (Nat.le_of_ble_eq_true rfl) ?_
  show J Γ RX10 cX10_safe 2 (some .int) "safe" [] 10 0 0 0 [(0, .ref 1198), (1, .int p1)] [] (n, K, A, Lg, G) P
  refine j_aload_n 0 rfl dX10_safe_0 ?_
  refine j_iload_n 1 rfl dX10_safe_1 ?_
  refine j_callV (b := 1198) (As := [.int p1]) (st := []) (C := RX10) (kc' := 0) (ks' := 0) (tX10_isPerson hf p1 _ h) myX10_isPerson rfl q1919 q1921 qs90 (by decide) (fun s9 H9 hK9 hR9 h69 => jIs_in hK9 hR9 h69 (m_lt hf (by decide)) (fk_1198 hf) rfl) rfl (Nat.le_of_ble_eq_true rfl) rfl (by decide) (Nat.le_refl 0) (Nat.le_refl 0) dX10_safe_2 (fun v9 u9 hq => ?_) (fun k9 u9 hq => by obtain ⟨_, e9, _⟩ := hq; cases e9)
  obtain ⟨r1, e9, rfl, h⟩ := hq
  obtain rfl := Sum.inl.inj e9
  show J Γ RX10 cX10_safe 2 (some .int) "safe" [] 10 0 0 5 [(0, .ref 1198), (1, .int p1)] [.int r1] (n, K, A, Lg, G) P
  refine j_if_eq (tgt := 16) dX10_safe_5 (by decide) (fun c => ?_) (fun c => ?_)
  · rw [if_pos c] at h
    refine j_iconst (v := (-1)) dX10_safe_16 (by decide) ?_
    refine j_iret rfl ?_ dX10_safe_17
    rw [hP]
    exact ⟨(-1), A, rfl, rfl, h⟩
  · rw [if_neg c] at h
    refine j_aload_n 0 rfl dX10_safe_8 ?_
    refine j_iload_n 1 rfl dX10_safe_9 ?_
    refine j_callV (b := 1198) (As := [.int p1]) (st := []) (C := RX10) (kc' := 0) (ks' := 0) (tX10_safeBits hf p1 _ h) myX10_safeBits rfl q2067 q2069 qs114 (by decide) (fun s9 H9 hK9 hR9 h69 => jIs_in hK9 hR9 h69 (m_lt hf (by decide)) (fk_1198 hf) rfl) rfl (Nat.le_of_ble_eq_true rfl) rfl (by decide) (Nat.le_refl 0) (Nat.le_refl 0) dX10_safe_10 (fun v9 u9 hq => ?_) (fun k9 u9 hq => by obtain ⟨_, _, e9, _⟩ := hq; cases e9)
    obtain ⟨r2, A3, e9, rfl, h⟩ := hq
    obtain rfl := Sum.inl.inj e9
    show J Γ RX10 cX10_safe 2 (some .int) "safe" [] 10 0 0 13 [(0, .ref 1198), (1, .int p1)] [.int r2] (n, K, A3, Lg, G) P
    refine j_goto (tgt := 17) dX10_safe_13 (by decide) ?_
    refine j_iret rfl ?_ dX10_safe_17
    rw [hP]
    exact ⟨r2, A3, rfl, rfl, h⟩
theorem myX10_refuge : jY yX10_refuge cX10_refuge 8 (some .int) 2 := ⟨q2078, q139, by decide +kernel, by decide +kernel, by decide⟩
def fX10_refuge_J99  (k36 : Int32 → Int32 → Int32 → Int32 → Int32 → Int32 → pA → Prop) (Q : Int32 → pA → Prop) (l1 : Int32) (l2 : Int32) (l3 : Int32) (l4 : Int32) (l5 : Int32) (l6 : Int32) (A : pA) : Prop :=
    k36 l1 l2 l3 l4 l5 (l6 + 1) A
theorem fX10_refuge_J99_ok {Γ : jG} {n : Nat} {K : Nat → pKd} {G : pG} {Lg : pL} (hf : mOK n K G) (Q : Int32 → pA → Prop) (P : jO → pS → Prop) (hP : P = (fun o u => ∃ (r : Int32) (A' : pA), o = .inl (some (.int r)) ∧ u = (n, K, A', Lg, G) ∧ Q r A')) (k36 : Int32 → Int32 → Int32 → Int32 → Int32 → Int32 → pA → Prop) (ok36 : ∀ (l1 : Int32) (l2 : Int32) (l3 : Int32) (l4 : Int32) (l5 : Int32) (l6 : Int32) (A : pA), k36 l1 l2 l3 l4 l5 l6 A → J Γ RX10 cX10_refuge 8 (some .int) "refuge" [] 10 0 0 36 [(0, .ref 1198), (1, .int l1), (2, .int l2), (3, .int l3), (4, .int l4), (5, .int l5), (6, .int l6)] [] (n, K, A, Lg, G) P) (l1 : Int32) (l2 : Int32) (l3 : Int32) (l4 : Int32) (l5 : Int32) (l6 : Int32) (A : pA) (h : fX10_refuge_J99  k36 Q l1 l2 l3 l4 l5 l6 A) : J Γ RX10 cX10_refuge 8 (some .int) "refuge" [] 10 0 0 99 [(0, .ref 1198), (1, .int l1), (2, .int l2), (3, .int l3), (4, .int l4), (5, .int l5), (6, .int l6)] [] (n, K, A, Lg, G) P := by
  unfold fX10_refuge_J99 at h
  refine j_iinc (v := l6 + 1) 6 rfl rfl (by decide) rfl dX10_refuge_99 ?_
  refine j_goto (tgt := 36) dX10_refuge_102 (by decide) ?_
  refine j_ls [1, 2, 3, 4, 5, 6, 0] rfl ?_
  exact ok36 l1 l2 l3 l4 l5 (l6 + 1) A h
def fX10_refuge_L36   (Q : Int32 → pA → Prop) : Nat → Int32 → Int32 → Int32 → Int32 → Int32 → Int32 → pA → Prop
  | 0, _, _, _, _, _, _, _ => False
  | n9 + 1, l1, l2, l3, l4, l5, l6, A =>
    (vp_in (A 1198 18) 2) ∧ ((if (A 1208 (A 1198 18).toNatClampNeg) ≤ l6 then (if l4 < 0 then Q l4 A else (if l2 = 0 then Q l4 A else Q l5 A)) else (vp_in (15 + l1) 77) ∧ ((vp_in ((7 * (A 1237 (15 + l1).toNatClampNeg)) + l6) 49) ∧ ((if ((l3 >>> (l6 &&& 31)) &&& 1) = 0 then fX10_refuge_J99  (fun x0 x1 x2 x3 x4 x5 x6 => fX10_refuge_L36   Q n9 x0 x1 x2 x3 x4 x5 x6) Q l1 l2 l3 l4 l5 l6 A else (if (A 1236 ((7 * (A 1237 (15 + l1).toNatClampNeg)) + l6).toNatClampNeg) < l5 then fX10_refuge_J99  (fun x0 x1 x2 x3 x4 x5 x6 => fX10_refuge_L36   Q n9 x0 x1 x2 x3 x4 x5 x6) Q l1 l2 l3 l6 (A 1236 ((7 * (A 1237 (15 + l1).toNatClampNeg)) + l6).toNatClampNeg) l6 A else fX10_refuge_J99  (fun x0 x1 x2 x3 x4 x5 x6 => fX10_refuge_L36   Q n9 x0 x1 x2 x3 x4 x5 x6) Q l1 l2 l3 l4 l5 l6 A))))))
theorem fX10_refuge_L36_ok {Γ : jG} {n : Nat} {K : Nat → pKd} {G : pG} {Lg : pL} (hf : mOK n K G) (Q : Int32 → pA → Prop) (P : jO → pS → Prop) (hP : P = (fun o u => ∃ (r : Int32) (A' : pA), o = .inl (some (.int r)) ∧ u = (n, K, A', Lg, G) ∧ Q r A'))    : ∀ (n9 : Nat) (l1 : Int32) (l2 : Int32) (l3 : Int32) (l4 : Int32) (l5 : Int32) (l6 : Int32) (A : pA), fX10_refuge_L36   Q n9 l1 l2 l3 l4 l5 l6 A → J Γ RX10 cX10_refuge 8 (some .int) "refuge" [] 10 0 0 36 [(0, .ref 1198), (1, .int l1), (2, .int l2), (3, .int l3), (4, .int l4), (5, .int l5), (6, .int l6)] [] (n, K, A, Lg, G) P := by
  intro n9
  induction n9 with
  | zero => intro l1 l2 l3 l4 l5 l6 A h; exact h.elim
  | succ n9 ih =>
    intro l1 l2 l3 l4 l5 l6 A h
    unfold fX10_refuge_L36 at h
    refine j_iload 6 rfl dX10_refuge_36 ?_
    refine j_aload_n 0 rfl dX10_refuge_38 ?_
    refine j_getfr fl_X10_46_9 rfl (m_lt hf (by decide)) (fk_1198 hf) (fg_1198_23 hf) dX10_refuge_39 ?_
    refine j_aload_n 0 rfl dX10_refuge_42 ?_
    refine j_getfi fl_X10_242_9 rfl (m_lt hf (by decide)) (fk_1198 hf) dX10_refuge_43 ?_
    obtain ⟨b1, h⟩ := h
    refine j_ialdJ (j := (A 1198 18).toNatClampNeg) (m_lt hf (by decide)) (fk_1208 hf) b1 rfl dX10_refuge_46 ?_
    refine j_icmp_ge (tgt := 105) dX10_refuge_47 (by decide) (fun c => ?_) (fun c => ?_)
    · rw [if_pos c] at h
      refine j_iload 4 rfl dX10_refuge_105 ?_
      refine j_if_lt (tgt := 114) dX10_refuge_107 (by decide) (fun c => ?_) (fun c => ?_)
      · rw [if_pos c] at h
        refine j_iload 4 rfl dX10_refuge_114 ?_
        refine j_goto (tgt := 121) dX10_refuge_116 (by decide) ?_
        refine j_iret rfl ?_ dX10_refuge_121
        rw [hP]
        exact ⟨l4, A, rfl, rfl, h⟩
      · rw [if_neg c] at h
        refine j_iload_n 2 rfl dX10_refuge_110 ?_
        refine j_if_ne (tgt := 119) dX10_refuge_111 (by decide) (fun c => ?_) (fun c => ?_)
        · rw [if_neg c] at h
          refine j_iload 5 rfl dX10_refuge_119 ?_
          refine j_iret rfl ?_ dX10_refuge_121
          rw [hP]
          exact ⟨l5, A, rfl, rfl, h⟩
        · rw [if_pos c] at h
          refine j_iload 4 rfl dX10_refuge_114 ?_
          refine j_goto (tgt := 121) dX10_refuge_116 (by decide) ?_
          refine j_iret rfl ?_ dX10_refuge_121
          rw [hP]
          exact ⟨l4, A, rfl, rfl, h⟩
    · rw [if_neg c] at h
      refine j_aload_n 0 rfl dX10_refuge_50 ?_
      refine j_getfr fl_X10_131_9 rfl (m_lt hf (by decide)) (fk_1198 hf) (fg_1198_55 hf) dX10_refuge_51 ?_
      refine j_bipush (v := 7) dX10_refuge_54 (by decide) ?_
      refine j_aload_n 0 rfl dX10_refuge_56 ?_
      refine j_getfr fl_X10_134_9 rfl (m_lt hf (by decide)) (fk_1198 hf) (fg_1198_56 hf) dX10_refuge_57 ?_
      refine j_bipush (v := 15) dX10_refuge_60 (by decide) ?_
      refine j_iload_n 1 rfl dX10_refuge_62 ?_
      refine j_iadd dX10_refuge_63 ?_
      obtain ⟨b2, h⟩ := h
      refine j_ialdJ (j := (15 + l1).toNatClampNeg) (m_lt hf (by decide)) (fk_1237 hf) b2 rfl dX10_refuge_64 ?_
      refine j_imul dX10_refuge_65 ?_
      refine j_iload 6 rfl dX10_refuge_66 ?_
      refine j_iadd dX10_refuge_68 ?_
      obtain ⟨b3, h⟩ := h
      refine j_ialdJ (j := ((7 * (A 1237 (15 + l1).toNatClampNeg)) + l6).toNatClampNeg) (m_lt hf (by decide)) (fk_1236 hf) b3 rfl dX10_refuge_69 ?_
      refine j_istore (by decide) rfl dX10_refuge_70 ?_
      refine j_iload_n 4 rfl dX10_refuge_72 ?_
      refine j_iload 7 rfl dX10_refuge_73 ?_
      refine j_ishr dX10_refuge_75 ?_
      refine j_iconst (v := 1) dX10_refuge_76 (by decide) ?_
      refine j_iand dX10_refuge_77 ?_
      refine j_if_eq (tgt := 99) dX10_refuge_78 (by decide) (fun c => ?_) (fun c => ?_)
      · rw [if_pos c] at h
        refine j_ls [1, 2, 3, 4, 5, 6, 7] rfl ?_
        exact fX10_refuge_J99_ok hf Q P hP (fun x0 x1 x2 x3 x4 x5 x6 => fX10_refuge_L36   Q n9 x0 x1 x2 x3 x4 x5 x6) (fun x0 x1 x2 x3 x4 x5 x6 h9 => ih x0 x1 x2 x3 x4 x5 x6 h9) l1 l2 l3 l4 l5 l6 A h
      · rw [if_neg c] at h
        refine j_iload 0 rfl dX10_refuge_81 ?_
        refine j_iload 6 rfl dX10_refuge_83 ?_
        refine j_icmp_lt (tgt := 91) dX10_refuge_85 (by decide) (fun c => ?_) (fun c => ?_)
        · rw [if_pos c] at h
          refine j_iload 7 rfl dX10_refuge_91 ?_
          refine j_istore (by decide) rfl dX10_refuge_93 ?_
          refine j_iload 1 rfl dX10_refuge_95 ?_
          refine j_istore (by decide) rfl dX10_refuge_97 ?_
          refine j_ls [3, 4, 5, 6, 1, 0, 7] rfl ?_
          exact fX10_refuge_J99_ok hf Q P hP (fun x0 x1 x2 x3 x4 x5 x6 => fX10_refuge_L36   Q n9 x0 x1 x2 x3 x4 x5 x6) (fun x0 x1 x2 x3 x4 x5 x6 h9 => ih x0 x1 x2 x3 x4 x5 x6 h9) l1 l2 l3 l6 (A 1236 ((7 * (A 1237 (15 + l1).toNatClampNeg)) + l6).toNatClampNeg) l6 A h
        · rw [if_neg c] at h
          refine j_goto (tgt := 99) dX10_refuge_88 (by decide) ?_
          refine j_ls [1, 2, 3, 4, 5, 6, 7] rfl ?_
          exact fX10_refuge_J99_ok hf Q P hP (fun x0 x1 x2 x3 x4 x5 x6 => fX10_refuge_L36   Q n9 x0 x1 x2 x3 x4 x5 x6) (fun x0 x1 x2 x3 x4 x5 x6 h9 => ih x0 x1 x2 x3 x4 x5 x6 h9) l1 l2 l3 l4 l5 l6 A h
def fX10_refuge (A : pA) (p1 : Int32) (p2 : Int32) (Q : Int32 → pA → Prop) : Prop :=
    fX10_isPerson A p1 (fun r4 => (if r4 = 0 then Q (-1) A else fX10_in A p2 0 1 (fun r5 => (if r5 = 0 then Q (-1) A else fX10_safeBits A p1 (fun r6 A7 => ∃ m8, fX10_refuge_L36   Q m8 p1 p2 r6 (-2) 99 0 A7)))))
theorem tX10_refuge {Γ : jG} {n : Nat} {K : Nat → pKd} {G : pG} {Lg : pL} (hf : mOK n K G) {A : pA} (p1 : Int32) (p2 : Int32) (Q : Int32 → pA → Prop) (h : fX10_refuge A p1 p2 Q) : jMet Γ yX10_refuge cX10_refuge 8 (some .int) [] 10 0 0 [.ref 1198, .int p1, .int p2] (n, K, A, Lg, G) (fun o u => ∃ (r : Int32) (A' : pA), o = .inl (some (.int r)) ∧ u = (n, K, A', Lg, G) ∧ Q r A') := by
  unfold fX10_refuge at h
  obtain ⟨P, hP⟩ : ∃ P : jO → pS → Prop, P = (fun o u => ∃ (r : Int32) (A' : pA), o = .inl (some (.int r)) ∧ u = (n, K, A', Lg, G) ∧ Q r A') := ⟨_, rfl⟩
  rw [← hP]
  refine jMet_of rfl rfl rfl (Nat.le_of_ble_eq_true rfl) ?_
  show J Γ RX10 cX10_refuge 8 (some .int) "refuge" [] 10 0 0 0 [(0, .ref 1198), (1, .int p1), (2, .int p2)] [] (n, K, A, Lg, G) P
  refine j_aload_n 0 rfl dX10_refuge_0 ?_
  refine j_iload_n 1 rfl dX10_refuge_1 ?_
  refine j_callV (b := 1198) (As := [.int p1]) (st := []) (C := RX10) (kc' := 0) (ks' := 0) (tX10_isPerson hf p1 _ h) myX10_isPerson rfl q1919 q1921 qs90 (by decide) (fun s9 H9 hK9 hR9 h69 => jIs_in hK9 hR9 h69 (m_lt hf (by decide)) (fk_1198 hf) rfl) rfl (Nat.le_of_ble_eq_true rfl) rfl (by decide) (Nat.le_refl 0) (Nat.le_refl 0) dX10_refuge_2 (fun v9 u9 hq => ?_) (fun k9 u9 hq => by obtain ⟨_, e9, _⟩ := hq; cases e9)
  obtain ⟨r4, e9, rfl, h⟩ := hq
  obtain rfl := Sum.inl.inj e9
  show J Γ RX10 cX10_refuge 8 (some .int) "refuge" [] 10 0 0 5 [(0, .ref 1198), (1, .int p1), (2, .int p2)] [.int r4] (n, K, A, Lg, G) P
  refine j_if_eq (tgt := 17) dX10_refuge_5 (by decide) (fun c => ?_) (fun c => ?_)
  · rw [if_pos c] at h
    refine j_iconst (v := (-1)) dX10_refuge_17 (by decide) ?_
    refine j_iret rfl ?_ dX10_refuge_18
    rw [hP]
    exact ⟨(-1), A, rfl, rfl, h⟩
  · rw [if_neg c] at h
    refine j_iload_n 2 rfl dX10_refuge_8 ?_
    refine j_iconst (v := 0) dX10_refuge_9 (by decide) ?_
    refine j_iconst (v := 1) dX10_refuge_10 (by decide) ?_
    refine j_callS (As := [.int p2, .int 0, .int 1]) (st := []) (kc' := 0) (ks' := 0) (tX10_in hf p2 0 1 _ h) myX10_in q1892 q1893 rfl (Nat.le_of_ble_eq_true rfl) rfl (by decide) (Nat.le_refl 0) (Nat.le_refl 0) dX10_refuge_11 (fun v9 u9 hq => ?_) (fun k9 u9 hq => by obtain ⟨_, e9, _⟩ := hq; cases e9)
    obtain ⟨r5, e9, rfl, h⟩ := hq
    obtain rfl := Sum.inl.inj e9
    show J Γ RX10 cX10_refuge 8 (some .int) "refuge" [] 10 0 0 14 [(0, .ref 1198), (1, .int p1), (2, .int p2)] [.int r5] (n, K, A, Lg, G) P
    refine j_if_ne (tgt := 19) dX10_refuge_14 (by decide) (fun c => ?_) (fun c => ?_)
    · rw [if_neg c] at h
      refine j_aload_n 0 rfl dX10_refuge_19 ?_
      refine j_iload_n 1 rfl dX10_refuge_20 ?_
      refine j_callV (b := 1198) (As := [.int p1]) (st := []) (C := RX10) (kc' := 0) (ks' := 0) (tX10_safeBits hf p1 _ h) myX10_safeBits rfl q2067 q2069 qs114 (by decide) (fun s9 H9 hK9 hR9 h69 => jIs_in hK9 hR9 h69 (m_lt hf (by decide)) (fk_1198 hf) rfl) rfl (Nat.le_of_ble_eq_true rfl) rfl (by decide) (Nat.le_refl 0) (Nat.le_refl 0) dX10_refuge_21 (fun v9 u9 hq => ?_) (fun k9 u9 hq => by obtain ⟨_, _, e9, _⟩ := hq; cases e9)
      obtain ⟨r6, A7, e9, rfl, h⟩ := hq
      obtain rfl := Sum.inl.inj e9
      show J Γ RX10 cX10_refuge 8 (some .int) "refuge" [] 10 0 0 24 [(0, .ref 1198), (1, .int p1), (2, .int p2)] [.int r6] (n, K, A7, Lg, G) P
      refine j_istore_n (by decide) rfl dX10_refuge_24 ?_
      refine j_bipush (v := (-2)) dX10_refuge_25 (by decide) ?_
      refine j_istore (by decide) rfl dX10_refuge_27 ?_
      refine j_bipush (v := 99) dX10_refuge_29 (by decide) ?_
      refine j_istore (by decide) rfl dX10_refuge_31 ?_
      refine j_iconst (v := 0) dX10_refuge_33 (by decide) ?_
      refine j_istore (by decide) rfl dX10_refuge_34 ?_
      refine j_ls [4, 5, 6, 3, 2, 1, 0] rfl ?_
      obtain ⟨m8, h⟩ := h
      exact fX10_refuge_L36_ok hf Q P hP   m8 p1 p2 r6 (-2) 99 0 A7 h
    · rw [if_pos c] at h
      refine j_iconst (v := (-1)) dX10_refuge_17 (by decide) ?_
      refine j_iret rfl ?_ dX10_refuge_18
      rw [hP]
      exact ⟨(-1), A, rfl, rfl, h⟩
theorem myX10_loses : jY yX10_loses cX10_loses 2 (some .int) 1 := ⟨q2082, q139, by decide +kernel, by decide +kernel, by decide⟩
def fX10_loses (A : pA) (p1 : Int32) (Q : Int32 → pA → Prop) : Prop :=
    fX10_isPerson A p1 (fun r1 => (if r1 = 0 then Q (-1) A else fX10_copies A (fun A2 => fX10_nextHour A2 (fun A3 => (vp_in (23 + p1) 77) ∧ ((vp_in (23 + p1) 77) ∧ (Q ((A3 1237 (23 + p1).toNatClampNeg) - (A3 1238 (23 + p1).toNatClampNeg)) A3))))))
theorem tX10_loses {Γ : jG} {n : Nat} {K : Nat → pKd} {G : pG} {Lg : pL} (hf : mOK n K G) {A : pA} (p1 : Int32) (Q : Int32 → pA → Prop) (h : fX10_loses A p1 Q) : jMet Γ yX10_loses cX10_loses 2 (some .int) [] 9 0 0 [.ref 1198, .int p1] (n, K, A, Lg, G) (fun o u => ∃ (r : Int32) (A' : pA), o = .inl (some (.int r)) ∧ u = (n, K, A', Lg, G) ∧ Q r A') := by
  unfold fX10_loses at h
  obtain ⟨P, hP⟩ : ∃ P : jO → pS → Prop, P = (fun o u => ∃ (r : Int32) (A' : pA), o = .inl (some (.int r)) ∧ u = (n, K, A', Lg, G) ∧ Q r A') := ⟨_, rfl⟩
  rw [← hP]
  refine jMet_of rfl rfl rfl (Nat.le_of_ble_eq_true rfl) ?_
  show J Γ RX10 cX10_loses 2 (some .int) "loses" [] 9 0 0 0 [(0, .ref 1198), (1, .int p1)] [] (n, K, A, Lg, G) P
  refine j_aload_n 0 rfl dX10_loses_0 ?_
  refine j_iload_n 1 rfl dX10_loses_1 ?_
  refine j_callV (b := 1198) (As := [.int p1]) (st := []) (C := RX10) (kc' := 0) (ks' := 0) (tX10_isPerson hf p1 _ h) myX10_isPerson rfl q1919 q1921 qs90 (by decide) (fun s9 H9 hK9 hR9 h69 => jIs_in hK9 hR9 h69 (m_lt hf (by decide)) (fk_1198 hf) rfl) rfl (Nat.le_of_ble_eq_true rfl) rfl (by decide) (Nat.le_refl 0) (Nat.le_refl 0) dX10_loses_2 (fun v9 u9 hq => ?_) (fun k9 u9 hq => by obtain ⟨_, e9, _⟩ := hq; cases e9)
  obtain ⟨r1, e9, rfl, h⟩ := hq
  obtain rfl := Sum.inl.inj e9
  show J Γ RX10 cX10_loses 2 (some .int) "loses" [] 9 0 0 5 [(0, .ref 1198), (1, .int p1)] [.int r1] (n, K, A, Lg, G) P
  refine j_if_ne (tgt := 10) dX10_loses_5 (by decide) (fun c => ?_) (fun c => ?_)
  · rw [if_neg c] at h
    refine j_aload_n 0 rfl dX10_loses_10 ?_
    refine j_callV (b := 1198) (As := []) (st := []) (C := RX10) (kc' := 0) (ks' := 0) (tX10_copies hf  _ h) myX10_copies rfl q1895 q1897 qs86 (by decide) (fun s9 H9 hK9 hR9 h69 => jIs_in hK9 hR9 h69 (m_lt hf (by decide)) (fk_1198 hf) rfl) rfl (Nat.le_of_ble_eq_true rfl) rfl (by decide) (Nat.le_refl 0) (Nat.le_refl 0) dX10_loses_11 (fun v9 u9 hq => ?_) (fun k9 u9 hq => by obtain ⟨_, e9, _⟩ := hq; cases e9)
    obtain ⟨A2, e9, rfl, h⟩ := hq
    obtain rfl := Sum.inl.inj e9
    show J Γ RX10 cX10_loses 2 (some .int) "loses" [] 9 0 0 14 [(0, .ref 1198), (1, .int p1)] [] (n, K, A2, Lg, G) P
    refine j_aload_n 0 rfl dX10_loses_14 ?_
    refine j_callV (b := 1198) (As := []) (st := []) (C := RX10) (kc' := 0) (ks' := 0) (tX10_nextHour hf  _ h) myX10_nextHour rfl q2071 q2073 qs115 (by decide) (fun s9 H9 hK9 hR9 h69 => jIs_in hK9 hR9 h69 (m_lt hf (by decide)) (fk_1198 hf) rfl) rfl (Nat.le_of_ble_eq_true rfl) rfl (by decide) (Nat.le_refl 0) (Nat.le_refl 0) dX10_loses_15 (fun v9 u9 hq => ?_) (fun k9 u9 hq => by obtain ⟨_, e9, _⟩ := hq; cases e9)
    obtain ⟨A3, e9, rfl, h⟩ := hq
    obtain rfl := Sum.inl.inj e9
    show J Γ RX10 cX10_loses 2 (some .int) "loses" [] 9 0 0 18 [(0, .ref 1198), (1, .int p1)] [] (n, K, A3, Lg, G) P
    refine j_aload_n 0 rfl dX10_loses_18 ?_
    refine j_getfr fl_X10_134_9 rfl (m_lt hf (by decide)) (fk_1198 hf) (fg_1198_56 hf) dX10_loses_19 ?_
    refine j_bipush (v := 23) dX10_loses_22 (by decide) ?_
    refine j_iload_n 1 rfl dX10_loses_24 ?_
    refine j_iadd dX10_loses_25 ?_
    obtain ⟨b4, h⟩ := h
    refine j_ialdJ (j := (23 + p1).toNatClampNeg) (m_lt hf (by decide)) (fk_1237 hf) b4 rfl dX10_loses_26 ?_
    refine j_aload_n 0 rfl dX10_loses_27 ?_
    refine j_getfr fl_X10_137_9 rfl (m_lt hf (by decide)) (fk_1198 hf) (fg_1198_57 hf) dX10_loses_28 ?_
    refine j_bipush (v := 23) dX10_loses_31 (by decide) ?_
    refine j_iload_n 1 rfl dX10_loses_33 ?_
    refine j_iadd dX10_loses_34 ?_
    obtain ⟨b5, h⟩ := h
    refine j_ialdJ (j := (23 + p1).toNatClampNeg) (m_lt hf (by decide)) (fk_1238 hf) b5 rfl dX10_loses_35 ?_
    refine j_isub dX10_loses_36 ?_
    refine j_iret rfl ?_ dX10_loses_37
    rw [hP]
    exact ⟨(A3 1237 (23 + p1).toNatClampNeg) - (A3 1238 (23 + p1).toNatClampNeg), A3, rfl, rfl, h⟩
  · rw [if_pos c] at h
    refine j_iconst (v := (-1)) dX10_loses_8 (by decide) ?_
    refine j_iret rfl ?_ dX10_loses_9
    rw [hP]
    exact ⟨(-1), A, rfl, rfl, h⟩
theorem myX10_fetched : jY yX10_fetched cX10_fetched 1 (some .int) 0 := ⟨q2086, q139, by decide +kernel, by decide +kernel, by decide⟩
def fX10_fetched (A : pA) (Q : Int32 → pA → Prop) : Prop :=
    fX10_copies A (fun A1 => fX10_nextHour A1 (fun A2 => (vp_in (A2 1198 18) 2) ∧ (fX10_bitsOf A2 27 (A2 1215 (A2 1198 18).toNatClampNeg) 1 (fun r4 => Q r4 A2))))
theorem tX10_fetched {Γ : jG} {n : Nat} {K : Nat → pKd} {G : pG} {Lg : pL} (hf : mOK n K G) {A : pA}  (Q : Int32 → pA → Prop) (h : fX10_fetched A Q) : jMet Γ yX10_fetched cX10_fetched 1 (some .int) [] 9 0 0 [.ref 1198] (n, K, A, Lg, G) (fun o u => ∃ (r : Int32) (A' : pA), o = .inl (some (.int r)) ∧ u = (n, K, A', Lg, G) ∧ Q r A') := by
  unfold fX10_fetched at h
  obtain ⟨P, hP⟩ : ∃ P : jO → pS → Prop, P = (fun o u => ∃ (r : Int32) (A' : pA), o = .inl (some (.int r)) ∧ u = (n, K, A', Lg, G) ∧ Q r A') := ⟨_, rfl⟩
  rw [← hP]
  refine jMet_of rfl rfl rfl (Nat.le_of_ble_eq_true rfl) ?_
  show J Γ RX10 cX10_fetched 1 (some .int) "fetched" [] 9 0 0 0 [(0, .ref 1198)] [] (n, K, A, Lg, G) P
  refine j_aload_n 0 rfl dX10_fetched_0 ?_
  refine j_callV (b := 1198) (As := []) (st := []) (C := RX10) (kc' := 0) (ks' := 0) (tX10_copies hf  _ h) myX10_copies rfl q1895 q1897 qs86 (by decide) (fun s9 H9 hK9 hR9 h69 => jIs_in hK9 hR9 h69 (m_lt hf (by decide)) (fk_1198 hf) rfl) rfl (Nat.le_of_ble_eq_true rfl) rfl (by decide) (Nat.le_refl 0) (Nat.le_refl 0) dX10_fetched_1 (fun v9 u9 hq => ?_) (fun k9 u9 hq => by obtain ⟨_, e9, _⟩ := hq; cases e9)
  obtain ⟨A1, e9, rfl, h⟩ := hq
  obtain rfl := Sum.inl.inj e9
  show J Γ RX10 cX10_fetched 1 (some .int) "fetched" [] 9 0 0 4 [(0, .ref 1198)] [] (n, K, A1, Lg, G) P
  refine j_aload_n 0 rfl dX10_fetched_4 ?_
  refine j_callV (b := 1198) (As := []) (st := []) (C := RX10) (kc' := 0) (ks' := 0) (tX10_nextHour hf  _ h) myX10_nextHour rfl q2071 q2073 qs115 (by decide) (fun s9 H9 hK9 hR9 h69 => jIs_in hK9 hR9 h69 (m_lt hf (by decide)) (fk_1198 hf) rfl) rfl (Nat.le_of_ble_eq_true rfl) rfl (by decide) (Nat.le_refl 0) (Nat.le_refl 0) dX10_fetched_5 (fun v9 u9 hq => ?_) (fun k9 u9 hq => by obtain ⟨_, e9, _⟩ := hq; cases e9)
  obtain ⟨A2, e9, rfl, h⟩ := hq
  obtain rfl := Sum.inl.inj e9
  show J Γ RX10 cX10_fetched 1 (some .int) "fetched" [] 9 0 0 8 [(0, .ref 1198)] [] (n, K, A2, Lg, G) P
  refine j_aload_n 0 rfl dX10_fetched_8 ?_
  refine j_bipush (v := 27) dX10_fetched_9 (by decide) ?_
  refine j_aload_n 0 rfl dX10_fetched_11 ?_
  refine j_getfr fl_X10_67_9 rfl (m_lt hf (by decide)) (fk_1198 hf) (fg_1198_30 hf) dX10_fetched_12 ?_
  refine j_aload_n 0 rfl dX10_fetched_15 ?_
  refine j_getfi fl_X10_242_9 rfl (m_lt hf (by decide)) (fk_1198 hf) dX10_fetched_16 ?_
  obtain ⟨b3, h⟩ := h
  refine j_ialdJ (j := (A2 1198 18).toNatClampNeg) (m_lt hf (by decide)) (fk_1215 hf) b3 rfl dX10_fetched_19 ?_
  refine j_iconst (v := 1) dX10_fetched_20 (by decide) ?_
  refine j_callV (b := 1198) (As := [.int 27, .int (A2 1215 (A2 1198 18).toNatClampNeg), .int 1]) (st := []) (C := RX10) (kc' := 0) (ks' := 0) (tX10_bitsOf hf 27 (A2 1215 (A2 1198 18).toNatClampNeg) 1 _ h) myX10_bitsOf rfl q1899 q1901 qs87 (by decide) (fun s9 H9 hK9 hR9 h69 => jIs_in hK9 hR9 h69 (m_lt hf (by decide)) (fk_1198 hf) rfl) rfl (Nat.le_of_ble_eq_true rfl) rfl (by decide) (Nat.le_refl 0) (Nat.le_refl 0) dX10_fetched_21 (fun v9 u9 hq => ?_) (fun k9 u9 hq => by obtain ⟨_, e9, _⟩ := hq; cases e9)
  obtain ⟨r4, e9, rfl, h⟩ := hq
  obtain rfl := Sum.inl.inj e9
  show J Γ RX10 cX10_fetched 1 (some .int) "fetched" [] 9 0 0 24 [(0, .ref 1198)] [.int r4] (n, K, A2, Lg, G) P
  refine j_iret rfl ?_ dX10_fetched_24
  rw [hP]
  exact ⟨r4, A2, rfl, rfl, h⟩
theorem myX10_held : jY yX10_held cX10_held 6 (some .int) 1 := ⟨q2090, q139, by decide +kernel, by decide +kernel, by decide⟩
def fX10_held_J74 (A : pA) (k19 : Int32 → Int32 → Int32 → Int32 → Prop) (Q : Int32 → Prop) (l1 : Int32) (l2 : Int32) (l3 : Int32) (l4 : Int32) : Prop :=
    k19 l1 l2 l3 (l4 + 1)
theorem fX10_held_J74_ok {Γ : jG} {n : Nat} {K : Nat → pKd} {G : pG} {A : pA} {Lg : pL} (hf : mOK n K G) (Q : Int32 → Prop) (P : jO → pS → Prop) (hP : P = (fun o u => ∃ (r : Int32), o = .inl (some (.int r)) ∧ u = (n, K, A, Lg, G) ∧ Q r)) (k19 : Int32 → Int32 → Int32 → Int32 → Prop) (ok19 : ∀ (l1 : Int32) (l2 : Int32) (l3 : Int32) (l4 : Int32), k19 l1 l2 l3 l4 → J Γ RX10 cX10_held 6 (some .int) "held" [] 3 0 0 19 [(0, .ref 1198), (1, .int l1), (2, .int l2), (3, .int l3), (4, .int l4)] [] (n, K, A, Lg, G) P) (l1 : Int32) (l2 : Int32) (l3 : Int32) (l4 : Int32) (h : fX10_held_J74 A k19 Q l1 l2 l3 l4) : J Γ RX10 cX10_held 6 (some .int) "held" [] 3 0 0 74 [(0, .ref 1198), (1, .int l1), (2, .int l2), (3, .int l3), (4, .int l4)] [] (n, K, A, Lg, G) P := by
  unfold fX10_held_J74 at h
  refine j_iinc (v := l4 + 1) 4 rfl rfl (by decide) rfl dX10_held_74 ?_
  refine j_goto (tgt := 19) dX10_held_77 (by decide) ?_
  refine j_ls [1, 2, 3, 4, 0] rfl ?_
  exact ok19 l1 l2 l3 (l4 + 1) h
def fX10_held_L19 (A : pA)  (Q : Int32 → Prop) : Nat → Int32 → Int32 → Int32 → Int32 → Prop
  | 0, _, _, _, _ => False
  | n9 + 1, l1, l2, l3, l4 =>
    (vp_in (A 1198 18) 2) ∧ ((if (A 1211 (A 1198 18).toNatClampNeg) ≤ l4 then Q l2 else (vp_in ((5 * (A 1198 18)) + l4) 10) ∧ ((vp_in ((7 * (A 1212 ((5 * (A 1198 18)) + l4).toNatClampNeg)) + l1) 49) ∧ ((if (A 1236 ((7 * (A 1212 ((5 * (A 1198 18)) + l4).toNatClampNeg)) + l1).toNatClampNeg) < l3 then fX10_held_J74 A (fun x0 x1 x2 x3 => fX10_held_L19 A  Q n9 x0 x1 x2 x3) Q l1 l4 (A 1236 ((7 * (A 1212 ((5 * (A 1198 18)) + l4).toNatClampNeg)) + l1).toNatClampNeg) l4 else fX10_held_J74 A (fun x0 x1 x2 x3 => fX10_held_L19 A  Q n9 x0 x1 x2 x3) Q l1 l2 l3 l4)))))
theorem fX10_held_L19_ok {Γ : jG} {n : Nat} {K : Nat → pKd} {G : pG} {A : pA} {Lg : pL} (hf : mOK n K G) (Q : Int32 → Prop) (P : jO → pS → Prop) (hP : P = (fun o u => ∃ (r : Int32), o = .inl (some (.int r)) ∧ u = (n, K, A, Lg, G) ∧ Q r))    : ∀ (n9 : Nat) (l1 : Int32) (l2 : Int32) (l3 : Int32) (l4 : Int32), fX10_held_L19 A  Q n9 l1 l2 l3 l4 → J Γ RX10 cX10_held 6 (some .int) "held" [] 3 0 0 19 [(0, .ref 1198), (1, .int l1), (2, .int l2), (3, .int l3), (4, .int l4)] [] (n, K, A, Lg, G) P := by
  intro n9
  induction n9 with
  | zero => intro l1 l2 l3 l4 h; exact h.elim
  | succ n9 ih =>
    intro l1 l2 l3 l4 h
    unfold fX10_held_L19 at h
    refine j_iload 4 rfl dX10_held_19 ?_
    refine j_aload_n 0 rfl dX10_held_21 ?_
    refine j_getfr fl_X10_55_9 rfl (m_lt hf (by decide)) (fk_1198 hf) (fg_1198_26 hf) dX10_held_22 ?_
    refine j_aload_n 0 rfl dX10_held_25 ?_
    refine j_getfi fl_X10_242_9 rfl (m_lt hf (by decide)) (fk_1198 hf) dX10_held_26 ?_
    obtain ⟨b1, h⟩ := h
    refine j_ialdJ (j := (A 1198 18).toNatClampNeg) (m_lt hf (by decide)) (fk_1211 hf) b1 rfl dX10_held_29 ?_
    refine j_icmp_ge (tgt := 80) dX10_held_30 (by decide) (fun c => ?_) (fun c => ?_)
    · rw [if_pos c] at h
      refine j_iload_n 2 rfl dX10_held_80 ?_
      refine j_iret rfl ?_ dX10_held_81
      rw [hP]
      exact ⟨l2, rfl, rfl, h⟩
    · rw [if_neg c] at h
      refine j_aload_n 0 rfl dX10_held_33 ?_
      refine j_getfr fl_X10_131_9 rfl (m_lt hf (by decide)) (fk_1198 hf) (fg_1198_55 hf) dX10_held_34 ?_
      refine j_bipush (v := 7) dX10_held_37 (by decide) ?_
      refine j_aload_n 0 rfl dX10_held_39 ?_
      refine j_getfr fl_X10_58_9 rfl (m_lt hf (by decide)) (fk_1198 hf) (fg_1198_27 hf) dX10_held_40 ?_
      refine j_iconst (v := 5) dX10_held_43 (by decide) ?_
      refine j_aload_n 0 rfl dX10_held_44 ?_
      refine j_getfi fl_X10_242_9 rfl (m_lt hf (by decide)) (fk_1198 hf) dX10_held_45 ?_
      refine j_imul dX10_held_48 ?_
      refine j_iload 4 rfl dX10_held_49 ?_
      refine j_iadd dX10_held_51 ?_
      obtain ⟨b2, h⟩ := h
      refine j_ialdJ (j := ((5 * (A 1198 18)) + l4).toNatClampNeg) (m_lt hf (by decide)) (fk_1212 hf) b2 rfl dX10_held_52 ?_
      refine j_imul dX10_held_53 ?_
      refine j_iload_n 1 rfl dX10_held_54 ?_
      refine j_iadd dX10_held_55 ?_
      obtain ⟨b3, h⟩ := h
      refine j_ialdJ (j := ((7 * (A 1212 ((5 * (A 1198 18)) + l4).toNatClampNeg)) + l1).toNatClampNeg) (m_lt hf (by decide)) (fk_1236 hf) b3 rfl dX10_held_56 ?_
      refine j_istore (by decide) rfl dX10_held_57 ?_
      refine j_iload 0 rfl dX10_held_59 ?_
      refine j_iload_n 4 rfl dX10_held_61 ?_
      refine j_icmp_lt (tgt := 68) dX10_held_62 (by decide) (fun c => ?_) (fun c => ?_)
      · rw [if_pos c] at h
        refine j_iload 5 rfl dX10_held_68 ?_
        refine j_istore_n (by decide) rfl dX10_held_70 ?_
        refine j_iload 1 rfl dX10_held_71 ?_
        refine j_istore_n (by decide) rfl dX10_held_73 ?_
        refine j_ls [3, 4, 1, 0, 5] rfl ?_
        exact fX10_held_J74_ok hf Q P hP (fun x0 x1 x2 x3 => fX10_held_L19 A  Q n9 x0 x1 x2 x3) (fun x0 x1 x2 x3 h9 => ih x0 x1 x2 x3 h9) l1 l4 (A 1236 ((7 * (A 1212 ((5 * (A 1198 18)) + l4).toNatClampNeg)) + l1).toNatClampNeg) l4 h
      · rw [if_neg c] at h
        refine j_goto (tgt := 74) dX10_held_65 (by decide) ?_
        refine j_ls [1, 2, 3, 4, 5] rfl ?_
        exact fX10_held_J74_ok hf Q P hP (fun x0 x1 x2 x3 => fX10_held_L19 A  Q n9 x0 x1 x2 x3) (fun x0 x1 x2 x3 h9 => ih x0 x1 x2 x3 h9) l1 l2 l3 l4 h
def fX10_held (A : pA) (p1 : Int32) (Q : Int32 → Prop) : Prop :=
    fX10_isPlace A p1 (fun r4 => (if r4 = 0 then Q (-1) else ∃ m5, fX10_held_L19 A  Q m5 p1 (-2) 99 0))
theorem tX10_held {Γ : jG} {n : Nat} {K : Nat → pKd} {G : pG} {Lg : pL} (hf : mOK n K G) {A : pA} (p1 : Int32) (Q : Int32 → Prop) (h : fX10_held A p1 Q) : jMet Γ yX10_held cX10_held 6 (some .int) [] 3 0 0 [.ref 1198, .int p1] (n, K, A, Lg, G) (fun o u => ∃ (r : Int32), o = .inl (some (.int r)) ∧ u = (n, K, A, Lg, G) ∧ Q r) := by
  unfold fX10_held at h
  obtain ⟨P, hP⟩ : ∃ P : jO → pS → Prop, P = (fun o u => ∃ (r : Int32), o = .inl (some (.int r)) ∧ u = (n, K, A, Lg, G) ∧ Q r) := ⟨_, rfl⟩
  rw [← hP]
  refine jMet_of rfl rfl rfl (Nat.le_of_ble_eq_true rfl) ?_
  show J Γ RX10 cX10_held 6 (some .int) "held" [] 3 0 0 0 [(0, .ref 1198), (1, .int p1)] [] (n, K, A, Lg, G) P
  refine j_aload_n 0 rfl dX10_held_0 ?_
  refine j_iload_n 1 rfl dX10_held_1 ?_
  refine j_callV (b := 1198) (As := [.int p1]) (st := []) (C := RX10) (kc' := 0) (ks' := 0) (tX10_isPlace hf p1 _ h) myX10_isPlace rfl q1888 q1890 qs85 (by decide) (fun s9 H9 hK9 hR9 h69 => jIs_in hK9 hR9 h69 (m_lt hf (by decide)) (fk_1198 hf) rfl) rfl (Nat.le_of_ble_eq_true rfl) rfl (by decide) (Nat.le_refl 0) (Nat.le_refl 0) dX10_held_2 (fun v9 u9 hq => ?_) (fun k9 u9 hq => by obtain ⟨_, e9, _⟩ := hq; cases e9)
  obtain ⟨r4, e9, rfl, h⟩ := hq
  obtain rfl := Sum.inl.inj e9
  show J Γ RX10 cX10_held 6 (some .int) "held" [] 3 0 0 5 [(0, .ref 1198), (1, .int p1)] [.int r4] (n, K, A, Lg, G) P
  refine j_if_ne (tgt := 10) dX10_held_5 (by decide) (fun c => ?_) (fun c => ?_)
  · rw [if_neg c] at h
    refine j_bipush (v := (-2)) dX10_held_10 (by decide) ?_
    refine j_istore_n (by decide) rfl dX10_held_12 ?_
    refine j_bipush (v := 99) dX10_held_13 (by decide) ?_
    refine j_istore_n (by decide) rfl dX10_held_15 ?_
    refine j_iconst (v := 0) dX10_held_16 (by decide) ?_
    refine j_istore (by decide) rfl dX10_held_17 ?_
    refine j_ls [3, 4, 2, 1, 0] rfl ?_
    obtain ⟨m5, h⟩ := h
    exact fX10_held_L19_ok hf Q P hP   m5 p1 (-2) 99 0 h
  · rw [if_pos c] at h
    refine j_iconst (v := (-1)) dX10_held_8 (by decide) ?_
    refine j_iret rfl ?_ dX10_held_9
    rw [hP]
    exact ⟨(-1), rfl, rfl, h⟩
theorem myX10_grudge : jY yX10_grudge cX10_grudge 4 (some .int) 2 := ⟨q2094, q139, by decide +kernel, by decide +kernel, by decide⟩
def fX10_grudge_L24   (Q : Int32 → pA → Prop) : Nat → Int32 → Int32 → Int32 → pA → Prop
  | 0, _, _, _, _ => False
  | n9 + 1, l1, l2, l3, A =>
    (if 99 < l3 then Q (-2) A else fX10_bearsGrudge A l1 l2 (fun r1 => (if r1 = 0 then Q l3 A else fX10_fades A l1 l2 (fun A2 => fX10_grudge_L24   Q n9 l1 l2 (l3 + 1) A2))))
theorem fX10_grudge_L24_ok {Γ : jG} {n : Nat} {K : Nat → pKd} {G : pG} {Lg : pL} (hf : mOK n K G) (Q : Int32 → pA → Prop) (P : jO → pS → Prop) (hP : P = (fun o u => ∃ (r : Int32) (A' : pA), o = .inl (some (.int r)) ∧ u = (n, K, A', Lg, G) ∧ Q r A'))    : ∀ (n9 : Nat) (l1 : Int32) (l2 : Int32) (l3 : Int32) (A : pA), fX10_grudge_L24   Q n9 l1 l2 l3 A → J Γ RX10 cX10_grudge 4 (some .int) "grudge" [] 5 0 0 24 [(0, .ref 1198), (1, .int l1), (2, .int l2), (3, .int l3)] [] (n, K, A, Lg, G) P := by
  intro n9
  induction n9 with
  | zero => intro l1 l2 l3 A h; exact h.elim
  | succ n9 ih =>
    intro l1 l2 l3 A h
    unfold fX10_grudge_L24 at h
    refine j_iload_n 3 rfl dX10_grudge_24 ?_
    refine j_bipush (v := 99) dX10_grudge_25 (by decide) ?_
    refine j_icmp_gt (tgt := 53) dX10_grudge_27 (by decide) (fun c => ?_) (fun c => ?_)
    · rw [if_pos c] at h
      refine j_bipush (v := (-2)) dX10_grudge_53 (by decide) ?_
      refine j_iret rfl ?_ dX10_grudge_55
      rw [hP]
      exact ⟨(-2), A, rfl, rfl, h⟩
    · rw [if_neg c] at h
      refine j_aload_n 0 rfl dX10_grudge_30 ?_
      refine j_iload_n 1 rfl dX10_grudge_31 ?_
      refine j_iload_n 2 rfl dX10_grudge_32 ?_
      refine j_callV (b := 1198) (As := [.int l1, .int l2]) (st := []) (C := RX10) (kc' := 0) (ks' := 0) (tX10_bearsGrudge hf l1 l2 _ h) myX10_bearsGrudge rfl q2023 q2025 qs110 (by decide) (fun s9 H9 hK9 hR9 h69 => jIs_in hK9 hR9 h69 (m_lt hf (by decide)) (fk_1198 hf) rfl) rfl (Nat.le_of_ble_eq_true rfl) rfl (by decide) (Nat.le_refl 0) (Nat.le_refl 0) dX10_grudge_33 (fun v9 u9 hq => ?_) (fun k9 u9 hq => by obtain ⟨_, e9, _⟩ := hq; cases e9)
      obtain ⟨r1, e9, rfl, h⟩ := hq
      obtain rfl := Sum.inl.inj e9
      show J Γ RX10 cX10_grudge 4 (some .int) "grudge" [] 5 0 0 36 [(0, .ref 1198), (1, .int l1), (2, .int l2), (3, .int l3)] [.int r1] (n, K, A, Lg, G) P
      refine j_if_ne (tgt := 41) dX10_grudge_36 (by decide) (fun c => ?_) (fun c => ?_)
      · rw [if_neg c] at h
        refine j_aload_n 0 rfl dX10_grudge_41 ?_
        refine j_iload_n 1 rfl dX10_grudge_42 ?_
        refine j_iload_n 2 rfl dX10_grudge_43 ?_
        refine j_callV (b := 1198) (As := [.int l1, .int l2]) (st := []) (C := RX10) (kc' := 0) (ks' := 0) (tX10_fades hf l1 l2 _ h) myX10_fades rfl q2027 q2029 qs111 (by decide) (fun s9 H9 hK9 hR9 h69 => jIs_in hK9 hR9 h69 (m_lt hf (by decide)) (fk_1198 hf) rfl) rfl (Nat.le_of_ble_eq_true rfl) rfl (by decide) (Nat.le_refl 0) (Nat.le_refl 0) dX10_grudge_44 (fun v9 u9 hq => ?_) (fun k9 u9 hq => by obtain ⟨_, e9, _⟩ := hq; cases e9)
        obtain ⟨A2, e9, rfl, h⟩ := hq
        obtain rfl := Sum.inl.inj e9
        show J Γ RX10 cX10_grudge 4 (some .int) "grudge" [] 5 0 0 47 [(0, .ref 1198), (1, .int l1), (2, .int l2), (3, .int l3)] [] (n, K, A2, Lg, G) P
        refine j_iinc (v := l3 + 1) 3 rfl rfl (by decide) rfl dX10_grudge_47 ?_
        refine j_goto (tgt := 24) dX10_grudge_50 (by decide) ?_
        refine j_ls [1, 2, 3, 0] rfl ?_
        exact ih l1 l2 (l3 + 1) A2 h
      · rw [if_pos c] at h
        refine j_iload_n 3 rfl dX10_grudge_39 ?_
        refine j_iret rfl ?_ dX10_grudge_40
        rw [hP]
        exact ⟨l3, A, rfl, rfl, h⟩
def fX10_grudge (A : pA) (p1 : Int32) (p2 : Int32) (Q : Int32 → pA → Prop) : Prop :=
    fX10_isDog A p1 (fun r3 => (if r3 = 0 then Q (-1) A else fX10_isPerson A p2 (fun r4 => (if r4 = 0 then Q (-1) A else fX10_copies A (fun A5 => ∃ m6, fX10_grudge_L24   Q m6 p1 p2 0 A5)))))
theorem tX10_grudge {Γ : jG} {n : Nat} {K : Nat → pKd} {G : pG} {Lg : pL} (hf : mOK n K G) {A : pA} (p1 : Int32) (p2 : Int32) (Q : Int32 → pA → Prop) (h : fX10_grudge A p1 p2 Q) : jMet Γ yX10_grudge cX10_grudge 4 (some .int) [] 5 0 0 [.ref 1198, .int p1, .int p2] (n, K, A, Lg, G) (fun o u => ∃ (r : Int32) (A' : pA), o = .inl (some (.int r)) ∧ u = (n, K, A', Lg, G) ∧ Q r A') := by
  unfold fX10_grudge at h
  obtain ⟨P, hP⟩ : ∃ P : jO → pS → Prop, P = (fun o u => ∃ (r : Int32) (A' : pA), o = .inl (some (.int r)) ∧ u = (n, K, A', Lg, G) ∧ Q r A') := ⟨_, rfl⟩
  rw [← hP]
  refine jMet_of rfl rfl rfl (Nat.le_of_ble_eq_true rfl) ?_
  show J Γ RX10 cX10_grudge 4 (some .int) "grudge" [] 5 0 0 0 [(0, .ref 1198), (1, .int p1), (2, .int p2)] [] (n, K, A, Lg, G) P
  refine j_aload_n 0 rfl dX10_grudge_0 ?_
  refine j_iload_n 1 rfl dX10_grudge_1 ?_
  refine j_callV (b := 1198) (As := [.int p1]) (st := []) (C := RX10) (kc' := 0) (ks' := 0) (tX10_isDog hf p1 _ h) myX10_isDog rfl q1911 q1913 qs89 (by decide) (fun s9 H9 hK9 hR9 h69 => jIs_in hK9 hR9 h69 (m_lt hf (by decide)) (fk_1198 hf) rfl) rfl (Nat.le_of_ble_eq_true rfl) rfl (by decide) (Nat.le_refl 0) (Nat.le_refl 0) dX10_grudge_2 (fun v9 u9 hq => ?_) (fun k9 u9 hq => by obtain ⟨_, e9, _⟩ := hq; cases e9)
  obtain ⟨r3, e9, rfl, h⟩ := hq
  obtain rfl := Sum.inl.inj e9
  show J Γ RX10 cX10_grudge 4 (some .int) "grudge" [] 5 0 0 5 [(0, .ref 1198), (1, .int p1), (2, .int p2)] [.int r3] (n, K, A, Lg, G) P
  refine j_if_eq (tgt := 16) dX10_grudge_5 (by decide) (fun c => ?_) (fun c => ?_)
  · rw [if_pos c] at h
    refine j_iconst (v := (-1)) dX10_grudge_16 (by decide) ?_
    refine j_iret rfl ?_ dX10_grudge_17
    rw [hP]
    exact ⟨(-1), A, rfl, rfl, h⟩
  · rw [if_neg c] at h
    refine j_aload_n 0 rfl dX10_grudge_8 ?_
    refine j_iload_n 2 rfl dX10_grudge_9 ?_
    refine j_callV (b := 1198) (As := [.int p2]) (st := []) (C := RX10) (kc' := 0) (ks' := 0) (tX10_isPerson hf p2 _ h) myX10_isPerson rfl q1919 q1921 qs90 (by decide) (fun s9 H9 hK9 hR9 h69 => jIs_in hK9 hR9 h69 (m_lt hf (by decide)) (fk_1198 hf) rfl) rfl (Nat.le_of_ble_eq_true rfl) rfl (by decide) (Nat.le_refl 0) (Nat.le_refl 0) dX10_grudge_10 (fun v9 u9 hq => ?_) (fun k9 u9 hq => by obtain ⟨_, e9, _⟩ := hq; cases e9)
    obtain ⟨r4, e9, rfl, h⟩ := hq
    obtain rfl := Sum.inl.inj e9
    show J Γ RX10 cX10_grudge 4 (some .int) "grudge" [] 5 0 0 13 [(0, .ref 1198), (1, .int p1), (2, .int p2)] [.int r4] (n, K, A, Lg, G) P
    refine j_if_ne (tgt := 18) dX10_grudge_13 (by decide) (fun c => ?_) (fun c => ?_)
    · rw [if_neg c] at h
      refine j_aload_n 0 rfl dX10_grudge_18 ?_
      refine j_callV (b := 1198) (As := []) (st := []) (C := RX10) (kc' := 0) (ks' := 0) (tX10_copies hf  _ h) myX10_copies rfl q1895 q1897 qs86 (by decide) (fun s9 H9 hK9 hR9 h69 => jIs_in hK9 hR9 h69 (m_lt hf (by decide)) (fk_1198 hf) rfl) rfl (Nat.le_of_ble_eq_true rfl) rfl (by decide) (Nat.le_refl 0) (Nat.le_refl 0) dX10_grudge_19 (fun v9 u9 hq => ?_) (fun k9 u9 hq => by obtain ⟨_, e9, _⟩ := hq; cases e9)
      obtain ⟨A5, e9, rfl, h⟩ := hq
      obtain rfl := Sum.inl.inj e9
      show J Γ RX10 cX10_grudge 4 (some .int) "grudge" [] 5 0 0 22 [(0, .ref 1198), (1, .int p1), (2, .int p2)] [] (n, K, A5, Lg, G) P
      refine j_iconst (v := 0) dX10_grudge_22 (by decide) ?_
      refine j_istore_n (by decide) rfl dX10_grudge_23 ?_
      refine j_ls [1, 2, 3, 0] rfl ?_
      obtain ⟨m6, h⟩ := h
      exact fX10_grudge_L24_ok hf Q P hP   m6 p1 p2 0 A5 h
    · rw [if_pos c] at h
      refine j_iconst (v := (-1)) dX10_grudge_16 (by decide) ?_
      refine j_iret rfl ?_ dX10_grudge_17
      rw [hP]
      exact ⟨(-1), A, rfl, rfl, h⟩
theorem myX10_duesOf : jY yX10_duesOf cX10_duesOf 2 (some .int) 1 := ⟨q2102, q139, by decide +kernel, by decide +kernel, by decide⟩
def fX10_duesOf (A : pA) (p1 : Int32) (Q : Int32 → pA → Prop) : Prop :=
    fX10_looksAtDog A p1 (fun A1 => fX10_asks A1 3 (A1 1234 8) (fun r2 A3 => fX10_within A3 r2 0 99 (fun r4 => Q r4 A3)))
theorem tX10_duesOf {Γ : jG} {n : Nat} {K : Nat → pKd} {G : pG} {Lg : pL} (hf : mOK n K G) {A : pA} (p1 : Int32) (Q : Int32 → pA → Prop) (h : fX10_duesOf A p1 Q) : jMet Γ yX10_duesOf cX10_duesOf 2 (some .int) [] 3 0 0 [.ref 1198, .int p1] (n, K, A, Lg, G) (fun o u => ∃ (r : Int32) (A' : pA), o = .inl (some (.int r)) ∧ u = (n, K, A', Lg, G) ∧ Q r A') := by
  unfold fX10_duesOf at h
  obtain ⟨P, hP⟩ : ∃ P : jO → pS → Prop, P = (fun o u => ∃ (r : Int32) (A' : pA), o = .inl (some (.int r)) ∧ u = (n, K, A', Lg, G) ∧ Q r A') := ⟨_, rfl⟩
  rw [← hP]
  refine jMet_of rfl rfl rfl (Nat.le_of_ble_eq_true rfl) ?_
  show J Γ RX10 cX10_duesOf 2 (some .int) "duesOf" [] 3 0 0 0 [(0, .ref 1198), (1, .int p1)] [] (n, K, A, Lg, G) P
  refine j_aload_n 0 rfl dX10_duesOf_0 ?_
  refine j_iload_n 1 rfl dX10_duesOf_1 ?_
  refine j_callV (b := 1198) (As := [.int p1]) (st := []) (C := RX10) (kc' := 0) (ks' := 0) (tX10_looksAtDog hf p1 _ h) myX10_looksAtDog rfl q1932 q1934 qs92 (by decide) (fun s9 H9 hK9 hR9 h69 => jIs_in hK9 hR9 h69 (m_lt hf (by decide)) (fk_1198 hf) rfl) rfl (Nat.le_of_ble_eq_true rfl) rfl (by decide) (Nat.le_refl 0) (Nat.le_refl 0) dX10_duesOf_2 (fun v9 u9 hq => ?_) (fun k9 u9 hq => by obtain ⟨_, e9, _⟩ := hq; cases e9)
  obtain ⟨A1, e9, rfl, h⟩ := hq
  obtain rfl := Sum.inl.inj e9
  show J Γ RX10 cX10_duesOf 2 (some .int) "duesOf" [] 3 0 0 5 [(0, .ref 1198), (1, .int p1)] [] (n, K, A1, Lg, G) P
  refine j_aload_n 0 rfl dX10_duesOf_5 ?_
  refine j_iconst (v := 3) dX10_duesOf_6 (by decide) ?_
  refine j_aload_n 0 rfl dX10_duesOf_7 ?_
  refine j_getfr fl_X10_125_9 rfl (m_lt hf (by decide)) (fk_1198 hf) (fg_1198_52 hf) dX10_duesOf_8 ?_
  refine j_bipush (v := 8) dX10_duesOf_11 (by decide) ?_
  refine j_ialdJ (j := 8) (m_lt hf (by decide)) (fk_1234 hf) (by unfold vp_in; decide) rfl dX10_duesOf_13 ?_
  refine j_callV (b := 1198) (As := [.int 3, .int (A1 1234 8)]) (st := []) (C := RX10) (kc' := 0) (ks' := 0) (tX10_asks hf 3 (A1 1234 8) _ h) myX10_asks rfl q1948 q1950 qs96 (by decide) (fun s9 H9 hK9 hR9 h69 => jIs_in hK9 hR9 h69 (m_lt hf (by decide)) (fk_1198 hf) rfl) rfl (Nat.le_of_ble_eq_true rfl) rfl (by decide) (Nat.le_refl 0) (Nat.le_refl 0) dX10_duesOf_14 (fun v9 u9 hq => ?_) (fun k9 u9 hq => by obtain ⟨_, _, e9, _⟩ := hq; cases e9)
  obtain ⟨r2, A3, e9, rfl, h⟩ := hq
  obtain rfl := Sum.inl.inj e9
  show J Γ RX10 cX10_duesOf 2 (some .int) "duesOf" [] 3 0 0 17 [(0, .ref 1198), (1, .int p1)] [.int r2] (n, K, A3, Lg, G) P
  refine j_iconst (v := 0) dX10_duesOf_17 (by decide) ?_
  refine j_bipush (v := 99) dX10_duesOf_18 (by decide) ?_
  refine j_callS (As := [.int r2, .int 0, .int 99]) (st := []) (kc' := 0) (ks' := 0) (tX10_within hf r2 0 99 _ h) myX10_within q1960 q1961 rfl (Nat.le_of_ble_eq_true rfl) rfl (by decide) (Nat.le_refl 0) (Nat.le_refl 0) dX10_duesOf_20 (fun v9 u9 hq => ?_) (fun k9 u9 hq => by obtain ⟨_, e9, _⟩ := hq; cases e9)
  obtain ⟨r4, e9, rfl, h⟩ := hq
  obtain rfl := Sum.inl.inj e9
  show J Γ RX10 cX10_duesOf 2 (some .int) "duesOf" [] 3 0 0 23 [(0, .ref 1198), (1, .int p1)] [.int r4] (n, K, A3, Lg, G) P
  refine j_iret rfl ?_ dX10_duesOf_23
  rw [hP]
  exact ⟨r4, A3, rfl, rfl, h⟩
theorem myX10_share : jY yX10_share cX10_share 5 (some .int) 1 := ⟨q2098, q139, by decide +kernel, by decide +kernel, by decide⟩
def fX10_share_L21   (Q : Int32 → pA → Prop) : Nat → Int32 → Int32 → Int32 → Int32 → pA → Prop
  | 0, _, _, _, _, _ => False
  | n9 + 1, l1, l2, l3, l4, A =>
    (vp_in (A 1198 18) 2) ∧ ((if (A 1211 (A 1198 18).toNatClampNeg) ≤ l4 then (if l2 = 0 then Q 0 A else fX10_duesOf A l1 (fun r2 A3 => (¬ l2 = 0) ∧ (Q ((l3 * r2) / l2) A3))) else fX10_duesOf A l4 (fun r5 A6 => (vp_in (5 + l4) 77) ∧ (fX10_share_L21   Q n9 l1 (l2 + r5) (l3 + (A6 1238 (5 + l4).toNatClampNeg)) (l4 + 1) A6))))
theorem fX10_share_L21_ok {Γ : jG} {n : Nat} {K : Nat → pKd} {G : pG} {Lg : pL} (hf : mOK n K G) (Q : Int32 → pA → Prop) (P : jO → pS → Prop) (hP : P = (fun o u => ∃ (r : Int32) (A' : pA), o = .inl (some (.int r)) ∧ u = (n, K, A', Lg, G) ∧ Q r A'))    : ∀ (n9 : Nat) (l1 : Int32) (l2 : Int32) (l3 : Int32) (l4 : Int32) (A : pA), fX10_share_L21   Q n9 l1 l2 l3 l4 A → J Γ RX10 cX10_share 5 (some .int) "share" [] 4 0 0 21 [(0, .ref 1198), (1, .int l1), (2, .int l2), (3, .int l3), (4, .int l4)] [] (n, K, A, Lg, G) P := by
  intro n9
  induction n9 with
  | zero => intro l1 l2 l3 l4 A h; exact h.elim
  | succ n9 ih =>
    intro l1 l2 l3 l4 A h
    unfold fX10_share_L21 at h
    refine j_iload 4 rfl dX10_share_21 ?_
    refine j_aload_n 0 rfl dX10_share_23 ?_
    refine j_getfr fl_X10_55_9 rfl (m_lt hf (by decide)) (fk_1198 hf) (fg_1198_26 hf) dX10_share_24 ?_
    refine j_aload_n 0 rfl dX10_share_27 ?_
    refine j_getfi fl_X10_242_9 rfl (m_lt hf (by decide)) (fk_1198 hf) dX10_share_28 ?_
    obtain ⟨b1, h⟩ := h
    refine j_ialdJ (j := (A 1198 18).toNatClampNeg) (m_lt hf (by decide)) (fk_1211 hf) b1 rfl dX10_share_31 ?_
    refine j_icmp_ge (tgt := 62) dX10_share_32 (by decide) (fun c => ?_) (fun c => ?_)
    · rw [if_pos c] at h
      refine j_iload_n 2 rfl dX10_share_62 ?_
      refine j_if_ne (tgt := 70) dX10_share_63 (by decide) (fun c => ?_) (fun c => ?_)
      · rw [if_neg c] at h
        refine j_iload_n 3 rfl dX10_share_70 ?_
        refine j_aload_n 0 rfl dX10_share_71 ?_
        refine j_iload_n 1 rfl dX10_share_72 ?_
        refine j_callV (b := 1198) (As := [.int l1]) (st := [.int l3]) (C := RX10) (kc' := 0) (ks' := 0) (tX10_duesOf hf l1 _ h) myX10_duesOf rfl q2099 q2101 qs116 (by decide) (fun s9 H9 hK9 hR9 h69 => jIs_in hK9 hR9 h69 (m_lt hf (by decide)) (fk_1198 hf) rfl) rfl (Nat.le_of_ble_eq_true rfl) rfl (by decide) (Nat.le_refl 0) (Nat.le_refl 0) dX10_share_73 (fun v9 u9 hq => ?_) (fun k9 u9 hq => by obtain ⟨_, _, e9, _⟩ := hq; cases e9)
        obtain ⟨r2, A3, e9, rfl, h⟩ := hq
        obtain rfl := Sum.inl.inj e9
        show J Γ RX10 cX10_share 5 (some .int) "share" [] 4 0 0 76 [(0, .ref 1198), (1, .int l1), (2, .int l2), (3, .int l3), (4, .int l4)] [.int r2, .int l3] (n, K, A3, Lg, G) P
        refine j_imul dX10_share_76 ?_
        refine j_iload_n 2 rfl dX10_share_77 ?_
        obtain ⟨b4, h⟩ := h
        refine j_idiv b4 dX10_share_78 ?_
        refine j_iret rfl ?_ dX10_share_79
        rw [hP]
        exact ⟨(l3 * r2) / l2, A3, rfl, rfl, h⟩
      · rw [if_pos c] at h
        refine j_iconst (v := 0) dX10_share_66 (by decide) ?_
        refine j_goto (tgt := 79) dX10_share_67 (by decide) ?_
        refine j_iret rfl ?_ dX10_share_79
        rw [hP]
        exact ⟨0, A, rfl, rfl, h⟩
    · rw [if_neg c] at h
      refine j_iload_n 2 rfl dX10_share_35 ?_
      refine j_aload_n 0 rfl dX10_share_36 ?_
      refine j_iload 4 rfl dX10_share_37 ?_
      refine j_callV (b := 1198) (As := [.int l4]) (st := [.int l2]) (C := RX10) (kc' := 0) (ks' := 0) (tX10_duesOf hf l4 _ h) myX10_duesOf rfl q2099 q2101 qs116 (by decide) (fun s9 H9 hK9 hR9 h69 => jIs_in hK9 hR9 h69 (m_lt hf (by decide)) (fk_1198 hf) rfl) rfl (Nat.le_of_ble_eq_true rfl) rfl (by decide) (Nat.le_refl 0) (Nat.le_refl 0) dX10_share_39 (fun v9 u9 hq => ?_) (fun k9 u9 hq => by obtain ⟨_, _, e9, _⟩ := hq; cases e9)
      obtain ⟨r5, A6, e9, rfl, h⟩ := hq
      obtain rfl := Sum.inl.inj e9
      show J Γ RX10 cX10_share 5 (some .int) "share" [] 4 0 0 42 [(0, .ref 1198), (1, .int l1), (2, .int l2), (3, .int l3), (4, .int l4)] [.int r5, .int l2] (n, K, A6, Lg, G) P
      refine j_iadd dX10_share_42 ?_
      refine j_istore_n (by decide) rfl dX10_share_43 ?_
      refine j_iload_n 3 rfl dX10_share_44 ?_
      refine j_aload_n 1 rfl dX10_share_45 ?_
      refine j_getfr fl_X10_137_9 rfl (m_lt hf (by decide)) (fk_1198 hf) (fg_1198_57 hf) dX10_share_46 ?_
      refine j_iconst (v := 5) dX10_share_49 (by decide) ?_
      refine j_iload 4 rfl dX10_share_50 ?_
      refine j_iadd dX10_share_52 ?_
      obtain ⟨b7, h⟩ := h
      refine j_ialdJ (j := (5 + l4).toNatClampNeg) (m_lt hf (by decide)) (fk_1238 hf) b7 rfl dX10_share_53 ?_
      refine j_iadd dX10_share_54 ?_
      refine j_istore_n (by decide) rfl dX10_share_55 ?_
      refine j_iinc (v := l4 + 1) 4 rfl rfl (by decide) rfl dX10_share_56 ?_
      refine j_goto (tgt := 21) dX10_share_59 (by decide) ?_
      refine j_ls [3, 4, 2, 1, 0] rfl ?_
      exact ih l1 (l2 + r5) (l3 + (A6 1238 (5 + l4).toNatClampNeg)) (l4 + 1) A6 h
def fX10_share (A : pA) (p1 : Int32) (Q : Int32 → pA → Prop) : Prop :=
    fX10_isDog A p1 (fun r8 => (if r8 = 0 then Q (-1) A else fX10_copies A (fun A9 => ∃ m10, fX10_share_L21   Q m10 p1 0 0 0 A9)))
theorem tX10_share {Γ : jG} {n : Nat} {K : Nat → pKd} {G : pG} {Lg : pL} (hf : mOK n K G) {A : pA} (p1 : Int32) (Q : Int32 → pA → Prop) (h : fX10_share A p1 Q) : jMet Γ yX10_share cX10_share 5 (some .int) [] 4 0 0 [.ref 1198, .int p1] (n, K, A, Lg, G) (fun o u => ∃ (r : Int32) (A' : pA), o = .inl (some (.int r)) ∧ u = (n, K, A', Lg, G) ∧ Q r A') := by
  unfold fX10_share at h
  obtain ⟨P, hP⟩ : ∃ P : jO → pS → Prop, P = (fun o u => ∃ (r : Int32) (A' : pA), o = .inl (some (.int r)) ∧ u = (n, K, A', Lg, G) ∧ Q r A') := ⟨_, rfl⟩
  rw [← hP]
  refine jMet_of rfl rfl rfl (Nat.le_of_ble_eq_true rfl) ?_
  show J Γ RX10 cX10_share 5 (some .int) "share" [] 4 0 0 0 [(0, .ref 1198), (1, .int p1)] [] (n, K, A, Lg, G) P
  refine j_aload_n 0 rfl dX10_share_0 ?_
  refine j_iload_n 1 rfl dX10_share_1 ?_
  refine j_callV (b := 1198) (As := [.int p1]) (st := []) (C := RX10) (kc' := 0) (ks' := 0) (tX10_isDog hf p1 _ h) myX10_isDog rfl q1911 q1913 qs89 (by decide) (fun s9 H9 hK9 hR9 h69 => jIs_in hK9 hR9 h69 (m_lt hf (by decide)) (fk_1198 hf) rfl) rfl (Nat.le_of_ble_eq_true rfl) rfl (by decide) (Nat.le_refl 0) (Nat.le_refl 0) dX10_share_2 (fun v9 u9 hq => ?_) (fun k9 u9 hq => by obtain ⟨_, e9, _⟩ := hq; cases e9)
  obtain ⟨r8, e9, rfl, h⟩ := hq
  obtain rfl := Sum.inl.inj e9
  show J Γ RX10 cX10_share 5 (some .int) "share" [] 4 0 0 5 [(0, .ref 1198), (1, .int p1)] [.int r8] (n, K, A, Lg, G) P
  refine j_if_ne (tgt := 10) dX10_share_5 (by decide) (fun c => ?_) (fun c => ?_)
  · rw [if_neg c] at h
    refine j_aload_n 0 rfl dX10_share_10 ?_
    refine j_callV (b := 1198) (As := []) (st := []) (C := RX10) (kc' := 0) (ks' := 0) (tX10_copies hf  _ h) myX10_copies rfl q1895 q1897 qs86 (by decide) (fun s9 H9 hK9 hR9 h69 => jIs_in hK9 hR9 h69 (m_lt hf (by decide)) (fk_1198 hf) rfl) rfl (Nat.le_of_ble_eq_true rfl) rfl (by decide) (Nat.le_refl 0) (Nat.le_refl 0) dX10_share_11 (fun v9 u9 hq => ?_) (fun k9 u9 hq => by obtain ⟨_, e9, _⟩ := hq; cases e9)
    obtain ⟨A9, e9, rfl, h⟩ := hq
    obtain rfl := Sum.inl.inj e9
    show J Γ RX10 cX10_share 5 (some .int) "share" [] 4 0 0 14 [(0, .ref 1198), (1, .int p1)] [] (n, K, A9, Lg, G) P
    refine j_iconst (v := 0) dX10_share_14 (by decide) ?_
    refine j_istore_n (by decide) rfl dX10_share_15 ?_
    refine j_iconst (v := 0) dX10_share_16 (by decide) ?_
    refine j_istore_n (by decide) rfl dX10_share_17 ?_
    refine j_iconst (v := 0) dX10_share_18 (by decide) ?_
    refine j_istore (by decide) rfl dX10_share_19 ?_
    refine j_ls [3, 4, 2, 1, 0] rfl ?_
    obtain ⟨m10, h⟩ := h
    exact fX10_share_L21_ok hf Q P hP   m10 p1 0 0 0 A9 h
  · rw [if_pos c] at h
    refine j_iconst (v := (-1)) dX10_share_8 (by decide) ?_
    refine j_iret rfl ?_ dX10_share_9
    rw [hP]
    exact ⟨(-1), A, rfl, rfl, h⟩
theorem myX10_isLong : jY yX10_isLong cX10_isLong 1 (some .boolean) 1 := ⟨q2109, q139, by decide +kernel, by decide +kernel, by decide⟩
def fX10_isLong (A : pA) (p0 : Int32) (Q : Int32 → Prop) : Prop :=
    fX10_in A p0 0 1440 (fun r1 => (narrow .boolean (.int r1) = .int r1) ∧ (Q r1))
theorem tX10_isLong {Γ : jG} {n : Nat} {K : Nat → pKd} {G : pG} {Lg : pL} (hf : mOK n K G) {A : pA} (p0 : Int32) (Q : Int32 → Prop) (h : fX10_isLong A p0 Q) : jMet Γ yX10_isLong cX10_isLong 1 (some .boolean) [] 2 0 0 [.int p0] (n, K, A, Lg, G) (fun o u => ∃ (r : Int32), o = .inl (some (.int r)) ∧ u = (n, K, A, Lg, G) ∧ Q r) := by
  unfold fX10_isLong at h
  obtain ⟨P, hP⟩ : ∃ P : jO → pS → Prop, P = (fun o u => ∃ (r : Int32), o = .inl (some (.int r)) ∧ u = (n, K, A, Lg, G) ∧ Q r) := ⟨_, rfl⟩
  rw [← hP]
  refine jMet_of rfl rfl rfl (Nat.le_of_ble_eq_true rfl) ?_
  show J Γ RX10 cX10_isLong 1 (some .boolean) "isLong" [] 2 0 0 0 [(0, .int p0)] [] (n, K, A, Lg, G) P
  refine j_iload_n 0 rfl dX10_isLong_0 ?_
  refine j_iconst (v := 0) dX10_isLong_1 (by decide) ?_
  refine j_sipush (v := 1440) dX10_isLong_2 (by decide) ?_
  refine j_callS (As := [.int p0, .int 0, .int 1440]) (st := []) (kc' := 0) (ks' := 0) (tX10_in hf p0 0 1440 _ h) myX10_in q1892 q1893 rfl (Nat.le_of_ble_eq_true rfl) rfl (by decide) (Nat.le_refl 0) (Nat.le_refl 0) dX10_isLong_5 (fun v9 u9 hq => ?_) (fun k9 u9 hq => by obtain ⟨_, e9, _⟩ := hq; cases e9)
  obtain ⟨r1, e9, rfl, h⟩ := hq
  obtain rfl := Sum.inl.inj e9
  show J Γ RX10 cX10_isLong 1 (some .boolean) "isLong" [] 2 0 0 8 [(0, .int p0)] [.int r1] (n, K, A, Lg, G) P
  obtain ⟨b2, h⟩ := h
  refine j_zret rfl b2 ?_ dX10_isLong_8
  rw [hP]
  exact ⟨r1, rfl, rfl, h⟩
theorem myX10_then : jY yX10_then cX10_then 4 (some .int) 3 := ⟨q2106, q139, by decide +kernel, by decide +kernel, by decide⟩
def fX10_then (A : pA) (p1 : Int32) (p2 : Int32) (p3 : Int32) (Q : Int32 → pA → Prop) : Prop :=
    fX10_isPerson A p1 (fun r1 => (if r1 = 0 then Q (-1) A else fX10_isLong A p2 (fun r2 => (if r2 = 0 then Q (-1) A else fX10_in A p3 0 3 (fun r3 => (if r3 = 0 then Q (-1) A else fX10_copies A (fun A4 => fX10_goes A4 p2 (fun A5 => (if p3 = 0 then (vp_in (15 + p1) 77) ∧ (Q (A5 1238 (15 + p1).toNatClampNeg) A5) else (if p3 = 1 then (vp_in (23 + p1) 77) ∧ (Q (A5 1238 (23 + p1).toNatClampNeg) A5) else (if p3 = 2 then (vp_in (27 + p1) 77) ∧ (Q (A5 1238 (27 + p1).toNatClampNeg) A5) else (fX10_errandsLeft A5 p1 (-1) (fun r6 => Q r6 A5)))))))))))))
theorem tX10_then {Γ : jG} {n : Nat} {K : Nat → pKd} {G : pG} {Lg : pL} (hf : mOK n K G) {A : pA} (p1 : Int32) (p2 : Int32) (p3 : Int32) (Q : Int32 → pA → Prop) (h : fX10_then A p1 p2 p3 Q) : jMet Γ yX10_then cX10_then 4 (some .int) [] 8 0 0 [.ref 1198, .int p1, .int p2, .int p3] (n, K, A, Lg, G) (fun o u => ∃ (r : Int32) (A' : pA), o = .inl (some (.int r)) ∧ u = (n, K, A', Lg, G) ∧ Q r A') := by
  unfold fX10_then at h
  obtain ⟨P, hP⟩ : ∃ P : jO → pS → Prop, P = (fun o u => ∃ (r : Int32) (A' : pA), o = .inl (some (.int r)) ∧ u = (n, K, A', Lg, G) ∧ Q r A') := ⟨_, rfl⟩
  rw [← hP]
  refine jMet_of rfl rfl rfl (Nat.le_of_ble_eq_true rfl) ?_
  show J Γ RX10 cX10_then 4 (some .int) "then" [] 8 0 0 0 [(0, .ref 1198), (1, .int p1), (2, .int p2), (3, .int p3)] [] (n, K, A, Lg, G) P
  refine j_aload_n 0 rfl dX10_then_0 ?_
  refine j_iload_n 1 rfl dX10_then_1 ?_
  refine j_callV (b := 1198) (As := [.int p1]) (st := []) (C := RX10) (kc' := 0) (ks' := 0) (tX10_isPerson hf p1 _ h) myX10_isPerson rfl q1919 q1921 qs90 (by decide) (fun s9 H9 hK9 hR9 h69 => jIs_in hK9 hR9 h69 (m_lt hf (by decide)) (fk_1198 hf) rfl) rfl (Nat.le_of_ble_eq_true rfl) rfl (by decide) (Nat.le_refl 0) (Nat.le_refl 0) dX10_then_2 (fun v9 u9 hq => ?_) (fun k9 u9 hq => by obtain ⟨_, e9, _⟩ := hq; cases e9)
  obtain ⟨r1, e9, rfl, h⟩ := hq
  obtain rfl := Sum.inl.inj e9
  show J Γ RX10 cX10_then 4 (some .int) "then" [] 8 0 0 5 [(0, .ref 1198), (1, .int p1), (2, .int p2), (3, .int p3)] [.int r1] (n, K, A, Lg, G) P
  refine j_if_eq (tgt := 24) dX10_then_5 (by decide) (fun c => ?_) (fun c => ?_)
  · rw [if_pos c] at h
    refine j_iconst (v := (-1)) dX10_then_24 (by decide) ?_
    refine j_iret rfl ?_ dX10_then_25
    rw [hP]
    exact ⟨(-1), A, rfl, rfl, h⟩
  · rw [if_neg c] at h
    refine j_iload_n 2 rfl dX10_then_8 ?_
    refine j_callS (As := [.int p2]) (st := []) (kc' := 0) (ks' := 0) (tX10_isLong hf p2 _ h) myX10_isLong q2107 q2108 rfl (Nat.le_of_ble_eq_true rfl) rfl (by decide) (Nat.le_refl 0) (Nat.le_refl 0) dX10_then_9 (fun v9 u9 hq => ?_) (fun k9 u9 hq => by obtain ⟨_, e9, _⟩ := hq; cases e9)
    obtain ⟨r2, e9, rfl, h⟩ := hq
    obtain rfl := Sum.inl.inj e9
    show J Γ RX10 cX10_then 4 (some .int) "then" [] 8 0 0 12 [(0, .ref 1198), (1, .int p1), (2, .int p2), (3, .int p3)] [.int r2] (n, K, A, Lg, G) P
    refine j_if_eq (tgt := 24) dX10_then_12 (by decide) (fun c => ?_) (fun c => ?_)
    · rw [if_pos c] at h
      refine j_iconst (v := (-1)) dX10_then_24 (by decide) ?_
      refine j_iret rfl ?_ dX10_then_25
      rw [hP]
      exact ⟨(-1), A, rfl, rfl, h⟩
    · rw [if_neg c] at h
      refine j_iload_n 3 rfl dX10_then_15 ?_
      refine j_iconst (v := 0) dX10_then_16 (by decide) ?_
      refine j_iconst (v := 3) dX10_then_17 (by decide) ?_
      refine j_callS (As := [.int p3, .int 0, .int 3]) (st := []) (kc' := 0) (ks' := 0) (tX10_in hf p3 0 3 _ h) myX10_in q1892 q1893 rfl (Nat.le_of_ble_eq_true rfl) rfl (by decide) (Nat.le_refl 0) (Nat.le_refl 0) dX10_then_18 (fun v9 u9 hq => ?_) (fun k9 u9 hq => by obtain ⟨_, e9, _⟩ := hq; cases e9)
      obtain ⟨r3, e9, rfl, h⟩ := hq
      obtain rfl := Sum.inl.inj e9
      show J Γ RX10 cX10_then 4 (some .int) "then" [] 8 0 0 21 [(0, .ref 1198), (1, .int p1), (2, .int p2), (3, .int p3)] [.int r3] (n, K, A, Lg, G) P
      refine j_if_ne (tgt := 26) dX10_then_21 (by decide) (fun c => ?_) (fun c => ?_)
      · rw [if_neg c] at h
        refine j_aload_n 0 rfl dX10_then_26 ?_
        refine j_callV (b := 1198) (As := []) (st := []) (C := RX10) (kc' := 0) (ks' := 0) (tX10_copies hf  _ h) myX10_copies rfl q1895 q1897 qs86 (by decide) (fun s9 H9 hK9 hR9 h69 => jIs_in hK9 hR9 h69 (m_lt hf (by decide)) (fk_1198 hf) rfl) rfl (Nat.le_of_ble_eq_true rfl) rfl (by decide) (Nat.le_refl 0) (Nat.le_refl 0) dX10_then_27 (fun v9 u9 hq => ?_) (fun k9 u9 hq => by obtain ⟨_, e9, _⟩ := hq; cases e9)
        obtain ⟨A4, e9, rfl, h⟩ := hq
        obtain rfl := Sum.inl.inj e9
        show J Γ RX10 cX10_then 4 (some .int) "then" [] 8 0 0 30 [(0, .ref 1198), (1, .int p1), (2, .int p2), (3, .int p3)] [] (n, K, A4, Lg, G) P
        refine j_aload_n 0 rfl dX10_then_30 ?_
        refine j_iload_n 2 rfl dX10_then_31 ?_
        refine j_callV (b := 1198) (As := [.int p2]) (st := []) (C := RX10) (kc' := 0) (ks' := 0) (tX10_goes hf p2 _ h) myX10_goes rfl q1991 q1993 qs102 (by decide) (fun s9 H9 hK9 hR9 h69 => jIs_in hK9 hR9 h69 (m_lt hf (by decide)) (fk_1198 hf) rfl) rfl (Nat.le_of_ble_eq_true rfl) rfl (by decide) (Nat.le_refl 0) (Nat.le_refl 0) dX10_then_32 (fun v9 u9 hq => ?_) (fun k9 u9 hq => by obtain ⟨_, e9, _⟩ := hq; cases e9)
        obtain ⟨A5, e9, rfl, h⟩ := hq
        obtain rfl := Sum.inl.inj e9
        show J Γ RX10 cX10_then 4 (some .int) "then" [] 8 0 0 35 [(0, .ref 1198), (1, .int p1), (2, .int p2), (3, .int p3)] [] (n, K, A5, Lg, G) P
        refine j_iload_n 3 rfl dX10_then_35 ?_
        by_cases c7 : p3 = 0
        · rw [if_pos c7] at h
          have c7T : (p3 : Int32).toInt = 0 := by rw [c7]; rfl
          refine j_tableIn (off := 28) (tgt := 64) (by rw [c7T]; decide) (by rw [c7T]; decide) (by rw [c7T]; rfl) dX10_then_36 (by decide) ?_
          refine j_aload_n 0 rfl dX10_then_64 ?_
          refine j_getfr fl_X10_137_9 rfl (m_lt hf (by decide)) (fk_1198 hf) (fg_1198_57 hf) dX10_then_65 ?_
          refine j_bipush (v := 15) dX10_then_68 (by decide) ?_
          refine j_iload_n 1 rfl dX10_then_70 ?_
          refine j_iadd dX10_then_71 ?_
          obtain ⟨b8, h⟩ := h
          refine j_ialdJ (j := (15 + p1).toNatClampNeg) (m_lt hf (by decide)) (fk_1238 hf) b8 rfl dX10_then_72 ?_
          refine j_iret rfl ?_ dX10_then_73
          rw [hP]
          exact ⟨A5 1238 (15 + p1).toNatClampNeg, A5, rfl, rfl, h⟩
        rw [if_neg c7] at h
        by_cases c9 : p3 = 1
        · rw [if_pos c9] at h
          have c9T : (p3 : Int32).toInt = 1 := by rw [c9]; rfl
          refine j_tableIn (off := 38) (tgt := 74) (by rw [c9T]; decide) (by rw [c9T]; decide) (by rw [c9T]; rfl) dX10_then_36 (by decide) ?_
          refine j_aload_n 0 rfl dX10_then_74 ?_
          refine j_getfr fl_X10_137_9 rfl (m_lt hf (by decide)) (fk_1198 hf) (fg_1198_57 hf) dX10_then_75 ?_
          refine j_bipush (v := 23) dX10_then_78 (by decide) ?_
          refine j_iload_n 1 rfl dX10_then_80 ?_
          refine j_iadd dX10_then_81 ?_
          obtain ⟨b10, h⟩ := h
          refine j_ialdJ (j := (23 + p1).toNatClampNeg) (m_lt hf (by decide)) (fk_1238 hf) b10 rfl dX10_then_82 ?_
          refine j_iret rfl ?_ dX10_then_83
          rw [hP]
          exact ⟨A5 1238 (23 + p1).toNatClampNeg, A5, rfl, rfl, h⟩
        rw [if_neg c9] at h
        by_cases c11 : p3 = 2
        · rw [if_pos c11] at h
          have c11T : (p3 : Int32).toInt = 2 := by rw [c11]; rfl
          refine j_tableIn (off := 48) (tgt := 84) (by rw [c11T]; decide) (by rw [c11T]; decide) (by rw [c11T]; rfl) dX10_then_36 (by decide) ?_
          refine j_aload_n 0 rfl dX10_then_84 ?_
          refine j_getfr fl_X10_137_9 rfl (m_lt hf (by decide)) (fk_1198 hf) (fg_1198_57 hf) dX10_then_85 ?_
          refine j_bipush (v := 27) dX10_then_88 (by decide) ?_
          refine j_iload_n 1 rfl dX10_then_90 ?_
          refine j_iadd dX10_then_91 ?_
          obtain ⟨b12, h⟩ := h
          refine j_ialdJ (j := (27 + p1).toNatClampNeg) (m_lt hf (by decide)) (fk_1238 hf) b12 rfl dX10_then_92 ?_
          refine j_iret rfl ?_ dX10_then_93
          rw [hP]
          exact ⟨A5 1238 (27 + p1).toNatClampNeg, A5, rfl, rfl, h⟩
        rw [if_neg c11] at h
        refine j_tableOut (tgt := 94) (by have c7T := lv_neT c7 (a := 0) rfl; have c9T := lv_neT c9 (a := 1) rfl; have c11T := lv_neT c11 (a := 2) rfl; omega) dX10_then_36 (by decide) ?_
        refine j_aload_n 0 rfl dX10_then_94 ?_
        refine j_iload_n 1 rfl dX10_then_95 ?_
        refine j_iconst (v := (-1)) dX10_then_96 (by decide) ?_
        refine j_callV (b := 1198) (As := [.int p1, .int (-1)]) (st := []) (C := RX10) (kc' := 0) (ks' := 0) (tX10_errandsLeft hf p1 (-1) _ h) myX10_errandsLeft rfl q1903 q1905 qs88 (by decide) (fun s9 H9 hK9 hR9 h69 => jIs_in hK9 hR9 h69 (m_lt hf (by decide)) (fk_1198 hf) rfl) rfl (Nat.le_of_ble_eq_true rfl) rfl (by decide) (Nat.le_refl 0) (Nat.le_refl 0) dX10_then_97 (fun v9 u9 hq => ?_) (fun k9 u9 hq => by obtain ⟨_, e9, _⟩ := hq; cases e9)
        obtain ⟨r6, e9, rfl, h⟩ := hq
        obtain rfl := Sum.inl.inj e9
        show J Γ RX10 cX10_then 4 (some .int) "then" [] 8 0 0 100 [(0, .ref 1198), (1, .int p1), (2, .int p2), (3, .int p3)] [.int r6] (n, K, A5, Lg, G) P
        refine j_iret rfl ?_ dX10_then_100
        rw [hP]
        exact ⟨r6, A5, rfl, rfl, h⟩
      · rw [if_pos c] at h
        refine j_iconst (v := (-1)) dX10_then_24 (by decide) ?_
        refine j_iret rfl ?_ dX10_then_25
        rw [hP]
        exact ⟨(-1), A, rfl, rfl, h⟩
theorem myX10_dogIn : jY yX10_dogIn cX10_dogIn 3 (some .int) 2 := ⟨q2113, q139, by decide +kernel, by decide +kernel, by decide⟩
def fX10_dogIn (A : pA) (p1 : Int32) (p2 : Int32) (Q : Int32 → pA → Prop) : Prop :=
    fX10_isDog A p1 (fun r1 => (if r1 = 0 then Q (-1) A else fX10_isLong A p2 (fun r2 => (if r2 = 0 then Q (-1) A else fX10_copies A (fun A3 => fX10_goes A3 p2 (fun A4 => (vp_in p1 77) ∧ (Q (A4 1238 (p1).toNatClampNeg) A4)))))))
theorem tX10_dogIn {Γ : jG} {n : Nat} {K : Nat → pKd} {G : pG} {Lg : pL} (hf : mOK n K G) {A : pA} (p1 : Int32) (p2 : Int32) (Q : Int32 → pA → Prop) (h : fX10_dogIn A p1 p2 Q) : jMet Γ yX10_dogIn cX10_dogIn 3 (some .int) [] 8 0 0 [.ref 1198, .int p1, .int p2] (n, K, A, Lg, G) (fun o u => ∃ (r : Int32) (A' : pA), o = .inl (some (.int r)) ∧ u = (n, K, A', Lg, G) ∧ Q r A') := by
  unfold fX10_dogIn at h
  obtain ⟨P, hP⟩ : ∃ P : jO → pS → Prop, P = (fun o u => ∃ (r : Int32) (A' : pA), o = .inl (some (.int r)) ∧ u = (n, K, A', Lg, G) ∧ Q r A') := ⟨_, rfl⟩
  rw [← hP]
  refine jMet_of rfl rfl rfl (Nat.le_of_ble_eq_true rfl) ?_
  show J Γ RX10 cX10_dogIn 3 (some .int) "dogIn" [] 8 0 0 0 [(0, .ref 1198), (1, .int p1), (2, .int p2)] [] (n, K, A, Lg, G) P
  refine j_aload_n 0 rfl dX10_dogIn_0 ?_
  refine j_iload_n 1 rfl dX10_dogIn_1 ?_
  refine j_callV (b := 1198) (As := [.int p1]) (st := []) (C := RX10) (kc' := 0) (ks' := 0) (tX10_isDog hf p1 _ h) myX10_isDog rfl q1911 q1913 qs89 (by decide) (fun s9 H9 hK9 hR9 h69 => jIs_in hK9 hR9 h69 (m_lt hf (by decide)) (fk_1198 hf) rfl) rfl (Nat.le_of_ble_eq_true rfl) rfl (by decide) (Nat.le_refl 0) (Nat.le_refl 0) dX10_dogIn_2 (fun v9 u9 hq => ?_) (fun k9 u9 hq => by obtain ⟨_, e9, _⟩ := hq; cases e9)
  obtain ⟨r1, e9, rfl, h⟩ := hq
  obtain rfl := Sum.inl.inj e9
  show J Γ RX10 cX10_dogIn 3 (some .int) "dogIn" [] 8 0 0 5 [(0, .ref 1198), (1, .int p1), (2, .int p2)] [.int r1] (n, K, A, Lg, G) P
  refine j_if_eq (tgt := 15) dX10_dogIn_5 (by decide) (fun c => ?_) (fun c => ?_)
  · rw [if_pos c] at h
    refine j_iconst (v := (-1)) dX10_dogIn_15 (by decide) ?_
    refine j_iret rfl ?_ dX10_dogIn_16
    rw [hP]
    exact ⟨(-1), A, rfl, rfl, h⟩
  · rw [if_neg c] at h
    refine j_iload_n 2 rfl dX10_dogIn_8 ?_
    refine j_callS (As := [.int p2]) (st := []) (kc' := 0) (ks' := 0) (tX10_isLong hf p2 _ h) myX10_isLong q2107 q2108 rfl (Nat.le_of_ble_eq_true rfl) rfl (by decide) (Nat.le_refl 0) (Nat.le_refl 0) dX10_dogIn_9 (fun v9 u9 hq => ?_) (fun k9 u9 hq => by obtain ⟨_, e9, _⟩ := hq; cases e9)
    obtain ⟨r2, e9, rfl, h⟩ := hq
    obtain rfl := Sum.inl.inj e9
    show J Γ RX10 cX10_dogIn 3 (some .int) "dogIn" [] 8 0 0 12 [(0, .ref 1198), (1, .int p1), (2, .int p2)] [.int r2] (n, K, A, Lg, G) P
    refine j_if_ne (tgt := 17) dX10_dogIn_12 (by decide) (fun c => ?_) (fun c => ?_)
    · rw [if_neg c] at h
      refine j_aload_n 0 rfl dX10_dogIn_17 ?_
      refine j_callV (b := 1198) (As := []) (st := []) (C := RX10) (kc' := 0) (ks' := 0) (tX10_copies hf  _ h) myX10_copies rfl q1895 q1897 qs86 (by decide) (fun s9 H9 hK9 hR9 h69 => jIs_in hK9 hR9 h69 (m_lt hf (by decide)) (fk_1198 hf) rfl) rfl (Nat.le_of_ble_eq_true rfl) rfl (by decide) (Nat.le_refl 0) (Nat.le_refl 0) dX10_dogIn_18 (fun v9 u9 hq => ?_) (fun k9 u9 hq => by obtain ⟨_, e9, _⟩ := hq; cases e9)
      obtain ⟨A3, e9, rfl, h⟩ := hq
      obtain rfl := Sum.inl.inj e9
      show J Γ RX10 cX10_dogIn 3 (some .int) "dogIn" [] 8 0 0 21 [(0, .ref 1198), (1, .int p1), (2, .int p2)] [] (n, K, A3, Lg, G) P
      refine j_aload_n 0 rfl dX10_dogIn_21 ?_
      refine j_iload_n 2 rfl dX10_dogIn_22 ?_
      refine j_callV (b := 1198) (As := [.int p2]) (st := []) (C := RX10) (kc' := 0) (ks' := 0) (tX10_goes hf p2 _ h) myX10_goes rfl q1991 q1993 qs102 (by decide) (fun s9 H9 hK9 hR9 h69 => jIs_in hK9 hR9 h69 (m_lt hf (by decide)) (fk_1198 hf) rfl) rfl (Nat.le_of_ble_eq_true rfl) rfl (by decide) (Nat.le_refl 0) (Nat.le_refl 0) dX10_dogIn_23 (fun v9 u9 hq => ?_) (fun k9 u9 hq => by obtain ⟨_, e9, _⟩ := hq; cases e9)
      obtain ⟨A4, e9, rfl, h⟩ := hq
      obtain rfl := Sum.inl.inj e9
      show J Γ RX10 cX10_dogIn 3 (some .int) "dogIn" [] 8 0 0 26 [(0, .ref 1198), (1, .int p1), (2, .int p2)] [] (n, K, A4, Lg, G) P
      refine j_aload_n 0 rfl dX10_dogIn_26 ?_
      refine j_getfr fl_X10_137_9 rfl (m_lt hf (by decide)) (fk_1198 hf) (fg_1198_57 hf) dX10_dogIn_27 ?_
      refine j_iload_n 1 rfl dX10_dogIn_30 ?_
      obtain ⟨b5, h⟩ := h
      refine j_ialdJ (j := (p1).toNatClampNeg) (m_lt hf (by decide)) (fk_1238 hf) b5 rfl dX10_dogIn_31 ?_
      refine j_iret rfl ?_ dX10_dogIn_32
      rw [hP]
      exact ⟨A4 1238 (p1).toNatClampNeg, A4, rfl, rfl, h⟩
    · rw [if_pos c] at h
      refine j_iconst (v := (-1)) dX10_dogIn_15 (by decide) ?_
      refine j_iret rfl ?_ dX10_dogIn_16
      rw [hP]
      exact ⟨(-1), A, rfl, rfl, h⟩
theorem myX10_first : jY yX10_first cX10_first 4 (some .int) 1 := ⟨q2117, q139, by decide +kernel, by decide +kernel, by decide⟩
def fX10_first_J86  (k30 : Int32 → Int32 → Int32 → pA → Prop) (Q : Int32 → pA → Prop) (l1 : Int32) (l2 : Int32) (l3 : Int32) (A : pA) : Prop :=
    k30 l1 l2 (l3 + 1) A
theorem fX10_first_J86_ok {Γ : jG} {n : Nat} {K : Nat → pKd} {G : pG} {Lg : pL} (hf : mOK n K G) (Q : Int32 → pA → Prop) (P : jO → pS → Prop) (hP : P = (fun o u => ∃ (r : Int32) (A' : pA), o = .inl (some (.int r)) ∧ u = (n, K, A', Lg, G) ∧ Q r A')) (k30 : Int32 → Int32 → Int32 → pA → Prop) (ok30 : ∀ (l1 : Int32) (l2 : Int32) (l3 : Int32) (A : pA), k30 l1 l2 l3 A → J Γ RX10 cX10_first 4 (some .int) "first" [] 7 0 0 30 [(0, .ref 1198), (1, .int l1), (2, .int l2), (3, .int l3)] [] (n, K, A, Lg, G) P) (l1 : Int32) (l2 : Int32) (l3 : Int32) (A : pA) (h : fX10_first_J86  k30 Q l1 l2 l3 A) : J Γ RX10 cX10_first 4 (some .int) "first" [] 7 0 0 86 [(0, .ref 1198), (1, .int l1), (2, .int l2), (3, .int l3)] [] (n, K, A, Lg, G) P := by
  unfold fX10_first_J86 at h
  refine j_iinc (v := l3 + 1) 3 rfl rfl (by decide) rfl dX10_first_86 ?_
  refine j_goto (tgt := 30) dX10_first_89 (by decide) ?_
  refine j_ls [1, 2, 3, 0] rfl ?_
  exact ok30 l1 l2 (l3 + 1) A h
def fX10_first_L30  (k17 : Int32 → Int32 → pA → Prop) (Q : Int32 → pA → Prop) : Nat → Int32 → Int32 → Int32 → pA → Prop
  | 0, _, _, _, _ => False
  | n9 + 1, l1, l2, l3, A =>
    (vp_in (A 1198 18) 2) ∧ ((if (A 1215 (A 1198 18).toNatClampNeg) ≤ l3 then k17 l1 (l2 + 1) A else (vp_in (27 + l3) 77) ∧ ((if (A 1237 (27 + l3).toNatClampNeg) = 0 then (vp_in (31 + l3) 77) ∧ ((vp_in (31 + l3) 77) ∧ ((if (A 1238 (31 + l3).toNatClampNeg) ≤ (A 1237 (31 + l3).toNatClampNeg) then fX10_first_J86  (fun x0 x1 x2 x3 => fX10_first_L30  k17 Q n9 x0 x1 x2 x3) Q l1 l2 l3 A else (if l1 = 0 then Q l3 A else Q l2 A)))) else fX10_first_J86  (fun x0 x1 x2 x3 => fX10_first_L30  k17 Q n9 x0 x1 x2 x3) Q l1 l2 l3 A))))
theorem fX10_first_L30_ok {Γ : jG} {n : Nat} {K : Nat → pKd} {G : pG} {Lg : pL} (hf : mOK n K G) (Q : Int32 → pA → Prop) (P : jO → pS → Prop) (hP : P = (fun o u => ∃ (r : Int32) (A' : pA), o = .inl (some (.int r)) ∧ u = (n, K, A', Lg, G) ∧ Q r A'))  (k17 : Int32 → Int32 → pA → Prop) (ok17 : ∀ (l1 : Int32) (l2 : Int32) (A : pA), k17 l1 l2 A → J Γ RX10 cX10_first 4 (some .int) "first" [] 7 0 0 17 [(0, .ref 1198), (1, .int l1), (2, .int l2)] [] (n, K, A, Lg, G) P) : ∀ (n9 : Nat) (l1 : Int32) (l2 : Int32) (l3 : Int32) (A : pA), fX10_first_L30  k17 Q n9 l1 l2 l3 A → J Γ RX10 cX10_first 4 (some .int) "first" [] 7 0 0 30 [(0, .ref 1198), (1, .int l1), (2, .int l2), (3, .int l3)] [] (n, K, A, Lg, G) P := by
  intro n9
  induction n9 with
  | zero => intro l1 l2 l3 A h; exact h.elim
  | succ n9 ih =>
    intro l1 l2 l3 A h
    unfold fX10_first_L30 at h
    refine j_iload_n 3 rfl dX10_first_30 ?_
    refine j_aload_n 0 rfl dX10_first_31 ?_
    refine j_getfr fl_X10_67_9 rfl (m_lt hf (by decide)) (fk_1198 hf) (fg_1198_30 hf) dX10_first_32 ?_
    refine j_aload_n 0 rfl dX10_first_35 ?_
    refine j_getfi fl_X10_242_9 rfl (m_lt hf (by decide)) (fk_1198 hf) dX10_first_36 ?_
    obtain ⟨b1, h⟩ := h
    refine j_ialdJ (j := (A 1198 18).toNatClampNeg) (m_lt hf (by decide)) (fk_1215 hf) b1 rfl dX10_first_39 ?_
    refine j_icmp_ge (tgt := 92) dX10_first_40 (by decide) (fun c => ?_) (fun c => ?_)
    · rw [if_pos c] at h
      refine j_iinc (v := l2 + 1) 2 rfl rfl (by decide) rfl dX10_first_92 ?_
      refine j_goto (tgt := 17) dX10_first_95 (by decide) ?_
      refine j_ls [1, 2, 0] rfl ?_
      exact ok17 l1 (l2 + 1) A h
    · rw [if_neg c] at h
      refine j_aload_n 0 rfl dX10_first_43 ?_
      refine j_getfr fl_X10_134_9 rfl (m_lt hf (by decide)) (fk_1198 hf) (fg_1198_56 hf) dX10_first_44 ?_
      refine j_bipush (v := 27) dX10_first_47 (by decide) ?_
      refine j_iload_n 3 rfl dX10_first_49 ?_
      refine j_iadd dX10_first_50 ?_
      obtain ⟨b2, h⟩ := h
      refine j_ialdJ (j := (27 + l3).toNatClampNeg) (m_lt hf (by decide)) (fk_1237 hf) b2 rfl dX10_first_51 ?_
      refine j_if_ne (tgt := 86) dX10_first_52 (by decide) (fun c => ?_) (fun c => ?_)
      · rw [if_neg c] at h
        exact fX10_first_J86_ok hf Q P hP (fun x0 x1 x2 x3 => fX10_first_L30  k17 Q n9 x0 x1 x2 x3) (fun x0 x1 x2 x3 h9 => ih x0 x1 x2 x3 h9) l1 l2 l3 A h
      · rw [if_pos c] at h
        refine j_aload_n 0 rfl dX10_first_55 ?_
        refine j_getfr fl_X10_137_9 rfl (m_lt hf (by decide)) (fk_1198 hf) (fg_1198_57 hf) dX10_first_56 ?_
        refine j_bipush (v := 31) dX10_first_59 (by decide) ?_
        refine j_iload_n 3 rfl dX10_first_61 ?_
        refine j_iadd dX10_first_62 ?_
        obtain ⟨b3, h⟩ := h
        refine j_ialdJ (j := (31 + l3).toNatClampNeg) (m_lt hf (by decide)) (fk_1238 hf) b3 rfl dX10_first_63 ?_
        refine j_aload_n 0 rfl dX10_first_64 ?_
        refine j_getfr fl_X10_134_9 rfl (m_lt hf (by decide)) (fk_1198 hf) (fg_1198_56 hf) dX10_first_65 ?_
        refine j_bipush (v := 31) dX10_first_68 (by decide) ?_
        refine j_iload_n 3 rfl dX10_first_70 ?_
        refine j_iadd dX10_first_71 ?_
        obtain ⟨b4, h⟩ := h
        refine j_ialdJ (j := (31 + l3).toNatClampNeg) (m_lt hf (by decide)) (fk_1237 hf) b4 rfl dX10_first_72 ?_
        refine j_icmp_le (tgt := 86) dX10_first_73 (by decide) (fun c => ?_) (fun c => ?_)
        · rw [if_pos c] at h
          exact fX10_first_J86_ok hf Q P hP (fun x0 x1 x2 x3 => fX10_first_L30  k17 Q n9 x0 x1 x2 x3) (fun x0 x1 x2 x3 h9 => ih x0 x1 x2 x3 h9) l1 l2 l3 A h
        · rw [if_neg c] at h
          refine j_iload_n 1 rfl dX10_first_76 ?_
          refine j_if_ne (tgt := 84) dX10_first_77 (by decide) (fun c => ?_) (fun c => ?_)
          · rw [if_neg c] at h
            refine j_iload_n 2 rfl dX10_first_84 ?_
            refine j_iret rfl ?_ dX10_first_85
            rw [hP]
            exact ⟨l2, A, rfl, rfl, h⟩
          · rw [if_pos c] at h
            refine j_iload_n 3 rfl dX10_first_80 ?_
            refine j_goto (tgt := 85) dX10_first_81 (by decide) ?_
            refine j_iret rfl ?_ dX10_first_85
            rw [hP]
            exact ⟨l3, A, rfl, rfl, h⟩
def fX10_first_L17   (Q : Int32 → pA → Prop) : Nat → Int32 → Int32 → pA → Prop
  | 0, _, _, _ => False
  | n9 + 1, l1, l2, A =>
    (if 1440 < l2 then Q (-2) A else fX10_minuteGoes A (fun A5 => ∃ m6, fX10_first_L30  (fun x0 x1 x2 => fX10_first_L17   Q n9 x0 x1 x2) Q m6 l1 l2 0 A5))
theorem fX10_first_L17_ok {Γ : jG} {n : Nat} {K : Nat → pKd} {G : pG} {Lg : pL} (hf : mOK n K G) (Q : Int32 → pA → Prop) (P : jO → pS → Prop) (hP : P = (fun o u => ∃ (r : Int32) (A' : pA), o = .inl (some (.int r)) ∧ u = (n, K, A', Lg, G) ∧ Q r A'))    : ∀ (n9 : Nat) (l1 : Int32) (l2 : Int32) (A : pA), fX10_first_L17   Q n9 l1 l2 A → J Γ RX10 cX10_first 4 (some .int) "first" [] 7 0 0 17 [(0, .ref 1198), (1, .int l1), (2, .int l2)] [] (n, K, A, Lg, G) P := by
  intro n9
  induction n9 with
  | zero => intro l1 l2 A h; exact h.elim
  | succ n9 ih =>
    intro l1 l2 A h
    unfold fX10_first_L17 at h
    refine j_iload_n 2 rfl dX10_first_17 ?_
    refine j_sipush (v := 1440) dX10_first_18 (by decide) ?_
    refine j_icmp_gt (tgt := 98) dX10_first_21 (by decide) (fun c => ?_) (fun c => ?_)
    · rw [if_pos c] at h
      refine j_bipush (v := (-2)) dX10_first_98 (by decide) ?_
      refine j_iret rfl ?_ dX10_first_100
      rw [hP]
      exact ⟨(-2), A, rfl, rfl, h⟩
    · rw [if_neg c] at h
      refine j_aload_n 0 rfl dX10_first_24 ?_
      refine j_callV (b := 1198) (As := []) (st := []) (C := RX10) (kc' := 0) (ks' := 0) (tX10_minuteGoes hf  _ h) myX10_minuteGoes rfl q1995 q1997 qs103 (by decide) (fun s9 H9 hK9 hR9 h69 => jIs_in hK9 hR9 h69 (m_lt hf (by decide)) (fk_1198 hf) rfl) rfl (Nat.le_of_ble_eq_true rfl) rfl (by decide) (Nat.le_refl 0) (Nat.le_refl 0) dX10_first_25 (fun v9 u9 hq => ?_) (fun k9 u9 hq => by obtain ⟨_, e9, _⟩ := hq; cases e9)
      obtain ⟨A5, e9, rfl, h⟩ := hq
      obtain rfl := Sum.inl.inj e9
      show J Γ RX10 cX10_first 4 (some .int) "first" [] 7 0 0 28 [(0, .ref 1198), (1, .int l1), (2, .int l2)] [] (n, K, A5, Lg, G) P
      refine j_iconst (v := 0) dX10_first_28 (by decide) ?_
      refine j_istore_n (by decide) rfl dX10_first_29 ?_
      refine j_ls [1, 2, 3, 0] rfl ?_
      obtain ⟨m6, h⟩ := h
      exact fX10_first_L30_ok hf Q P hP (fun x0 x1 x2 => fX10_first_L17   Q n9 x0 x1 x2) (fun x0 x1 x2 h9 => ih x0 x1 x2 h9) m6 l1 l2 0 A5 h
def fX10_first (A : pA) (p1 : Int32) (Q : Int32 → pA → Prop) : Prop :=
    fX10_in A p1 0 1 (fun r7 => (if r7 = 0 then Q (-1) A else fX10_copies A (fun A8 => ∃ m9, fX10_first_L17   Q m9 p1 1 A8)))
theorem tX10_first {Γ : jG} {n : Nat} {K : Nat → pKd} {G : pG} {Lg : pL} (hf : mOK n K G) {A : pA} (p1 : Int32) (Q : Int32 → pA → Prop) (h : fX10_first A p1 Q) : jMet Γ yX10_first cX10_first 4 (some .int) [] 7 0 0 [.ref 1198, .int p1] (n, K, A, Lg, G) (fun o u => ∃ (r : Int32) (A' : pA), o = .inl (some (.int r)) ∧ u = (n, K, A', Lg, G) ∧ Q r A') := by
  unfold fX10_first at h
  obtain ⟨P, hP⟩ : ∃ P : jO → pS → Prop, P = (fun o u => ∃ (r : Int32) (A' : pA), o = .inl (some (.int r)) ∧ u = (n, K, A', Lg, G) ∧ Q r A') := ⟨_, rfl⟩
  rw [← hP]
  refine jMet_of rfl rfl rfl (Nat.le_of_ble_eq_true rfl) ?_
  show J Γ RX10 cX10_first 4 (some .int) "first" [] 7 0 0 0 [(0, .ref 1198), (1, .int p1)] [] (n, K, A, Lg, G) P
  refine j_iload_n 1 rfl dX10_first_0 ?_
  refine j_iconst (v := 0) dX10_first_1 (by decide) ?_
  refine j_iconst (v := 1) dX10_first_2 (by decide) ?_
  refine j_callS (As := [.int p1, .int 0, .int 1]) (st := []) (kc' := 0) (ks' := 0) (tX10_in hf p1 0 1 _ h) myX10_in q1892 q1893 rfl (Nat.le_of_ble_eq_true rfl) rfl (by decide) (Nat.le_refl 0) (Nat.le_refl 0) dX10_first_3 (fun v9 u9 hq => ?_) (fun k9 u9 hq => by obtain ⟨_, e9, _⟩ := hq; cases e9)
  obtain ⟨r7, e9, rfl, h⟩ := hq
  obtain rfl := Sum.inl.inj e9
  show J Γ RX10 cX10_first 4 (some .int) "first" [] 7 0 0 6 [(0, .ref 1198), (1, .int p1)] [.int r7] (n, K, A, Lg, G) P
  refine j_if_ne (tgt := 11) dX10_first_6 (by decide) (fun c => ?_) (fun c => ?_)
  · rw [if_neg c] at h
    refine j_aload_n 0 rfl dX10_first_11 ?_
    refine j_callV (b := 1198) (As := []) (st := []) (C := RX10) (kc' := 0) (ks' := 0) (tX10_copies hf  _ h) myX10_copies rfl q1895 q1897 qs86 (by decide) (fun s9 H9 hK9 hR9 h69 => jIs_in hK9 hR9 h69 (m_lt hf (by decide)) (fk_1198 hf) rfl) rfl (Nat.le_of_ble_eq_true rfl) rfl (by decide) (Nat.le_refl 0) (Nat.le_refl 0) dX10_first_12 (fun v9 u9 hq => ?_) (fun k9 u9 hq => by obtain ⟨_, e9, _⟩ := hq; cases e9)
    obtain ⟨A8, e9, rfl, h⟩ := hq
    obtain rfl := Sum.inl.inj e9
    show J Γ RX10 cX10_first 4 (some .int) "first" [] 7 0 0 15 [(0, .ref 1198), (1, .int p1)] [] (n, K, A8, Lg, G) P
    refine j_iconst (v := 1) dX10_first_15 (by decide) ?_
    refine j_istore_n (by decide) rfl dX10_first_16 ?_
    refine j_ls [1, 2, 0] rfl ?_
    obtain ⟨m9, h⟩ := h
    exact fX10_first_L17_ok hf Q P hP   m9 p1 1 A8 h
  · rw [if_pos c] at h
    refine j_iconst (v := (-1)) dX10_first_9 (by decide) ?_
    refine j_iret rfl ?_ dX10_first_10
    rw [hP]
    exact ⟨(-1), A, rfl, rfl, h⟩
theorem myX10_tell : jY yX10_tell cX10_tell 3 (some .int) 2 := ⟨q2121, q139, by decide +kernel, by decide +kernel, by decide⟩
def fX10_tell (A : pA) (p1 : Int32) (p2 : Int32) (Q : Int32 → pA → Prop) : Prop :=
    (if (A 1198 61) = 20 then Q (-1) A else fX10_isPerson A p1 (fun r1 => (if r1 = 0 then Q (-1) A else (vp_in (A 1198 61) 20) ∧ (∀ A3 : pA, A3 = pup A 1241 (A 1198 61).toNatClampNeg p1 → (vp_in (A3 1198 61) 20) ∧ (∀ A5 : pA, A5 = pup A3 1242 (A3 1198 61).toNatClampNeg (vp_nar .boolean p2) → ∀ A6 : pA, A6 = pup A5 1198 61 ((A5 1198 61) + 1) → Q ((A6 1198 61) - 1) A6)))))
theorem tX10_tell {Γ : jG} {n : Nat} {K : Nat → pKd} {G : pG} {Lg : pL} (hf : mOK n K G) {A : pA} (p1 : Int32) (p2 : Int32) (Q : Int32 → pA → Prop) (h : fX10_tell A p1 p2 Q) : jMet Γ yX10_tell cX10_tell 3 (some .int) [] 3 0 0 [.ref 1198, .int p1, .int p2] (n, K, A, Lg, G) (fun o u => ∃ (r : Int32) (A' : pA), o = .inl (some (.int r)) ∧ u = (n, K, A', Lg, G) ∧ Q r A') := by
  unfold fX10_tell at h
  obtain ⟨P, hP⟩ : ∃ P : jO → pS → Prop, P = (fun o u => ∃ (r : Int32) (A' : pA), o = .inl (some (.int r)) ∧ u = (n, K, A', Lg, G) ∧ Q r A') := ⟨_, rfl⟩
  rw [← hP]
  refine jMet_of rfl rfl rfl (Nat.le_of_ble_eq_true rfl) ?_
  show J Γ RX10 cX10_tell 3 (some .int) "tell" [] 3 0 0 0 [(0, .ref 1198), (1, .int p1), (2, .int p2)] [] (n, K, A, Lg, G) P
  refine j_aload_n 0 rfl dX10_tell_0 ?_
  refine j_getfi fl_X10_266_9 rfl (m_lt hf (by decide)) (fk_1198 hf) dX10_tell_1 ?_
  refine j_bipush (v := 20) dX10_tell_4 (by decide) ?_
  refine j_icmp_eq (tgt := 17) dX10_tell_6 (by decide) (fun c => ?_) (fun c => ?_)
  · rw [if_pos c] at h
    refine j_iconst (v := (-1)) dX10_tell_17 (by decide) ?_
    refine j_iret rfl ?_ dX10_tell_18
    rw [hP]
    exact ⟨(-1), A, rfl, rfl, h⟩
  · rw [if_neg c] at h
    refine j_aload_n 0 rfl dX10_tell_9 ?_
    refine j_iload_n 1 rfl dX10_tell_10 ?_
    refine j_callV (b := 1198) (As := [.int p1]) (st := []) (C := RX10) (kc' := 0) (ks' := 0) (tX10_isPerson hf p1 _ h) myX10_isPerson rfl q1919 q1921 qs90 (by decide) (fun s9 H9 hK9 hR9 h69 => jIs_in hK9 hR9 h69 (m_lt hf (by decide)) (fk_1198 hf) rfl) rfl (Nat.le_of_ble_eq_true rfl) rfl (by decide) (Nat.le_refl 0) (Nat.le_refl 0) dX10_tell_11 (fun v9 u9 hq => ?_) (fun k9 u9 hq => by obtain ⟨_, e9, _⟩ := hq; cases e9)
    obtain ⟨r1, e9, rfl, h⟩ := hq
    obtain rfl := Sum.inl.inj e9
    show J Γ RX10 cX10_tell 3 (some .int) "tell" [] 3 0 0 14 [(0, .ref 1198), (1, .int p1), (2, .int p2)] [.int r1] (n, K, A, Lg, G) P
    refine j_if_ne (tgt := 19) dX10_tell_14 (by decide) (fun c => ?_) (fun c => ?_)
    · rw [if_neg c] at h
      refine j_aload_n 0 rfl dX10_tell_19 ?_
      refine j_getfr fl_X10_146_9 rfl (m_lt hf (by decide)) (fk_1198 hf) (fg_1198_62 hf) dX10_tell_20 ?_
      refine j_aload_n 0 rfl dX10_tell_23 ?_
      refine j_getfi fl_X10_266_9 rfl (m_lt hf (by decide)) (fk_1198 hf) dX10_tell_24 ?_
      refine j_iload_n 1 rfl dX10_tell_27 ?_
      obtain ⟨b2, h⟩ := h
      refine j_iastJ (j := (A 1198 61).toNatClampNeg) (m_lt hf (by decide)) (fk_1241 hf) b2 rfl dX10_tell_28 (fun A3 eA3 => ?_)
      replace h := h A3 eA3
      refine j_aload_n 0 rfl dX10_tell_29 ?_
      refine j_getfr fl_X10_149_9 rfl (m_lt hf (by decide)) (fk_1198 hf) (fg_1198_63 hf) dX10_tell_30 ?_
      refine j_aload_n 0 rfl dX10_tell_33 ?_
      refine j_getfi fl_X10_266_9 rfl (m_lt hf (by decide)) (fk_1198 hf) dX10_tell_34 ?_
      refine j_iload_n 2 rfl dX10_tell_37 ?_
      obtain ⟨b4, h⟩ := h
      refine j_zastJ (j := (A3 1198 61).toNatClampNeg) (m_lt hf (by decide)) (fk_1242 hf) b4 rfl dX10_tell_38 (fun A5 eA5 => ?_)
      replace h := h A5 eA5
      refine j_aload_n 0 rfl dX10_tell_39 ?_
      refine j_dup rfl dX10_tell_40 ?_
      refine j_getfi fl_X10_266_9 rfl (m_lt hf (by decide)) (fk_1198 hf) dX10_tell_41 ?_
      refine j_iconst (v := 1) dX10_tell_44 (by decide) ?_
      refine j_iadd dX10_tell_45 ?_
      refine j_putfiE (fp_X10_266_9 _) rfl rfl rfl (m_lt hf (by decide)) (fk_1198 hf) dX10_tell_46 (fun A6 eA6 => ?_)
      replace h := h A6 eA6
      refine j_aload_n 0 rfl dX10_tell_49 ?_
      refine j_getfi fl_X10_266_9 rfl (m_lt hf (by decide)) (fk_1198 hf) dX10_tell_50 ?_
      refine j_iconst (v := 1) dX10_tell_53 (by decide) ?_
      refine j_isub dX10_tell_54 ?_
      refine j_iret rfl ?_ dX10_tell_55
      rw [hP]
      exact ⟨(A6 1198 61) - 1, A6, rfl, rfl, h⟩
    · rw [if_pos c] at h
      refine j_iconst (v := (-1)) dX10_tell_17 (by decide) ?_
      refine j_iret rfl ?_ dX10_tell_18
      rw [hP]
      exact ⟨(-1), A, rfl, rfl, h⟩
theorem myX10_forget : jY yX10_forget cX10_forget 2 (some .int) 0 := ⟨q2125, q139, by decide +kernel, by decide +kernel, by decide⟩
def fX10_forget (A : pA) (Q : Int32 → pA → Prop) : Prop :=
    ∀ A1 : pA, A1 = pup A 1198 61 0 → Q (A 1198 61) A1
theorem tX10_forget {Γ : jG} {n : Nat} {K : Nat → pKd} {G : pG} {Lg : pL} (hf : mOK n K G) {A : pA}  (Q : Int32 → pA → Prop) (h : fX10_forget A Q) : jMet Γ yX10_forget cX10_forget 2 (some .int) [] 1 0 0 [.ref 1198] (n, K, A, Lg, G) (fun o u => ∃ (r : Int32) (A' : pA), o = .inl (some (.int r)) ∧ u = (n, K, A', Lg, G) ∧ Q r A') := by
  unfold fX10_forget at h
  obtain ⟨P, hP⟩ : ∃ P : jO → pS → Prop, P = (fun o u => ∃ (r : Int32) (A' : pA), o = .inl (some (.int r)) ∧ u = (n, K, A', Lg, G) ∧ Q r A') := ⟨_, rfl⟩
  rw [← hP]
  refine jMet_of rfl rfl rfl (Nat.le_of_ble_eq_true rfl) ?_
  show J Γ RX10 cX10_forget 2 (some .int) "forget" [] 1 0 0 0 [(0, .ref 1198)] [] (n, K, A, Lg, G) P
  refine j_aload_n 0 rfl dX10_forget_0 ?_
  refine j_getfi fl_X10_266_9 rfl (m_lt hf (by decide)) (fk_1198 hf) dX10_forget_1 ?_
  refine j_istore_n (by decide) rfl dX10_forget_4 ?_
  refine j_aload_n 1 rfl dX10_forget_5 ?_
  refine j_iconst (v := 0) dX10_forget_6 (by decide) ?_
  refine j_putfiE (fp_X10_266_9 _) rfl rfl rfl (m_lt hf (by decide)) (fk_1198 hf) dX10_forget_7 (fun A1 eA1 => ?_)
  replace h := h A1 eA1
  refine j_iload_n 0 rfl dX10_forget_10 ?_
  refine j_iret rfl ?_ dX10_forget_11
  rw [hP]
  exact ⟨A 1198 61, A1, rfl, rfl, h⟩
theorem myX10_isPair : jY yX10_isPair cX10_isPair 2 (some .boolean) 1 := ⟨q2133, q139, by decide +kernel, by decide +kernel, by decide⟩
def fX10_isPair (A : pA) (p1 : Int32) (Q : Int32 → Prop) : Prop :=
    fX10_isDog A (p1 / 4) (fun r1 => (if r1 = 0 then Q 0 else fX10_isPerson A (p1 - p1 / 4 * 4) (fun r2 => (if r2 = 0 then Q 0 else Q 1))))
theorem tX10_isPair {Γ : jG} {n : Nat} {K : Nat → pKd} {G : pG} {Lg : pL} (hf : mOK n K G) {A : pA} (p1 : Int32) (Q : Int32 → Prop) (h : fX10_isPair A p1 Q) : jMet Γ yX10_isPair cX10_isPair 2 (some .boolean) [] 3 0 0 [.ref 1198, .int p1] (n, K, A, Lg, G) (fun o u => ∃ (r : Int32), o = .inl (some (.int r)) ∧ u = (n, K, A, Lg, G) ∧ Q r) := by
  unfold fX10_isPair at h
  obtain ⟨P, hP⟩ : ∃ P : jO → pS → Prop, P = (fun o u => ∃ (r : Int32), o = .inl (some (.int r)) ∧ u = (n, K, A, Lg, G) ∧ Q r) := ⟨_, rfl⟩
  rw [← hP]
  refine jMet_of rfl rfl rfl (Nat.le_of_ble_eq_true rfl) ?_
  show J Γ RX10 cX10_isPair 2 (some .boolean) "isPair" [] 3 0 0 0 [(0, .ref 1198), (1, .int p1)] [] (n, K, A, Lg, G) P
  refine j_aload_n 0 rfl dX10_isPair_0 ?_
  refine j_iload_n 1 rfl dX10_isPair_1 ?_
  refine j_iconst (v := 4) dX10_isPair_2 (by decide) ?_
  refine j_idiv (by decide) dX10_isPair_3 ?_
  refine j_callV (b := 1198) (As := [.int (p1 / 4)]) (st := []) (C := RX10) (kc' := 0) (ks' := 0) (tX10_isDog hf (p1 / 4) _ h) myX10_isDog rfl q1911 q1913 qs89 (by decide) (fun s9 H9 hK9 hR9 h69 => jIs_in hK9 hR9 h69 (m_lt hf (by decide)) (fk_1198 hf) rfl) rfl (Nat.le_of_ble_eq_true rfl) rfl (by decide) (Nat.le_refl 0) (Nat.le_refl 0) dX10_isPair_4 (fun v9 u9 hq => ?_) (fun k9 u9 hq => by obtain ⟨_, e9, _⟩ := hq; cases e9)
  obtain ⟨r1, e9, rfl, h⟩ := hq
  obtain rfl := Sum.inl.inj e9
  show J Γ RX10 cX10_isPair 2 (some .boolean) "isPair" [] 3 0 0 7 [(0, .ref 1198), (1, .int p1)] [.int r1] (n, K, A, Lg, G) P
  refine j_if_eq (tgt := 24) dX10_isPair_7 (by decide) (fun c => ?_) (fun c => ?_)
  · rw [if_pos c] at h
    refine j_iconst (v := 0) dX10_isPair_24 (by decide) ?_
    refine j_zret rfl (by decide) ?_ dX10_isPair_25
    rw [hP]
    exact ⟨0, rfl, rfl, h⟩
  · rw [if_neg c] at h
    refine j_aload_n 0 rfl dX10_isPair_10 ?_
    refine j_iload_n 1 rfl dX10_isPair_11 ?_
    refine j_iconst (v := 4) dX10_isPair_12 (by decide) ?_
    refine j_irem (by decide) dX10_isPair_13 ?_
    refine j_callV (b := 1198) (As := [.int (p1 - p1 / 4 * 4)]) (st := []) (C := RX10) (kc' := 0) (ks' := 0) (tX10_isPerson hf (p1 - p1 / 4 * 4) _ h) myX10_isPerson rfl q1919 q1921 qs90 (by decide) (fun s9 H9 hK9 hR9 h69 => jIs_in hK9 hR9 h69 (m_lt hf (by decide)) (fk_1198 hf) rfl) rfl (Nat.le_of_ble_eq_true rfl) rfl (by decide) (Nat.le_refl 0) (Nat.le_refl 0) dX10_isPair_14 (fun v9 u9 hq => ?_) (fun k9 u9 hq => by obtain ⟨_, e9, _⟩ := hq; cases e9)
    obtain ⟨r2, e9, rfl, h⟩ := hq
    obtain rfl := Sum.inl.inj e9
    show J Γ RX10 cX10_isPair 2 (some .boolean) "isPair" [] 3 0 0 17 [(0, .ref 1198), (1, .int p1)] [.int r2] (n, K, A, Lg, G) P
    refine j_if_eq (tgt := 24) dX10_isPair_17 (by decide) (fun c => ?_) (fun c => ?_)
    · rw [if_pos c] at h
      refine j_iconst (v := 0) dX10_isPair_24 (by decide) ?_
      refine j_zret rfl (by decide) ?_ dX10_isPair_25
      rw [hP]
      exact ⟨0, rfl, rfl, h⟩
    · rw [if_neg c] at h
      refine j_iconst (v := 1) dX10_isPair_20 (by decide) ?_
      refine j_goto (tgt := 25) dX10_isPair_21 (by decide) ?_
      refine j_zret rfl (by decide) ?_ dX10_isPair_25
      rw [hP]
      exact ⟨1, rfl, rfl, h⟩
theorem myX10_isSo : jY yX10_isSo cX10_isSo 4 (some .boolean) 2 := ⟨q2137, q139, by decide +kernel, by decide +kernel, by decide⟩
def fX10_isSo_J65  (k37 : Int32 → Int32 → pA → Prop) (Q : Int32 → pA → Prop) (l2 : Int32) (l3 : Int32) (s0 : Int32) (A : pA) : Prop :=
    (vp_in l3 20) ∧ ((if s0 = (A 1242 (l3).toNatClampNeg) then k37 l2 (l3 + 1) A else Q 0 A))
theorem fX10_isSo_J65_ok {Γ : jG} {n : Nat} {K : Nat → pKd} {G : pG} {Lg : pL} (hf : mOK n K G) (Q : Int32 → pA → Prop) (P : jO → pS → Prop) (hP : P = (fun o u => ∃ (r : Int32) (A' : pA), o = .inl (some (.int r)) ∧ u = (n, K, A', Lg, G) ∧ Q r A')) (k37 : Int32 → Int32 → pA → Prop) (ok37 : ∀ (l2 : Int32) (l3 : Int32) (A : pA), k37 l2 l3 A → J Γ RX10 cX10_isSo 4 (some .boolean) "isSo" [] 9 0 0 37 [(0, .ref 1198), (2, .int l2), (3, .int l3)] [] (n, K, A, Lg, G) P) (l2 : Int32) (l3 : Int32) (s0 : Int32) (A : pA) (h : fX10_isSo_J65  k37 Q l2 l3 s0 A) : J Γ RX10 cX10_isSo 4 (some .boolean) "isSo" [] 9 0 0 65 [(0, .ref 1198), (2, .int l2), (3, .int l3)] [.int s0] (n, K, A, Lg, G) P := by
  unfold fX10_isSo_J65 at h
  refine j_aload_n 0 rfl dX10_isSo_65 ?_
  refine j_getfr fl_X10_149_9 rfl (m_lt hf (by decide)) (fk_1198 hf) (fg_1198_63 hf) dX10_isSo_66 ?_
  refine j_iload_n 2 rfl dX10_isSo_69 ?_
  obtain ⟨b1, h⟩ := h
  refine j_zaldJ (j := (l3).toNatClampNeg) (m_lt hf (by decide)) (fk_1242 hf) b1 rfl dX10_isSo_70 ?_
  refine j_icmp_eq (tgt := 76) dX10_isSo_71 (by decide) (fun c => ?_) (fun c => ?_)
  · rw [if_pos c] at h
    refine j_iinc (v := l3 + 1) 2 rfl rfl (by decide) rfl dX10_isSo_76 ?_
    refine j_goto (tgt := 37) dX10_isSo_79 (by decide) ?_
    refine j_ls [1, 2, 0] rfl ?_
    exact ok37 l2 (l3 + 1) A h
  · rw [if_neg c] at h
    refine j_iconst (v := 0) dX10_isSo_74 (by decide) ?_
    refine j_zret rfl (by decide) ?_ dX10_isSo_75
    rw [hP]
    exact ⟨0, A, rfl, rfl, h⟩
def fX10_isSo_L37   (Q : Int32 → pA → Prop) : Nat → Int32 → Int32 → pA → Prop
  | 0, _, _, _ => False
  | n9 + 1, l2, l3, A =>
    (if l2 ≤ l3 then Q 1 A else (vp_in l3 20) ∧ ((vp_in (27 + (A 1241 (l3).toNatClampNeg)) 77) ∧ ((if (A 1238 (27 + (A 1241 (l3).toNatClampNeg)).toNatClampNeg) = 1 then fX10_isSo_J65  (fun x0 x1 x2 => fX10_isSo_L37   Q n9 x0 x1 x2) Q l2 l3 1 A else fX10_isSo_J65  (fun x0 x1 x2 => fX10_isSo_L37   Q n9 x0 x1 x2) Q l2 l3 0 A))))
theorem fX10_isSo_L37_ok {Γ : jG} {n : Nat} {K : Nat → pKd} {G : pG} {Lg : pL} (hf : mOK n K G) (Q : Int32 → pA → Prop) (P : jO → pS → Prop) (hP : P = (fun o u => ∃ (r : Int32) (A' : pA), o = .inl (some (.int r)) ∧ u = (n, K, A', Lg, G) ∧ Q r A'))    : ∀ (n9 : Nat) (l2 : Int32) (l3 : Int32) (A : pA), fX10_isSo_L37   Q n9 l2 l3 A → J Γ RX10 cX10_isSo 4 (some .boolean) "isSo" [] 9 0 0 37 [(0, .ref 1198), (2, .int l2), (3, .int l3)] [] (n, K, A, Lg, G) P := by
  intro n9
  induction n9 with
  | zero => intro l2 l3 A h; exact h.elim
  | succ n9 ih =>
    intro l2 l3 A h
    unfold fX10_isSo_L37 at h
    refine j_iload_n 2 rfl dX10_isSo_37 ?_
    refine j_iload_n 1 rfl dX10_isSo_38 ?_
    refine j_icmp_ge (tgt := 82) dX10_isSo_39 (by decide) (fun c => ?_) (fun c => ?_)
    · rw [if_pos c] at h
      refine j_iconst (v := 1) dX10_isSo_82 (by decide) ?_
      refine j_zret rfl (by decide) ?_ dX10_isSo_83
      rw [hP]
      exact ⟨1, A, rfl, rfl, h⟩
    · rw [if_neg c] at h
      refine j_aload_n 0 rfl dX10_isSo_42 ?_
      refine j_getfr fl_X10_137_9 rfl (m_lt hf (by decide)) (fk_1198 hf) (fg_1198_57 hf) dX10_isSo_43 ?_
      refine j_bipush (v := 27) dX10_isSo_46 (by decide) ?_
      refine j_aload_n 0 rfl dX10_isSo_48 ?_
      refine j_getfr fl_X10_146_9 rfl (m_lt hf (by decide)) (fk_1198 hf) (fg_1198_62 hf) dX10_isSo_49 ?_
      refine j_iload_n 2 rfl dX10_isSo_52 ?_
      obtain ⟨b2, h⟩ := h
      refine j_ialdJ (j := (l3).toNatClampNeg) (m_lt hf (by decide)) (fk_1241 hf) b2 rfl dX10_isSo_53 ?_
      refine j_iadd dX10_isSo_54 ?_
      obtain ⟨b3, h⟩ := h
      refine j_ialdJ (j := (27 + (A 1241 (l3).toNatClampNeg)).toNatClampNeg) (m_lt hf (by decide)) (fk_1238 hf) b3 rfl dX10_isSo_55 ?_
      refine j_iconst (v := 1) dX10_isSo_56 (by decide) ?_
      refine j_icmp_ne (tgt := 64) dX10_isSo_57 (by decide) (fun c => ?_) (fun c => ?_)
      · rw [if_neg c] at h
        refine j_iconst (v := 0) dX10_isSo_64 (by decide) ?_
        exact fX10_isSo_J65_ok hf Q P hP (fun x0 x1 x2 => fX10_isSo_L37   Q n9 x0 x1 x2) (fun x0 x1 x2 h9 => ih x0 x1 x2 h9) l2 l3 0 A h
      · rw [if_pos c] at h
        refine j_iconst (v := 1) dX10_isSo_60 (by decide) ?_
        refine j_goto (tgt := 65) dX10_isSo_61 (by decide) ?_
        exact fX10_isSo_J65_ok hf Q P hP (fun x0 x1 x2 => fX10_isSo_L37   Q n9 x0 x1 x2) (fun x0 x1 x2 h9 => ih x0 x1 x2 h9) l2 l3 1 A h
def fX10_isSo (A : pA) (p1 : Int32) (p2 : Int32) (Q : Int32 → pA → Prop) : Prop :=
    fX10_copies A (fun A4 => (vp_in (55 + p1) 77) ∧ (fX10_within A4 ((A4 1238 (55 + p1).toNatClampNeg) + 1) 0 999 (fun r6 => (vp_in (55 + p1) 77) ∧ (∀ A8 : pA, A8 = pup A4 1238 (55 + p1).toNatClampNeg r6 → fX10_nextHour A8 (fun A9 => ∃ m10, fX10_isSo_L37   Q m10 p2 0 A9)))))
theorem tX10_isSo {Γ : jG} {n : Nat} {K : Nat → pKd} {G : pG} {Lg : pL} (hf : mOK n K G) {A : pA} (p1 : Int32) (p2 : Int32) (Q : Int32 → pA → Prop) (h : fX10_isSo A p1 p2 Q) : jMet Γ yX10_isSo cX10_isSo 4 (some .boolean) [] 9 0 0 [.ref 1198, .int p1, .int p2] (n, K, A, Lg, G) (fun o u => ∃ (r : Int32) (A' : pA), o = .inl (some (.int r)) ∧ u = (n, K, A', Lg, G) ∧ Q r A') := by
  unfold fX10_isSo at h
  obtain ⟨P, hP⟩ : ∃ P : jO → pS → Prop, P = (fun o u => ∃ (r : Int32) (A' : pA), o = .inl (some (.int r)) ∧ u = (n, K, A', Lg, G) ∧ Q r A') := ⟨_, rfl⟩
  rw [← hP]
  refine jMet_of rfl rfl rfl (Nat.le_of_ble_eq_true rfl) ?_
  show J Γ RX10 cX10_isSo 4 (some .boolean) "isSo" [] 9 0 0 0 [(0, .ref 1198), (1, .int p1), (2, .int p2)] [] (n, K, A, Lg, G) P
  refine j_aload_n 0 rfl dX10_isSo_0 ?_
  refine j_callV (b := 1198) (As := []) (st := []) (C := RX10) (kc' := 0) (ks' := 0) (tX10_copies hf  _ h) myX10_copies rfl q1895 q1897 qs86 (by decide) (fun s9 H9 hK9 hR9 h69 => jIs_in hK9 hR9 h69 (m_lt hf (by decide)) (fk_1198 hf) rfl) rfl (Nat.le_of_ble_eq_true rfl) rfl (by decide) (Nat.le_refl 0) (Nat.le_refl 0) dX10_isSo_1 (fun v9 u9 hq => ?_) (fun k9 u9 hq => by obtain ⟨_, e9, _⟩ := hq; cases e9)
  obtain ⟨A4, e9, rfl, h⟩ := hq
  obtain rfl := Sum.inl.inj e9
  show J Γ RX10 cX10_isSo 4 (some .boolean) "isSo" [] 9 0 0 4 [(0, .ref 1198), (1, .int p1), (2, .int p2)] [] (n, K, A4, Lg, G) P
  refine j_aload_n 0 rfl dX10_isSo_4 ?_
  refine j_getfr fl_X10_137_9 rfl (m_lt hf (by decide)) (fk_1198 hf) (fg_1198_57 hf) dX10_isSo_5 ?_
  refine j_bipush (v := 55) dX10_isSo_8 (by decide) ?_
  refine j_iload_n 1 rfl dX10_isSo_10 ?_
  refine j_iadd dX10_isSo_11 ?_
  refine j_aload_n 0 rfl dX10_isSo_12 ?_
  refine j_getfr fl_X10_137_9 rfl (m_lt hf (by decide)) (fk_1198 hf) (fg_1198_57 hf) dX10_isSo_13 ?_
  refine j_bipush (v := 55) dX10_isSo_16 (by decide) ?_
  refine j_iload_n 1 rfl dX10_isSo_18 ?_
  refine j_iadd dX10_isSo_19 ?_
  obtain ⟨b5, h⟩ := h
  refine j_ialdJ (j := (55 + p1).toNatClampNeg) (m_lt hf (by decide)) (fk_1238 hf) b5 rfl dX10_isSo_20 ?_
  refine j_iconst (v := 1) dX10_isSo_21 (by decide) ?_
  refine j_iadd dX10_isSo_22 ?_
  refine j_iconst (v := 0) dX10_isSo_23 (by decide) ?_
  refine j_sipush (v := 999) dX10_isSo_24 (by decide) ?_
  refine j_callS (As := [.int ((A4 1238 (55 + p1).toNatClampNeg) + 1), .int 0, .int 999]) (st := [.int (55 + p1), .ref 1238]) (kc' := 0) (ks' := 0) (tX10_within hf ((A4 1238 (55 + p1).toNatClampNeg) + 1) 0 999 _ h) myX10_within q1960 q1961 rfl (Nat.le_of_ble_eq_true rfl) rfl (by decide) (Nat.le_refl 0) (Nat.le_refl 0) dX10_isSo_27 (fun v9 u9 hq => ?_) (fun k9 u9 hq => by obtain ⟨_, e9, _⟩ := hq; cases e9)
  obtain ⟨r6, e9, rfl, h⟩ := hq
  obtain rfl := Sum.inl.inj e9
  show J Γ RX10 cX10_isSo 4 (some .boolean) "isSo" [] 9 0 0 30 [(0, .ref 1198), (1, .int p1), (2, .int p2)] [.int r6, .int (55 + p1), .ref 1238] (n, K, A4, Lg, G) P
  obtain ⟨b7, h⟩ := h
  refine j_iastJ (j := (55 + p1).toNatClampNeg) (m_lt hf (by decide)) (fk_1238 hf) b7 rfl dX10_isSo_30 (fun A8 eA8 => ?_)
  replace h := h A8 eA8
  refine j_aload_n 0 rfl dX10_isSo_31 ?_
  refine j_callV (b := 1198) (As := []) (st := []) (C := RX10) (kc' := 0) (ks' := 0) (tX10_nextHour hf  _ h) myX10_nextHour rfl q2071 q2073 qs115 (by decide) (fun s9 H9 hK9 hR9 h69 => jIs_in hK9 hR9 h69 (m_lt hf (by decide)) (fk_1198 hf) rfl) rfl (Nat.le_of_ble_eq_true rfl) rfl (by decide) (Nat.le_refl 0) (Nat.le_refl 0) dX10_isSo_32 (fun v9 u9 hq => ?_) (fun k9 u9 hq => by obtain ⟨_, e9, _⟩ := hq; cases e9)
  obtain ⟨A9, e9, rfl, h⟩ := hq
  obtain rfl := Sum.inl.inj e9
  show J Γ RX10 cX10_isSo 4 (some .boolean) "isSo" [] 9 0 0 35 [(0, .ref 1198), (1, .int p1), (2, .int p2)] [] (n, K, A9, Lg, G) P
  refine j_iconst (v := 0) dX10_isSo_35 (by decide) ?_
  refine j_istore_n (by decide) rfl dX10_isSo_36 ?_
  refine j_ls [1, 3, 0] rfl ?_
  obtain ⟨m10, h⟩ := h
  exact fX10_isSo_L37_ok hf Q P hP   m10 p2 0 A9 h
theorem myX10_kicks : jY yX10_kicks cX10_kicks 4 (some .int) 1 := ⟨q2129, q139, by decide +kernel, by decide +kernel, by decide⟩
def fX10_kicks_J44  (k18 : Int32 → Int32 → Int32 → pA → Prop) (Q : Int32 → pA → Prop) (l1 : Int32) (l2 : Int32) (l3 : Int32) (A : pA) : Prop :=
    k18 l1 l2 (l3 + 1) A
theorem fX10_kicks_J44_ok {Γ : jG} {n : Nat} {K : Nat → pKd} {G : pG} {Lg : pL} (hf : mOK n K G) (Q : Int32 → pA → Prop) (P : jO → pS → Prop) (hP : P = (fun o u => ∃ (r : Int32) (A' : pA), o = .inl (some (.int r)) ∧ u = (n, K, A', Lg, G) ∧ Q r A')) (k18 : Int32 → Int32 → Int32 → pA → Prop) (ok18 : ∀ (l1 : Int32) (l2 : Int32) (l3 : Int32) (A : pA), k18 l1 l2 l3 A → J Γ RX10 cX10_kicks 4 (some .int) "kicks" [] 10 0 0 18 [(0, .ref 1198), (1, .int l1), (2, .int l2), (3, .int l3)] [] (n, K, A, Lg, G) P) (l1 : Int32) (l2 : Int32) (l3 : Int32) (A : pA) (h : fX10_kicks_J44  k18 Q l1 l2 l3 A) : J Γ RX10 cX10_kicks 4 (some .int) "kicks" [] 10 0 0 44 [(0, .ref 1198), (1, .int l1), (2, .int l2), (3, .int l3)] [] (n, K, A, Lg, G) P := by
  unfold fX10_kicks_J44 at h
  refine j_iinc (v := l3 + 1) 3 rfl rfl (by decide) rfl dX10_kicks_44 ?_
  refine j_goto (tgt := 18) dX10_kicks_47 (by decide) ?_
  refine j_ls [1, 2, 3, 0] rfl ?_
  exact ok18 l1 l2 (l3 + 1) A h
def fX10_kicks_L18   (Q : Int32 → pA → Prop) : Nat → Int32 → Int32 → Int32 → pA → Prop
  | 0, _, _, _, _ => False
  | n9 + 1, l1, l2, l3, A =>
    (if 20 ≤ l3 then Q l2 A else fX10_isPair A l3 (fun r1 => (if r1 = 0 then fX10_kicks_J44  (fun x0 x1 x2 x3 => fX10_kicks_L18   Q n9 x0 x1 x2 x3) Q l1 l2 l3 A else fX10_isSo A l3 l1 (fun r2 A3 => (if r2 = 0 then fX10_kicks_J44  (fun x0 x1 x2 x3 => fX10_kicks_L18   Q n9 x0 x1 x2 x3) Q l1 l2 l3 A3 else fX10_kicks_J44  (fun x0 x1 x2 x3 => fX10_kicks_L18   Q n9 x0 x1 x2 x3) Q l1 (l2 + 1) l3 A3)))))
theorem fX10_kicks_L18_ok {Γ : jG} {n : Nat} {K : Nat → pKd} {G : pG} {Lg : pL} (hf : mOK n K G) (Q : Int32 → pA → Prop) (P : jO → pS → Prop) (hP : P = (fun o u => ∃ (r : Int32) (A' : pA), o = .inl (some (.int r)) ∧ u = (n, K, A', Lg, G) ∧ Q r A'))    : ∀ (n9 : Nat) (l1 : Int32) (l2 : Int32) (l3 : Int32) (A : pA), fX10_kicks_L18   Q n9 l1 l2 l3 A → J Γ RX10 cX10_kicks 4 (some .int) "kicks" [] 10 0 0 18 [(0, .ref 1198), (1, .int l1), (2, .int l2), (3, .int l3)] [] (n, K, A, Lg, G) P := by
  intro n9
  induction n9 with
  | zero => intro l1 l2 l3 A h; exact h.elim
  | succ n9 ih =>
    intro l1 l2 l3 A h
    unfold fX10_kicks_L18 at h
    refine j_iload_n 3 rfl dX10_kicks_18 ?_
    refine j_bipush (v := 20) dX10_kicks_19 (by decide) ?_
    refine j_icmp_ge (tgt := 50) dX10_kicks_21 (by decide) (fun c => ?_) (fun c => ?_)
    · rw [if_pos c] at h
      refine j_iload_n 2 rfl dX10_kicks_50 ?_
      refine j_iret rfl ?_ dX10_kicks_51
      rw [hP]
      exact ⟨l2, A, rfl, rfl, h⟩
    · rw [if_neg c] at h
      refine j_aload_n 0 rfl dX10_kicks_24 ?_
      refine j_iload_n 3 rfl dX10_kicks_25 ?_
      refine j_callV (b := 1198) (As := [.int l3]) (st := []) (C := RX10) (kc' := 0) (ks' := 0) (tX10_isPair hf l3 _ h) myX10_isPair rfl q2130 q2132 qs117 (by decide) (fun s9 H9 hK9 hR9 h69 => jIs_in hK9 hR9 h69 (m_lt hf (by decide)) (fk_1198 hf) rfl) rfl (Nat.le_of_ble_eq_true rfl) rfl (by decide) (Nat.le_refl 0) (Nat.le_refl 0) dX10_kicks_26 (fun v9 u9 hq => ?_) (fun k9 u9 hq => by obtain ⟨_, e9, _⟩ := hq; cases e9)
      obtain ⟨r1, e9, rfl, h⟩ := hq
      obtain rfl := Sum.inl.inj e9
      show J Γ RX10 cX10_kicks 4 (some .int) "kicks" [] 10 0 0 29 [(0, .ref 1198), (1, .int l1), (2, .int l2), (3, .int l3)] [.int r1] (n, K, A, Lg, G) P
      refine j_if_eq (tgt := 44) dX10_kicks_29 (by decide) (fun c => ?_) (fun c => ?_)
      · rw [if_pos c] at h
        exact fX10_kicks_J44_ok hf Q P hP (fun x0 x1 x2 x3 => fX10_kicks_L18   Q n9 x0 x1 x2 x3) (fun x0 x1 x2 x3 h9 => ih x0 x1 x2 x3 h9) l1 l2 l3 A h
      · rw [if_neg c] at h
        refine j_aload_n 0 rfl dX10_kicks_32 ?_
        refine j_iload_n 3 rfl dX10_kicks_33 ?_
        refine j_iload_n 1 rfl dX10_kicks_34 ?_
        refine j_callV (b := 1198) (As := [.int l3, .int l1]) (st := []) (C := RX10) (kc' := 0) (ks' := 0) (tX10_isSo hf l3 l1 _ h) myX10_isSo rfl q2134 q2136 qs118 (by decide) (fun s9 H9 hK9 hR9 h69 => jIs_in hK9 hR9 h69 (m_lt hf (by decide)) (fk_1198 hf) rfl) rfl (Nat.le_of_ble_eq_true rfl) rfl (by decide) (Nat.le_refl 0) (Nat.le_refl 0) dX10_kicks_35 (fun v9 u9 hq => ?_) (fun k9 u9 hq => by obtain ⟨_, _, e9, _⟩ := hq; cases e9)
        obtain ⟨r2, A3, e9, rfl, h⟩ := hq
        obtain rfl := Sum.inl.inj e9
        show J Γ RX10 cX10_kicks 4 (some .int) "kicks" [] 10 0 0 38 [(0, .ref 1198), (1, .int l1), (2, .int l2), (3, .int l3)] [.int r2] (n, K, A3, Lg, G) P
        refine j_if_eq (tgt := 44) dX10_kicks_38 (by decide) (fun c => ?_) (fun c => ?_)
        · rw [if_pos c] at h
          exact fX10_kicks_J44_ok hf Q P hP (fun x0 x1 x2 x3 => fX10_kicks_L18   Q n9 x0 x1 x2 x3) (fun x0 x1 x2 x3 h9 => ih x0 x1 x2 x3 h9) l1 l2 l3 A3 h
        · rw [if_neg c] at h
          refine j_iinc (v := l2 + 1) 2 rfl rfl (by decide) rfl dX10_kicks_41 ?_
          refine j_ls [1, 2, 0, 3] rfl ?_
          exact fX10_kicks_J44_ok hf Q P hP (fun x0 x1 x2 x3 => fX10_kicks_L18   Q n9 x0 x1 x2 x3) (fun x0 x1 x2 x3 h9 => ih x0 x1 x2 x3 h9) l1 (l2 + 1) l3 A3 h
def fX10_kicks (A : pA) (p1 : Int32) (Q : Int32 → pA → Prop) : Prop :=
    fX10_in A p1 0 (A 1198 61) (fun r4 => (if r4 = 0 then Q (-1) A else ∃ m5, fX10_kicks_L18   Q m5 p1 0 0 A))
theorem tX10_kicks {Γ : jG} {n : Nat} {K : Nat → pKd} {G : pG} {Lg : pL} (hf : mOK n K G) {A : pA} (p1 : Int32) (Q : Int32 → pA → Prop) (h : fX10_kicks A p1 Q) : jMet Γ yX10_kicks cX10_kicks 4 (some .int) [] 10 0 0 [.ref 1198, .int p1] (n, K, A, Lg, G) (fun o u => ∃ (r : Int32) (A' : pA), o = .inl (some (.int r)) ∧ u = (n, K, A', Lg, G) ∧ Q r A') := by
  unfold fX10_kicks at h
  obtain ⟨P, hP⟩ : ∃ P : jO → pS → Prop, P = (fun o u => ∃ (r : Int32) (A' : pA), o = .inl (some (.int r)) ∧ u = (n, K, A', Lg, G) ∧ Q r A') := ⟨_, rfl⟩
  rw [← hP]
  refine jMet_of rfl rfl rfl (Nat.le_of_ble_eq_true rfl) ?_
  show J Γ RX10 cX10_kicks 4 (some .int) "kicks" [] 10 0 0 0 [(0, .ref 1198), (1, .int p1)] [] (n, K, A, Lg, G) P
  refine j_iload_n 1 rfl dX10_kicks_0 ?_
  refine j_iconst (v := 0) dX10_kicks_1 (by decide) ?_
  refine j_aload_n 0 rfl dX10_kicks_2 ?_
  refine j_getfi fl_X10_266_9 rfl (m_lt hf (by decide)) (fk_1198 hf) dX10_kicks_3 ?_
  refine j_callS (As := [.int p1, .int 0, .int (A 1198 61)]) (st := []) (kc' := 0) (ks' := 0) (tX10_in hf p1 0 (A 1198 61) _ h) myX10_in q1892 q1893 rfl (Nat.le_of_ble_eq_true rfl) rfl (by decide) (Nat.le_refl 0) (Nat.le_refl 0) dX10_kicks_6 (fun v9 u9 hq => ?_) (fun k9 u9 hq => by obtain ⟨_, e9, _⟩ := hq; cases e9)
  obtain ⟨r4, e9, rfl, h⟩ := hq
  obtain rfl := Sum.inl.inj e9
  show J Γ RX10 cX10_kicks 4 (some .int) "kicks" [] 10 0 0 9 [(0, .ref 1198), (1, .int p1)] [.int r4] (n, K, A, Lg, G) P
  refine j_if_ne (tgt := 14) dX10_kicks_9 (by decide) (fun c => ?_) (fun c => ?_)
  · rw [if_neg c] at h
    refine j_iconst (v := 0) dX10_kicks_14 (by decide) ?_
    refine j_istore_n (by decide) rfl dX10_kicks_15 ?_
    refine j_iconst (v := 0) dX10_kicks_16 (by decide) ?_
    refine j_istore_n (by decide) rfl dX10_kicks_17 ?_
    refine j_ls [2, 3, 1, 0] rfl ?_
    obtain ⟨m5, h⟩ := h
    exact fX10_kicks_L18_ok hf Q P hP   m5 p1 0 0 A h
  · rw [if_pos c] at h
    refine j_iconst (v := (-1)) dX10_kicks_12 (by decide) ?_
    refine j_iret rfl ?_ dX10_kicks_13
    rw [hP]
    exact ⟨(-1), A, rfl, rfl, h⟩
theorem myX10_sure : jY yX10_sure cX10_sure 4 (some .int) 1 := ⟨q2141, q139, by decide +kernel, by decide +kernel, by decide⟩
def fX10_sure_J63  (k19 : Int32 → Int32 → Int32 → pA → Prop) (Q : Int32 → pA → Prop) (l1 : Int32) (l2 : Int32) (l3 : Int32) (A : pA) : Prop :=
    k19 l1 l2 (l3 + 1) A
theorem fX10_sure_J63_ok {Γ : jG} {n : Nat} {K : Nat → pKd} {G : pG} {Lg : pL} (hf : mOK n K G) (Q : Int32 → pA → Prop) (P : jO → pS → Prop) (hP : P = (fun o u => ∃ (r : Int32) (A' : pA), o = .inl (some (.int r)) ∧ u = (n, K, A', Lg, G) ∧ Q r A')) (k19 : Int32 → Int32 → Int32 → pA → Prop) (ok19 : ∀ (l1 : Int32) (l2 : Int32) (l3 : Int32) (A : pA), k19 l1 l2 l3 A → J Γ RX10 cX10_sure 4 (some .int) "sure" [] 10 0 0 19 [(0, .ref 1198), (1, .int l1), (2, .int l2), (3, .int l3)] [] (n, K, A, Lg, G) P) (l1 : Int32) (l2 : Int32) (l3 : Int32) (A : pA) (h : fX10_sure_J63  k19 Q l1 l2 l3 A) : J Γ RX10 cX10_sure 4 (some .int) "sure" [] 10 0 0 63 [(0, .ref 1198), (1, .int l1), (2, .int l2), (3, .int l3)] [] (n, K, A, Lg, G) P := by
  unfold fX10_sure_J63 at h
  refine j_iinc (v := l3 + 1) 3 rfl rfl (by decide) rfl dX10_sure_63 ?_
  refine j_goto (tgt := 19) dX10_sure_66 (by decide) ?_
  refine j_ls [1, 2, 3, 0] rfl ?_
  exact ok19 l1 l2 (l3 + 1) A h
def fX10_sure_L19   (Q : Int32 → pA → Prop) : Nat → Int32 → Int32 → Int32 → pA → Prop
  | 0, _, _, _, _ => False
  | n9 + 1, l1, l2, l3, A =>
    (if 20 ≤ l3 then Q l2 A else fX10_isPair A l3 (fun r1 => (if r1 = 0 then fX10_sure_J63  (fun x0 x1 x2 x3 => fX10_sure_L19   Q n9 x0 x1 x2 x3) Q l1 l2 l3 A else fX10_isSo A l3 l1 (fun r2 A3 => (if r2 = 0 then fX10_sure_J63  (fun x0 x1 x2 x3 => fX10_sure_L19   Q n9 x0 x1 x2 x3) Q l1 l2 l3 A3 else (if l2 < 0 then fX10_sure_J63  (fun x0 x1 x2 x3 => fX10_sure_L19   Q n9 x0 x1 x2 x3) Q l1 ((10 * (l3 / 4)) + (l3 - l3 / 4 * 4)) l3 A3 else Q (-2) A3))))))
theorem fX10_sure_L19_ok {Γ : jG} {n : Nat} {K : Nat → pKd} {G : pG} {Lg : pL} (hf : mOK n K G) (Q : Int32 → pA → Prop) (P : jO → pS → Prop) (hP : P = (fun o u => ∃ (r : Int32) (A' : pA), o = .inl (some (.int r)) ∧ u = (n, K, A', Lg, G) ∧ Q r A'))    : ∀ (n9 : Nat) (l1 : Int32) (l2 : Int32) (l3 : Int32) (A : pA), fX10_sure_L19   Q n9 l1 l2 l3 A → J Γ RX10 cX10_sure 4 (some .int) "sure" [] 10 0 0 19 [(0, .ref 1198), (1, .int l1), (2, .int l2), (3, .int l3)] [] (n, K, A, Lg, G) P := by
  intro n9
  induction n9 with
  | zero => intro l1 l2 l3 A h; exact h.elim
  | succ n9 ih =>
    intro l1 l2 l3 A h
    unfold fX10_sure_L19 at h
    refine j_iload_n 3 rfl dX10_sure_19 ?_
    refine j_bipush (v := 20) dX10_sure_20 (by decide) ?_
    refine j_icmp_ge (tgt := 69) dX10_sure_22 (by decide) (fun c => ?_) (fun c => ?_)
    · rw [if_pos c] at h
      refine j_iload_n 2 rfl dX10_sure_69 ?_
      refine j_iret rfl ?_ dX10_sure_70
      rw [hP]
      exact ⟨l2, A, rfl, rfl, h⟩
    · rw [if_neg c] at h
      refine j_aload_n 0 rfl dX10_sure_25 ?_
      refine j_iload_n 3 rfl dX10_sure_26 ?_
      refine j_callV (b := 1198) (As := [.int l3]) (st := []) (C := RX10) (kc' := 0) (ks' := 0) (tX10_isPair hf l3 _ h) myX10_isPair rfl q2130 q2132 qs117 (by decide) (fun s9 H9 hK9 hR9 h69 => jIs_in hK9 hR9 h69 (m_lt hf (by decide)) (fk_1198 hf) rfl) rfl (Nat.le_of_ble_eq_true rfl) rfl (by decide) (Nat.le_refl 0) (Nat.le_refl 0) dX10_sure_27 (fun v9 u9 hq => ?_) (fun k9 u9 hq => by obtain ⟨_, e9, _⟩ := hq; cases e9)
      obtain ⟨r1, e9, rfl, h⟩ := hq
      obtain rfl := Sum.inl.inj e9
      show J Γ RX10 cX10_sure 4 (some .int) "sure" [] 10 0 0 30 [(0, .ref 1198), (1, .int l1), (2, .int l2), (3, .int l3)] [.int r1] (n, K, A, Lg, G) P
      refine j_if_eq (tgt := 63) dX10_sure_30 (by decide) (fun c => ?_) (fun c => ?_)
      · rw [if_pos c] at h
        exact fX10_sure_J63_ok hf Q P hP (fun x0 x1 x2 x3 => fX10_sure_L19   Q n9 x0 x1 x2 x3) (fun x0 x1 x2 x3 h9 => ih x0 x1 x2 x3 h9) l1 l2 l3 A h
      · rw [if_neg c] at h
        refine j_aload_n 0 rfl dX10_sure_33 ?_
        refine j_iload_n 3 rfl dX10_sure_34 ?_
        refine j_iload_n 1 rfl dX10_sure_35 ?_
        refine j_callV (b := 1198) (As := [.int l3, .int l1]) (st := []) (C := RX10) (kc' := 0) (ks' := 0) (tX10_isSo hf l3 l1 _ h) myX10_isSo rfl q2134 q2136 qs118 (by decide) (fun s9 H9 hK9 hR9 h69 => jIs_in hK9 hR9 h69 (m_lt hf (by decide)) (fk_1198 hf) rfl) rfl (Nat.le_of_ble_eq_true rfl) rfl (by decide) (Nat.le_refl 0) (Nat.le_refl 0) dX10_sure_36 (fun v9 u9 hq => ?_) (fun k9 u9 hq => by obtain ⟨_, _, e9, _⟩ := hq; cases e9)
        obtain ⟨r2, A3, e9, rfl, h⟩ := hq
        obtain rfl := Sum.inl.inj e9
        show J Γ RX10 cX10_sure 4 (some .int) "sure" [] 10 0 0 39 [(0, .ref 1198), (1, .int l1), (2, .int l2), (3, .int l3)] [.int r2] (n, K, A3, Lg, G) P
        refine j_if_ne (tgt := 45) dX10_sure_39 (by decide) (fun c => ?_) (fun c => ?_)
        · rw [if_neg c] at h
          refine j_iload_n 2 rfl dX10_sure_45 ?_
          refine j_if_lt (tgt := 52) dX10_sure_46 (by decide) (fun c => ?_) (fun c => ?_)
          · rw [if_pos c] at h
            refine j_bipush (v := 10) dX10_sure_52 (by decide) ?_
            refine j_iload_n 3 rfl dX10_sure_54 ?_
            refine j_iconst (v := 4) dX10_sure_55 (by decide) ?_
            refine j_idiv (by decide) dX10_sure_56 ?_
            refine j_imul dX10_sure_57 ?_
            refine j_iload_n 3 rfl dX10_sure_58 ?_
            refine j_iconst (v := 4) dX10_sure_59 (by decide) ?_
            refine j_irem (by decide) dX10_sure_60 ?_
            refine j_iadd dX10_sure_61 ?_
            refine j_istore_n (by decide) rfl dX10_sure_62 ?_
            refine j_ls [1, 2, 0, 3] rfl ?_
            exact fX10_sure_J63_ok hf Q P hP (fun x0 x1 x2 x3 => fX10_sure_L19   Q n9 x0 x1 x2 x3) (fun x0 x1 x2 x3 h9 => ih x0 x1 x2 x3 h9) l1 ((10 * (l3 / 4)) + (l3 - l3 / 4 * 4)) l3 A3 h
          · rw [if_neg c] at h
            refine j_bipush (v := (-2)) dX10_sure_49 (by decide) ?_
            refine j_iret rfl ?_ dX10_sure_51
            rw [hP]
            exact ⟨(-2), A3, rfl, rfl, h⟩
        · rw [if_pos c] at h
          refine j_goto (tgt := 63) dX10_sure_42 (by decide) ?_
          exact fX10_sure_J63_ok hf Q P hP (fun x0 x1 x2 x3 => fX10_sure_L19   Q n9 x0 x1 x2 x3) (fun x0 x1 x2 x3 h9 => ih x0 x1 x2 x3 h9) l1 l2 l3 A3 h
def fX10_sure (A : pA) (p1 : Int32) (Q : Int32 → pA → Prop) : Prop :=
    fX10_in A p1 0 (A 1198 61) (fun r4 => (if r4 = 0 then Q (-1) A else ∃ m5, fX10_sure_L19   Q m5 p1 (-2) 0 A))
theorem tX10_sure {Γ : jG} {n : Nat} {K : Nat → pKd} {G : pG} {Lg : pL} (hf : mOK n K G) {A : pA} (p1 : Int32) (Q : Int32 → pA → Prop) (h : fX10_sure A p1 Q) : jMet Γ yX10_sure cX10_sure 4 (some .int) [] 10 0 0 [.ref 1198, .int p1] (n, K, A, Lg, G) (fun o u => ∃ (r : Int32) (A' : pA), o = .inl (some (.int r)) ∧ u = (n, K, A', Lg, G) ∧ Q r A') := by
  unfold fX10_sure at h
  obtain ⟨P, hP⟩ : ∃ P : jO → pS → Prop, P = (fun o u => ∃ (r : Int32) (A' : pA), o = .inl (some (.int r)) ∧ u = (n, K, A', Lg, G) ∧ Q r A') := ⟨_, rfl⟩
  rw [← hP]
  refine jMet_of rfl rfl rfl (Nat.le_of_ble_eq_true rfl) ?_
  show J Γ RX10 cX10_sure 4 (some .int) "sure" [] 10 0 0 0 [(0, .ref 1198), (1, .int p1)] [] (n, K, A, Lg, G) P
  refine j_iload_n 1 rfl dX10_sure_0 ?_
  refine j_iconst (v := 0) dX10_sure_1 (by decide) ?_
  refine j_aload_n 0 rfl dX10_sure_2 ?_
  refine j_getfi fl_X10_266_9 rfl (m_lt hf (by decide)) (fk_1198 hf) dX10_sure_3 ?_
  refine j_callS (As := [.int p1, .int 0, .int (A 1198 61)]) (st := []) (kc' := 0) (ks' := 0) (tX10_in hf p1 0 (A 1198 61) _ h) myX10_in q1892 q1893 rfl (Nat.le_of_ble_eq_true rfl) rfl (by decide) (Nat.le_refl 0) (Nat.le_refl 0) dX10_sure_6 (fun v9 u9 hq => ?_) (fun k9 u9 hq => by obtain ⟨_, e9, _⟩ := hq; cases e9)
  obtain ⟨r4, e9, rfl, h⟩ := hq
  obtain rfl := Sum.inl.inj e9
  show J Γ RX10 cX10_sure 4 (some .int) "sure" [] 10 0 0 9 [(0, .ref 1198), (1, .int p1)] [.int r4] (n, K, A, Lg, G) P
  refine j_if_ne (tgt := 14) dX10_sure_9 (by decide) (fun c => ?_) (fun c => ?_)
  · rw [if_neg c] at h
    refine j_bipush (v := (-2)) dX10_sure_14 (by decide) ?_
    refine j_istore_n (by decide) rfl dX10_sure_16 ?_
    refine j_iconst (v := 0) dX10_sure_17 (by decide) ?_
    refine j_istore_n (by decide) rfl dX10_sure_18 ?_
    refine j_ls [2, 3, 1, 0] rfl ?_
    obtain ⟨m5, h⟩ := h
    exact fX10_sure_L19_ok hf Q P hP   m5 p1 (-2) 0 A h
  · rw [if_pos c] at h
    refine j_iconst (v := (-1)) dX10_sure_12 (by decide) ?_
    refine j_iret rfl ?_ dX10_sure_13
    rw [hP]
    exact ⟨(-1), A, rfl, rfl, h⟩
theorem myX10_ask : jY yX10_ask cX10_ask 7 (some .int) 1 := ⟨q2145, q139, by decide +kernel, by decide +kernel, by decide⟩
def fX10_ask_J110  (k38 : Int32 → Int32 → Int32 → pA → Prop) (Q : Int32 → pA → Prop) (l1 : Int32) (l2 : Int32) (l3 : Int32) (A : pA) : Prop :=
    k38 l1 l2 (l3 + 1) A
theorem fX10_ask_J110_ok {Γ : jG} {n : Nat} {K : Nat → pKd} {G : pG} {Lg : pL} (hf : mOK n K G) (Q : Int32 → pA → Prop) (P : jO → pS → Prop) (hP : P = (fun o u => ∃ (r : Int32) (A' : pA), o = .inl (some (.int r)) ∧ u = (n, K, A', Lg, G) ∧ Q r A')) (k38 : Int32 → Int32 → Int32 → pA → Prop) (ok38 : ∀ (l1 : Int32) (l2 : Int32) (l3 : Int32) (A : pA), k38 l1 l2 l3 A → J Γ RX10 cX10_ask 7 (some .int) "ask" [] 10 0 0 38 [(0, .ref 1198), (1, .int l1), (2, .int l2), (3, .int l3)] [] (n, K, A, Lg, G) P) (l1 : Int32) (l2 : Int32) (l3 : Int32) (A : pA) (h : fX10_ask_J110  k38 Q l1 l2 l3 A) : J Γ RX10 cX10_ask 7 (some .int) "ask" [] 10 0 0 110 [(0, .ref 1198), (1, .int l1), (2, .int l2), (3, .int l3)] [] (n, K, A, Lg, G) P := by
  unfold fX10_ask_J110 at h
  refine j_iinc (v := l3 + 1) 3 rfl rfl (by decide) rfl dX10_ask_110 ?_
  refine j_goto (tgt := 38) dX10_ask_113 (by decide) ?_
  refine j_ls [1, 2, 3, 0] rfl ?_
  exact ok38 l1 l2 (l3 + 1) A h
def fX10_ask_L70  (k38 : Int32 → Int32 → Int32 → pA → Prop) (Q : Int32 → pA → Prop) : Nat → Int32 → Int32 → Int32 → Int32 → pA → Prop
  | 0, _, _, _, _, _ => False
  | n9 + 1, l1, l2, l3, l4, A =>
    (vp_in (A 1198 18) 2) ∧ ((if (A 1215 (A 1198 18).toNatClampNeg) ≤ l4 then fX10_ask_J110  k38 Q l1 l2 l3 A else (vp_in l4 4) ∧ ((vp_in (27 + l4) 77) ∧ ((vp_in l4 4) ∧ (∀ A5 : pA, A5 = pup A 1243 (l4).toNatClampNeg ((A 1243 (l4).toNatClampNeg) + (A 1238 (27 + l4).toNatClampNeg)) → fX10_ask_L70  k38 Q n9 l1 l2 l3 (l4 + 1) A5)))))
theorem fX10_ask_L70_ok {Γ : jG} {n : Nat} {K : Nat → pKd} {G : pG} {Lg : pL} (hf : mOK n K G) (Q : Int32 → pA → Prop) (P : jO → pS → Prop) (hP : P = (fun o u => ∃ (r : Int32) (A' : pA), o = .inl (some (.int r)) ∧ u = (n, K, A', Lg, G) ∧ Q r A'))  (k38 : Int32 → Int32 → Int32 → pA → Prop) (ok38 : ∀ (l1 : Int32) (l2 : Int32) (l3 : Int32) (A : pA), k38 l1 l2 l3 A → J Γ RX10 cX10_ask 7 (some .int) "ask" [] 10 0 0 38 [(0, .ref 1198), (1, .int l1), (2, .int l2), (3, .int l3)] [] (n, K, A, Lg, G) P) : ∀ (n9 : Nat) (l1 : Int32) (l2 : Int32) (l3 : Int32) (l4 : Int32) (A : pA), fX10_ask_L70  k38 Q n9 l1 l2 l3 l4 A → J Γ RX10 cX10_ask 7 (some .int) "ask" [] 10 0 0 70 [(0, .ref 1198), (1, .int l1), (2, .int l2), (3, .int l3), (4, .int l4)] [] (n, K, A, Lg, G) P := by
  intro n9
  induction n9 with
  | zero => intro l1 l2 l3 l4 A h; exact h.elim
  | succ n9 ih =>
    intro l1 l2 l3 l4 A h
    unfold fX10_ask_L70 at h
    refine j_iload 4 rfl dX10_ask_70 ?_
    refine j_aload_n 0 rfl dX10_ask_72 ?_
    refine j_getfr fl_X10_67_9 rfl (m_lt hf (by decide)) (fk_1198 hf) (fg_1198_30 hf) dX10_ask_73 ?_
    refine j_aload_n 0 rfl dX10_ask_76 ?_
    refine j_getfi fl_X10_242_9 rfl (m_lt hf (by decide)) (fk_1198 hf) dX10_ask_77 ?_
    obtain ⟨b1, h⟩ := h
    refine j_ialdJ (j := (A 1198 18).toNatClampNeg) (m_lt hf (by decide)) (fk_1215 hf) b1 rfl dX10_ask_80 ?_
    refine j_icmp_ge (tgt := 110) dX10_ask_81 (by decide) (fun c => ?_) (fun c => ?_)
    · rw [if_pos c] at h
      refine j_ls [0, 1, 2, 3] rfl ?_
      exact fX10_ask_J110_ok hf Q P hP k38 ok38 l1 l2 l3 A h
    · rw [if_neg c] at h
      refine j_aload_n 0 rfl dX10_ask_84 ?_
      refine j_getfr fl_X10_152_9 rfl (m_lt hf (by decide)) (fk_1198 hf) (fg_1198_64 hf) dX10_ask_85 ?_
      refine j_iload 4 rfl dX10_ask_88 ?_
      refine j_dup2 rfl rfl dX10_ask_90 ?_
      obtain ⟨b2, h⟩ := h
      refine j_ialdJ (j := (l4).toNatClampNeg) (m_lt hf (by decide)) (fk_1243 hf) b2 rfl dX10_ask_91 ?_
      refine j_aload_n 0 rfl dX10_ask_92 ?_
      refine j_getfr fl_X10_137_9 rfl (m_lt hf (by decide)) (fk_1198 hf) (fg_1198_57 hf) dX10_ask_93 ?_
      refine j_bipush (v := 27) dX10_ask_96 (by decide) ?_
      refine j_iload 4 rfl dX10_ask_98 ?_
      refine j_iadd dX10_ask_100 ?_
      obtain ⟨b3, h⟩ := h
      refine j_ialdJ (j := (27 + l4).toNatClampNeg) (m_lt hf (by decide)) (fk_1238 hf) b3 rfl dX10_ask_101 ?_
      refine j_iadd dX10_ask_102 ?_
      obtain ⟨b4, h⟩ := h
      refine j_iastJ (j := (l4).toNatClampNeg) (m_lt hf (by decide)) (fk_1243 hf) b4 rfl dX10_ask_103 (fun A5 eA5 => ?_)
      replace h := h A5 eA5
      refine j_iinc (v := l4 + 1) 4 rfl rfl (by decide) rfl dX10_ask_104 ?_
      refine j_goto (tgt := 70) dX10_ask_107 (by decide) ?_
      refine j_ls [1, 2, 3, 4, 0] rfl ?_
      exact ih l1 l2 l3 (l4 + 1) A5 h
def fX10_ask_J204  (k125 : Int32 → Int32 → Int32 → Int32 → pA → Prop) (Q : Int32 → pA → Prop) (l2 : Int32) (l3 : Int32) (l4 : Int32) (l5 : Int32) (A : pA) : Prop :=
    k125 l2 l3 l4 (l5 + 1) A
theorem fX10_ask_J204_ok {Γ : jG} {n : Nat} {K : Nat → pKd} {G : pG} {Lg : pL} (hf : mOK n K G) (Q : Int32 → pA → Prop) (P : jO → pS → Prop) (hP : P = (fun o u => ∃ (r : Int32) (A' : pA), o = .inl (some (.int r)) ∧ u = (n, K, A', Lg, G) ∧ Q r A')) (k125 : Int32 → Int32 → Int32 → Int32 → pA → Prop) (ok125 : ∀ (l2 : Int32) (l3 : Int32) (l4 : Int32) (l5 : Int32) (A : pA), k125 l2 l3 l4 l5 A → J Γ RX10 cX10_ask 7 (some .int) "ask" [] 10 0 0 125 [(0, .ref 1198), (2, .int l2), (3, .int l3), (4, .int l4), (5, .int l5)] [] (n, K, A, Lg, G) P) (l2 : Int32) (l3 : Int32) (l4 : Int32) (l5 : Int32) (A : pA) (h : fX10_ask_J204  k125 Q l2 l3 l4 l5 A) : J Γ RX10 cX10_ask 7 (some .int) "ask" [] 10 0 0 204 [(0, .ref 1198), (2, .int l2), (3, .int l3), (4, .int l4), (5, .int l5)] [] (n, K, A, Lg, G) P := by
  unfold fX10_ask_J204 at h
  refine j_iinc (v := l5 + 1) 4 rfl rfl (by decide) rfl dX10_ask_204 ?_
  refine j_goto (tgt := 125) dX10_ask_207 (by decide) ?_
  refine j_ls [1, 2, 3, 4, 0] rfl ?_
  exact ok125 l2 l3 l4 (l5 + 1) A h
def fX10_ask_J197  (k125 : Int32 → Int32 → Int32 → Int32 → pA → Prop) (Q : Int32 → pA → Prop) (l2 : Int32) (l5 : Int32) (l6 : Int32) (A : pA) : Prop :=
    fX10_ask_J204  k125 Q l2 l5 l6 l5 A
theorem fX10_ask_J197_ok {Γ : jG} {n : Nat} {K : Nat → pKd} {G : pG} {Lg : pL} (hf : mOK n K G) (Q : Int32 → pA → Prop) (P : jO → pS → Prop) (hP : P = (fun o u => ∃ (r : Int32) (A' : pA), o = .inl (some (.int r)) ∧ u = (n, K, A', Lg, G) ∧ Q r A')) (k125 : Int32 → Int32 → Int32 → Int32 → pA → Prop) (ok125 : ∀ (l2 : Int32) (l3 : Int32) (l4 : Int32) (l5 : Int32) (A : pA), k125 l2 l3 l4 l5 A → J Γ RX10 cX10_ask 7 (some .int) "ask" [] 10 0 0 125 [(0, .ref 1198), (2, .int l2), (3, .int l3), (4, .int l4), (5, .int l5)] [] (n, K, A, Lg, G) P) (l2 : Int32) (l5 : Int32) (l6 : Int32) (A : pA) (h : fX10_ask_J197  k125 Q l2 l5 l6 A) : J Γ RX10 cX10_ask 7 (some .int) "ask" [] 10 0 0 197 [(0, .ref 1198), (2, .int l2), (5, .int l5), (6, .int l6)] [] (n, K, A, Lg, G) P := by
  unfold fX10_ask_J197 at h
  refine j_iload 2 rfl dX10_ask_197 ?_
  refine j_istore_n (by decide) rfl dX10_ask_199 ?_
  refine j_iload 4 rfl dX10_ask_200 ?_
  refine j_istore (by decide) rfl dX10_ask_202 ?_
  refine j_ls [2, 3, 1, 0, 4] rfl ?_
  exact fX10_ask_J204_ok hf Q P hP k125 ok125 l2 l5 l6 l5 A h
def fX10_ask_J181  (k125 : Int32 → Int32 → Int32 → Int32 → pA → Prop) (Q : Int32 → pA → Prop) (l2 : Int32) (l3 : Int32) (l4 : Int32) (l5 : Int32) (s0 : Int32) (A : pA) : Prop :=
    (if l3 < 0 then fX10_ask_J197  k125 Q l2 l5 s0 A else (if s0 < l4 then fX10_ask_J197  k125 Q l2 l5 s0 A else fX10_ask_J204  k125 Q l2 l3 l4 l5 A))
theorem fX10_ask_J181_ok {Γ : jG} {n : Nat} {K : Nat → pKd} {G : pG} {Lg : pL} (hf : mOK n K G) (Q : Int32 → pA → Prop) (P : jO → pS → Prop) (hP : P = (fun o u => ∃ (r : Int32) (A' : pA), o = .inl (some (.int r)) ∧ u = (n, K, A', Lg, G) ∧ Q r A')) (k125 : Int32 → Int32 → Int32 → Int32 → pA → Prop) (ok125 : ∀ (l2 : Int32) (l3 : Int32) (l4 : Int32) (l5 : Int32) (A : pA), k125 l2 l3 l4 l5 A → J Γ RX10 cX10_ask 7 (some .int) "ask" [] 10 0 0 125 [(0, .ref 1198), (2, .int l2), (3, .int l3), (4, .int l4), (5, .int l5)] [] (n, K, A, Lg, G) P) (l2 : Int32) (l3 : Int32) (l4 : Int32) (l5 : Int32) (s0 : Int32) (A : pA) (h : fX10_ask_J181  k125 Q l2 l3 l4 l5 s0 A) : J Γ RX10 cX10_ask 7 (some .int) "ask" [] 10 0 0 181 [(0, .ref 1198), (2, .int l2), (3, .int l3), (4, .int l4), (5, .int l5)] [.int s0] (n, K, A, Lg, G) P := by
  unfold fX10_ask_J181 at h
  refine j_istore (by decide) rfl dX10_ask_181 ?_
  refine j_iload_n 3 rfl dX10_ask_183 ?_
  refine j_if_lt (tgt := 197) dX10_ask_184 (by decide) (fun c => ?_) (fun c => ?_)
  · rw [if_pos c] at h
    refine j_ls [1, 2, 5, 0] rfl ?_
    exact fX10_ask_J197_ok hf Q P hP k125 ok125 l2 l5 s0 A h
  · rw [if_neg c] at h
    refine j_iload 0 rfl dX10_ask_187 ?_
    refine j_iload 4 rfl dX10_ask_189 ?_
    refine j_icmp_lt (tgt := 197) dX10_ask_191 (by decide) (fun c => ?_) (fun c => ?_)
    · rw [if_pos c] at h
      refine j_ls [1, 2, 5, 0] rfl ?_
      exact fX10_ask_J197_ok hf Q P hP k125 ok125 l2 l5 s0 A h
    · rw [if_neg c] at h
      refine j_goto (tgt := 204) dX10_ask_194 (by decide) ?_
      refine j_ls [1, 2, 3, 4, 5] rfl ?_
      exact fX10_ask_J204_ok hf Q P hP k125 ok125 l2 l3 l4 l5 A h
def fX10_ask_L125   (Q : Int32 → pA → Prop) : Nat → Int32 → Int32 → Int32 → Int32 → pA → Prop
  | 0, _, _, _, _, _ => False
  | n9 + 1, l2, l3, l4, l5, A =>
    (vp_in (A 1198 18) 2) ∧ ((if (A 1215 (A 1198 18).toNatClampNeg) ≤ l5 then Q l3 A else (if l2 ≤ 0 then Q l3 A else (vp_in l5 4) ∧ ((vp_in l5 4) ∧ ((if (A 1243 (l5).toNatClampNeg) ≤ (l2 - (A 1243 (l5).toNatClampNeg)) then (vp_in l5 4) ∧ (fX10_ask_J181  (fun x0 x1 x2 x3 x4 => fX10_ask_L125   Q n9 x0 x1 x2 x3 x4) Q l2 l3 l4 l5 (l2 - (A 1243 (l5).toNatClampNeg)) A) else (vp_in l5 4) ∧ (fX10_ask_J181  (fun x0 x1 x2 x3 x4 => fX10_ask_L125   Q n9 x0 x1 x2 x3 x4) Q l2 l3 l4 l5 (A 1243 (l5).toNatClampNeg) A)))))))
theorem fX10_ask_L125_ok {Γ : jG} {n : Nat} {K : Nat → pKd} {G : pG} {Lg : pL} (hf : mOK n K G) (Q : Int32 → pA → Prop) (P : jO → pS → Prop) (hP : P = (fun o u => ∃ (r : Int32) (A' : pA), o = .inl (some (.int r)) ∧ u = (n, K, A', Lg, G) ∧ Q r A'))    : ∀ (n9 : Nat) (l2 : Int32) (l3 : Int32) (l4 : Int32) (l5 : Int32) (A : pA), fX10_ask_L125   Q n9 l2 l3 l4 l5 A → J Γ RX10 cX10_ask 7 (some .int) "ask" [] 10 0 0 125 [(0, .ref 1198), (2, .int l2), (3, .int l3), (4, .int l4), (5, .int l5)] [] (n, K, A, Lg, G) P := by
  intro n9
  induction n9 with
  | zero => intro l2 l3 l4 l5 A h; exact h.elim
  | succ n9 ih =>
    intro l2 l3 l4 l5 A h
    unfold fX10_ask_L125 at h
    refine j_iload 4 rfl dX10_ask_125 ?_
    refine j_aload_n 0 rfl dX10_ask_127 ?_
    refine j_getfr fl_X10_67_9 rfl (m_lt hf (by decide)) (fk_1198 hf) (fg_1198_30 hf) dX10_ask_128 ?_
    refine j_aload_n 0 rfl dX10_ask_131 ?_
    refine j_getfi fl_X10_242_9 rfl (m_lt hf (by decide)) (fk_1198 hf) dX10_ask_132 ?_
    obtain ⟨b6, h⟩ := h
    refine j_ialdJ (j := (A 1198 18).toNatClampNeg) (m_lt hf (by decide)) (fk_1215 hf) b6 rfl dX10_ask_135 ?_
    refine j_icmp_ge (tgt := 210) dX10_ask_136 (by decide) (fun c => ?_) (fun c => ?_)
    · rw [if_pos c] at h
      refine j_iload_n 2 rfl dX10_ask_210 ?_
      refine j_iret rfl ?_ dX10_ask_211
      rw [hP]
      exact ⟨l3, A, rfl, rfl, h⟩
    · rw [if_neg c] at h
      refine j_iload_n 1 rfl dX10_ask_139 ?_
      refine j_if_le (tgt := 210) dX10_ask_140 (by decide) (fun c => ?_) (fun c => ?_)
      · rw [if_pos c] at h
        refine j_iload_n 2 rfl dX10_ask_210 ?_
        refine j_iret rfl ?_ dX10_ask_211
        rw [hP]
        exact ⟨l3, A, rfl, rfl, h⟩
      · rw [if_neg c] at h
        refine j_aload_n 0 rfl dX10_ask_143 ?_
        refine j_getfr fl_X10_152_9 rfl (m_lt hf (by decide)) (fk_1198 hf) (fg_1198_64 hf) dX10_ask_144 ?_
        refine j_iload 4 rfl dX10_ask_147 ?_
        obtain ⟨b7, h⟩ := h
        refine j_ialdJ (j := (l5).toNatClampNeg) (m_lt hf (by decide)) (fk_1243 hf) b7 rfl dX10_ask_149 ?_
        refine j_iload_n 1 rfl dX10_ask_150 ?_
        refine j_aload_n 0 rfl dX10_ask_151 ?_
        refine j_getfr fl_X10_152_9 rfl (m_lt hf (by decide)) (fk_1198 hf) (fg_1198_64 hf) dX10_ask_152 ?_
        refine j_iload 4 rfl dX10_ask_155 ?_
        obtain ⟨b8, h⟩ := h
        refine j_ialdJ (j := (l5).toNatClampNeg) (m_lt hf (by decide)) (fk_1243 hf) b8 rfl dX10_ask_157 ?_
        refine j_isub dX10_ask_158 ?_
        refine j_icmp_le (tgt := 172) dX10_ask_159 (by decide) (fun c => ?_) (fun c => ?_)
        · rw [if_pos c] at h
          refine j_iload_n 1 rfl dX10_ask_172 ?_
          refine j_aload_n 0 rfl dX10_ask_173 ?_
          refine j_getfr fl_X10_152_9 rfl (m_lt hf (by decide)) (fk_1198 hf) (fg_1198_64 hf) dX10_ask_174 ?_
          refine j_iload 4 rfl dX10_ask_177 ?_
          obtain ⟨b9, h⟩ := h
          refine j_ialdJ (j := (l5).toNatClampNeg) (m_lt hf (by decide)) (fk_1243 hf) b9 rfl dX10_ask_179 ?_
          refine j_isub dX10_ask_180 ?_
          exact fX10_ask_J181_ok hf Q P hP (fun x0 x1 x2 x3 x4 => fX10_ask_L125   Q n9 x0 x1 x2 x3 x4) (fun x0 x1 x2 x3 x4 h9 => ih x0 x1 x2 x3 x4 h9) l2 l3 l4 l5 (l2 - (A 1243 (l5).toNatClampNeg)) A h
        · rw [if_neg c] at h
          refine j_aload_n 0 rfl dX10_ask_162 ?_
          refine j_getfr fl_X10_152_9 rfl (m_lt hf (by decide)) (fk_1198 hf) (fg_1198_64 hf) dX10_ask_163 ?_
          refine j_iload 4 rfl dX10_ask_166 ?_
          obtain ⟨b10, h⟩ := h
          refine j_ialdJ (j := (l5).toNatClampNeg) (m_lt hf (by decide)) (fk_1243 hf) b10 rfl dX10_ask_168 ?_
          refine j_goto (tgt := 181) dX10_ask_169 (by decide) ?_
          exact fX10_ask_J181_ok hf Q P hP (fun x0 x1 x2 x3 x4 => fX10_ask_L125   Q n9 x0 x1 x2 x3 x4) (fun x0 x1 x2 x3 x4 h9 => ih x0 x1 x2 x3 x4 h9) l2 l3 l4 l5 (A 1243 (l5).toNatClampNeg) A h
def fX10_ask_L38   (Q : Int32 → pA → Prop) : Nat → Int32 → Int32 → Int32 → pA → Prop
  | 0, _, _, _, _ => False
  | n9 + 1, l1, l2, l3, A =>
    (if 20 ≤ l3 then ∃ m11, fX10_ask_L125   Q m11 l2 (-2) 0 0 A else fX10_isPair A l3 (fun r12 => (if r12 = 0 then fX10_ask_J110  (fun x0 x1 x2 x3 => fX10_ask_L38   Q n9 x0 x1 x2 x3) Q l1 l2 l3 A else fX10_isSo A l3 l1 (fun r13 A14 => (if r13 = 0 then fX10_ask_J110  (fun x0 x1 x2 x3 => fX10_ask_L38   Q n9 x0 x1 x2 x3) Q l1 l2 l3 A14 else ∃ m15, fX10_ask_L70  (fun x0 x1 x2 x3 => fX10_ask_L38   Q n9 x0 x1 x2 x3) Q m15 l1 (l2 + 1) l3 0 A14)))))
theorem fX10_ask_L38_ok {Γ : jG} {n : Nat} {K : Nat → pKd} {G : pG} {Lg : pL} (hf : mOK n K G) (Q : Int32 → pA → Prop) (P : jO → pS → Prop) (hP : P = (fun o u => ∃ (r : Int32) (A' : pA), o = .inl (some (.int r)) ∧ u = (n, K, A', Lg, G) ∧ Q r A'))    : ∀ (n9 : Nat) (l1 : Int32) (l2 : Int32) (l3 : Int32) (A : pA), fX10_ask_L38   Q n9 l1 l2 l3 A → J Γ RX10 cX10_ask 7 (some .int) "ask" [] 10 0 0 38 [(0, .ref 1198), (1, .int l1), (2, .int l2), (3, .int l3)] [] (n, K, A, Lg, G) P := by
  intro n9
  induction n9 with
  | zero => intro l1 l2 l3 A h; exact h.elim
  | succ n9 ih =>
    intro l1 l2 l3 A h
    unfold fX10_ask_L38 at h
    refine j_iload_n 3 rfl dX10_ask_38 ?_
    refine j_bipush (v := 20) dX10_ask_39 (by decide) ?_
    refine j_icmp_ge (tgt := 116) dX10_ask_41 (by decide) (fun c => ?_) (fun c => ?_)
    · rw [if_pos c] at h
      refine j_bipush (v := (-2)) dX10_ask_116 (by decide) ?_
      refine j_istore_n (by decide) rfl dX10_ask_118 ?_
      refine j_iconst (v := 0) dX10_ask_119 (by decide) ?_
      refine j_istore (by decide) rfl dX10_ask_120 ?_
      refine j_iconst (v := 0) dX10_ask_122 (by decide) ?_
      refine j_istore (by decide) rfl dX10_ask_123 ?_
      refine j_ls [3, 5, 2, 1, 0] rfl ?_
      obtain ⟨m11, h⟩ := h
      exact fX10_ask_L125_ok hf Q P hP   m11 l2 (-2) 0 0 A h
    · rw [if_neg c] at h
      refine j_aload_n 0 rfl dX10_ask_44 ?_
      refine j_iload_n 3 rfl dX10_ask_45 ?_
      refine j_callV (b := 1198) (As := [.int l3]) (st := []) (C := RX10) (kc' := 0) (ks' := 0) (tX10_isPair hf l3 _ h) myX10_isPair rfl q2130 q2132 qs117 (by decide) (fun s9 H9 hK9 hR9 h69 => jIs_in hK9 hR9 h69 (m_lt hf (by decide)) (fk_1198 hf) rfl) rfl (Nat.le_of_ble_eq_true rfl) rfl (by decide) (Nat.le_refl 0) (Nat.le_refl 0) dX10_ask_46 (fun v9 u9 hq => ?_) (fun k9 u9 hq => by obtain ⟨_, e9, _⟩ := hq; cases e9)
      obtain ⟨r12, e9, rfl, h⟩ := hq
      obtain rfl := Sum.inl.inj e9
      show J Γ RX10 cX10_ask 7 (some .int) "ask" [] 10 0 0 49 [(0, .ref 1198), (1, .int l1), (2, .int l2), (3, .int l3)] [.int r12] (n, K, A, Lg, G) P
      refine j_if_eq (tgt := 110) dX10_ask_49 (by decide) (fun c => ?_) (fun c => ?_)
      · rw [if_pos c] at h
        exact fX10_ask_J110_ok hf Q P hP (fun x0 x1 x2 x3 => fX10_ask_L38   Q n9 x0 x1 x2 x3) (fun x0 x1 x2 x3 h9 => ih x0 x1 x2 x3 h9) l1 l2 l3 A h
      · rw [if_neg c] at h
        refine j_aload_n 0 rfl dX10_ask_52 ?_
        refine j_iload_n 3 rfl dX10_ask_53 ?_
        refine j_iload_n 1 rfl dX10_ask_54 ?_
        refine j_callV (b := 1198) (As := [.int l3, .int l1]) (st := []) (C := RX10) (kc' := 0) (ks' := 0) (tX10_isSo hf l3 l1 _ h) myX10_isSo rfl q2134 q2136 qs118 (by decide) (fun s9 H9 hK9 hR9 h69 => jIs_in hK9 hR9 h69 (m_lt hf (by decide)) (fk_1198 hf) rfl) rfl (Nat.le_of_ble_eq_true rfl) rfl (by decide) (Nat.le_refl 0) (Nat.le_refl 0) dX10_ask_55 (fun v9 u9 hq => ?_) (fun k9 u9 hq => by obtain ⟨_, _, e9, _⟩ := hq; cases e9)
        obtain ⟨r13, A14, e9, rfl, h⟩ := hq
        obtain rfl := Sum.inl.inj e9
        show J Γ RX10 cX10_ask 7 (some .int) "ask" [] 10 0 0 58 [(0, .ref 1198), (1, .int l1), (2, .int l2), (3, .int l3)] [.int r13] (n, K, A14, Lg, G) P
        refine j_if_ne (tgt := 64) dX10_ask_58 (by decide) (fun c => ?_) (fun c => ?_)
        · rw [if_neg c] at h
          refine j_iinc (v := l2 + 1) 2 rfl rfl (by decide) rfl dX10_ask_64 ?_
          refine j_iconst (v := 0) dX10_ask_67 (by decide) ?_
          refine j_istore (by decide) rfl dX10_ask_68 ?_
          refine j_ls [2, 3, 1, 4, 0] rfl ?_
          obtain ⟨m15, h⟩ := h
          exact fX10_ask_L70_ok hf Q P hP (fun x0 x1 x2 x3 => fX10_ask_L38   Q n9 x0 x1 x2 x3) (fun x0 x1 x2 x3 h9 => ih x0 x1 x2 x3 h9) m15 l1 (l2 + 1) l3 0 A14 h
        · rw [if_pos c] at h
          refine j_goto (tgt := 110) dX10_ask_61 (by decide) ?_
          exact fX10_ask_J110_ok hf Q P hP (fun x0 x1 x2 x3 => fX10_ask_L38   Q n9 x0 x1 x2 x3) (fun x0 x1 x2 x3 h9 => ih x0 x1 x2 x3 h9) l1 l2 l3 A14 h
def fX10_ask_L18   (Q : Int32 → pA → Prop) : Nat → Int32 → Int32 → Int32 → pA → Prop
  | 0, _, _, _, _ => False
  | n9 + 1, l1, l2, l3, A =>
    (if 4 ≤ l3 then ∃ m16, fX10_ask_L38   Q m16 l1 l2 0 A else (vp_in l3 4) ∧ (∀ A18 : pA, A18 = pup A 1243 (l3).toNatClampNeg 0 → fX10_ask_L18   Q n9 l1 l2 (l3 + 1) A18))
theorem fX10_ask_L18_ok {Γ : jG} {n : Nat} {K : Nat → pKd} {G : pG} {Lg : pL} (hf : mOK n K G) (Q : Int32 → pA → Prop) (P : jO → pS → Prop) (hP : P = (fun o u => ∃ (r : Int32) (A' : pA), o = .inl (some (.int r)) ∧ u = (n, K, A', Lg, G) ∧ Q r A'))    : ∀ (n9 : Nat) (l1 : Int32) (l2 : Int32) (l3 : Int32) (A : pA), fX10_ask_L18   Q n9 l1 l2 l3 A → J Γ RX10 cX10_ask 7 (some .int) "ask" [] 10 0 0 18 [(0, .ref 1198), (1, .int l1), (2, .int l2), (3, .int l3)] [] (n, K, A, Lg, G) P := by
  intro n9
  induction n9 with
  | zero => intro l1 l2 l3 A h; exact h.elim
  | succ n9 ih =>
    intro l1 l2 l3 A h
    unfold fX10_ask_L18 at h
    refine j_iload_n 3 rfl dX10_ask_18 ?_
    refine j_iconst (v := 4) dX10_ask_19 (by decide) ?_
    refine j_icmp_ge (tgt := 36) dX10_ask_20 (by decide) (fun c => ?_) (fun c => ?_)
    · rw [if_pos c] at h
      refine j_iconst (v := 0) dX10_ask_36 (by decide) ?_
      refine j_istore_n (by decide) rfl dX10_ask_37 ?_
      refine j_ls [1, 2, 3, 0] rfl ?_
      obtain ⟨m16, h⟩ := h
      exact fX10_ask_L38_ok hf Q P hP   m16 l1 l2 0 A h
    · rw [if_neg c] at h
      refine j_aload_n 0 rfl dX10_ask_23 ?_
      refine j_getfr fl_X10_152_9 rfl (m_lt hf (by decide)) (fk_1198 hf) (fg_1198_64 hf) dX10_ask_24 ?_
      refine j_iload_n 3 rfl dX10_ask_27 ?_
      refine j_iconst (v := 0) dX10_ask_28 (by decide) ?_
      obtain ⟨b17, h⟩ := h
      refine j_iastJ (j := (l3).toNatClampNeg) (m_lt hf (by decide)) (fk_1243 hf) b17 rfl dX10_ask_29 (fun A18 eA18 => ?_)
      replace h := h A18 eA18
      refine j_iinc (v := l3 + 1) 3 rfl rfl (by decide) rfl dX10_ask_30 ?_
      refine j_goto (tgt := 18) dX10_ask_33 (by decide) ?_
      refine j_ls [1, 2, 3, 0] rfl ?_
      exact ih l1 l2 (l3 + 1) A18 h
def fX10_ask (A : pA) (p1 : Int32) (Q : Int32 → pA → Prop) : Prop :=
    fX10_in A p1 0 (A 1198 61) (fun r19 => (if r19 = 0 then Q (-1) A else ∃ m20, fX10_ask_L18   Q m20 p1 0 0 A))
theorem tX10_ask {Γ : jG} {n : Nat} {K : Nat → pKd} {G : pG} {Lg : pL} (hf : mOK n K G) {A : pA} (p1 : Int32) (Q : Int32 → pA → Prop) (h : fX10_ask A p1 Q) : jMet Γ yX10_ask cX10_ask 7 (some .int) [] 10 0 0 [.ref 1198, .int p1] (n, K, A, Lg, G) (fun o u => ∃ (r : Int32) (A' : pA), o = .inl (some (.int r)) ∧ u = (n, K, A', Lg, G) ∧ Q r A') := by
  unfold fX10_ask at h
  obtain ⟨P, hP⟩ : ∃ P : jO → pS → Prop, P = (fun o u => ∃ (r : Int32) (A' : pA), o = .inl (some (.int r)) ∧ u = (n, K, A', Lg, G) ∧ Q r A') := ⟨_, rfl⟩
  rw [← hP]
  refine jMet_of rfl rfl rfl (Nat.le_of_ble_eq_true rfl) ?_
  show J Γ RX10 cX10_ask 7 (some .int) "ask" [] 10 0 0 0 [(0, .ref 1198), (1, .int p1)] [] (n, K, A, Lg, G) P
  refine j_iload_n 1 rfl dX10_ask_0 ?_
  refine j_iconst (v := 0) dX10_ask_1 (by decide) ?_
  refine j_aload_n 0 rfl dX10_ask_2 ?_
  refine j_getfi fl_X10_266_9 rfl (m_lt hf (by decide)) (fk_1198 hf) dX10_ask_3 ?_
  refine j_callS (As := [.int p1, .int 0, .int (A 1198 61)]) (st := []) (kc' := 0) (ks' := 0) (tX10_in hf p1 0 (A 1198 61) _ h) myX10_in q1892 q1893 rfl (Nat.le_of_ble_eq_true rfl) rfl (by decide) (Nat.le_refl 0) (Nat.le_refl 0) dX10_ask_6 (fun v9 u9 hq => ?_) (fun k9 u9 hq => by obtain ⟨_, e9, _⟩ := hq; cases e9)
  obtain ⟨r19, e9, rfl, h⟩ := hq
  obtain rfl := Sum.inl.inj e9
  show J Γ RX10 cX10_ask 7 (some .int) "ask" [] 10 0 0 9 [(0, .ref 1198), (1, .int p1)] [.int r19] (n, K, A, Lg, G) P
  refine j_if_ne (tgt := 14) dX10_ask_9 (by decide) (fun c => ?_) (fun c => ?_)
  · rw [if_neg c] at h
    refine j_iconst (v := 0) dX10_ask_14 (by decide) ?_
    refine j_istore_n (by decide) rfl dX10_ask_15 ?_
    refine j_iconst (v := 0) dX10_ask_16 (by decide) ?_
    refine j_istore_n (by decide) rfl dX10_ask_17 ?_
    refine j_ls [2, 3, 1, 0] rfl ?_
    obtain ⟨m20, h⟩ := h
    exact fX10_ask_L18_ok hf Q P hP   m20 p1 0 0 A h
  · rw [if_pos c] at h
    refine j_iconst (v := (-1)) dX10_ask_12 (by decide) ?_
    refine j_iret rfl ?_ dX10_ask_13
    rw [hP]
    exact ⟨(-1), A, rfl, rfl, h⟩
theorem myX10_hold : jY yX10_hold cX10_hold 3 (some .boolean) 1 := ⟨q2149, q139, by decide +kernel, by decide +kernel, by decide⟩
def fX10_hold_L20   (Q : Int32 → pA → Prop) : Nat → Int32 → Int32 → pA → Prop
  | 0, _, _, _ => False
  | n9 + 1, l1, l2, A =>
    (if 77 ≤ l2 then Q 1 A else (vp_in l2 77) ∧ ((vp_in ((77 * l1) + l2) 231) ∧ (∀ A3 : pA, A3 = pup A 1245 ((77 * l1) + l2).toNatClampNeg (A 1237 (l2).toNatClampNeg) → fX10_hold_L20   Q n9 l1 (l2 + 1) A3)))
theorem fX10_hold_L20_ok {Γ : jG} {n : Nat} {K : Nat → pKd} {G : pG} {Lg : pL} (hf : mOK n K G) (Q : Int32 → pA → Prop) (P : jO → pS → Prop) (hP : P = (fun o u => ∃ (r : Int32) (A' : pA), o = .inl (some (.int r)) ∧ u = (n, K, A', Lg, G) ∧ Q r A'))    : ∀ (n9 : Nat) (l1 : Int32) (l2 : Int32) (A : pA), fX10_hold_L20   Q n9 l1 l2 A → J Γ RX10 cX10_hold 3 (some .boolean) "hold" [] 2 0 0 20 [(0, .ref 1198), (1, .int l1), (2, .int l2)] [] (n, K, A, Lg, G) P := by
  intro n9
  induction n9 with
  | zero => intro l1 l2 A h; exact h.elim
  | succ n9 ih =>
    intro l1 l2 A h
    unfold fX10_hold_L20 at h
    refine j_iload_n 2 rfl dX10_hold_20 ?_
    refine j_bipush (v := 77) dX10_hold_21 (by decide) ?_
    refine j_icmp_ge (tgt := 49) dX10_hold_23 (by decide) (fun c => ?_) (fun c => ?_)
    · rw [if_pos c] at h
      refine j_iconst (v := 1) dX10_hold_49 (by decide) ?_
      refine j_zret rfl (by decide) ?_ dX10_hold_50
      rw [hP]
      exact ⟨1, A, rfl, rfl, h⟩
    · rw [if_neg c] at h
      refine j_aload_n 0 rfl dX10_hold_26 ?_
      refine j_getfr fl_X10_158_9 rfl (m_lt hf (by decide)) (fk_1198 hf) (fg_1198_66 hf) dX10_hold_27 ?_
      refine j_bipush (v := 77) dX10_hold_30 (by decide) ?_
      refine j_iload_n 1 rfl dX10_hold_32 ?_
      refine j_imul dX10_hold_33 ?_
      refine j_iload_n 2 rfl dX10_hold_34 ?_
      refine j_iadd dX10_hold_35 ?_
      refine j_aload_n 0 rfl dX10_hold_36 ?_
      refine j_getfr fl_X10_134_9 rfl (m_lt hf (by decide)) (fk_1198 hf) (fg_1198_56 hf) dX10_hold_37 ?_
      refine j_iload_n 2 rfl dX10_hold_40 ?_
      obtain ⟨b1, h⟩ := h
      refine j_ialdJ (j := (l2).toNatClampNeg) (m_lt hf (by decide)) (fk_1237 hf) b1 rfl dX10_hold_41 ?_
      obtain ⟨b2, h⟩ := h
      refine j_iastJ (j := ((77 * l1) + l2).toNatClampNeg) (m_lt hf (by decide)) (fk_1245 hf) b2 rfl dX10_hold_42 (fun A3 eA3 => ?_)
      replace h := h A3 eA3
      refine j_iinc (v := l2 + 1) 2 rfl rfl (by decide) rfl dX10_hold_43 ?_
      refine j_goto (tgt := 20) dX10_hold_46 (by decide) ?_
      refine j_ls [1, 2, 0] rfl ?_
      exact ih l1 (l2 + 1) A3 h
def fX10_hold (A : pA) (p1 : Int32) (Q : Int32 → pA → Prop) : Prop :=
    fX10_in A p1 0 2 (fun r4 => (if r4 = 0 then Q 0 A else (vp_in p1 3) ∧ (∀ A6 : pA, A6 = pup A 1244 (p1).toNatClampNeg (vp_nar .boolean 1) → ∃ m7, fX10_hold_L20   Q m7 p1 0 A6)))
theorem tX10_hold {Γ : jG} {n : Nat} {K : Nat → pKd} {G : pG} {Lg : pL} (hf : mOK n K G) {A : pA} (p1 : Int32) (Q : Int32 → pA → Prop) (h : fX10_hold A p1 Q) : jMet Γ yX10_hold cX10_hold 3 (some .boolean) [] 2 0 0 [.ref 1198, .int p1] (n, K, A, Lg, G) (fun o u => ∃ (r : Int32) (A' : pA), o = .inl (some (.int r)) ∧ u = (n, K, A', Lg, G) ∧ Q r A') := by
  unfold fX10_hold at h
  obtain ⟨P, hP⟩ : ∃ P : jO → pS → Prop, P = (fun o u => ∃ (r : Int32) (A' : pA), o = .inl (some (.int r)) ∧ u = (n, K, A', Lg, G) ∧ Q r A') := ⟨_, rfl⟩
  rw [← hP]
  refine jMet_of rfl rfl rfl (Nat.le_of_ble_eq_true rfl) ?_
  show J Γ RX10 cX10_hold 3 (some .boolean) "hold" [] 2 0 0 0 [(0, .ref 1198), (1, .int p1)] [] (n, K, A, Lg, G) P
  refine j_iload_n 1 rfl dX10_hold_0 ?_
  refine j_iconst (v := 0) dX10_hold_1 (by decide) ?_
  refine j_iconst (v := 2) dX10_hold_2 (by decide) ?_
  refine j_callS (As := [.int p1, .int 0, .int 2]) (st := []) (kc' := 0) (ks' := 0) (tX10_in hf p1 0 2 _ h) myX10_in q1892 q1893 rfl (Nat.le_of_ble_eq_true rfl) rfl (by decide) (Nat.le_refl 0) (Nat.le_refl 0) dX10_hold_3 (fun v9 u9 hq => ?_) (fun k9 u9 hq => by obtain ⟨_, e9, _⟩ := hq; cases e9)
  obtain ⟨r4, e9, rfl, h⟩ := hq
  obtain rfl := Sum.inl.inj e9
  show J Γ RX10 cX10_hold 3 (some .boolean) "hold" [] 2 0 0 6 [(0, .ref 1198), (1, .int p1)] [.int r4] (n, K, A, Lg, G) P
  refine j_if_ne (tgt := 11) dX10_hold_6 (by decide) (fun c => ?_) (fun c => ?_)
  · rw [if_neg c] at h
    refine j_aload_n 0 rfl dX10_hold_11 ?_
    refine j_getfr fl_X10_155_9 rfl (m_lt hf (by decide)) (fk_1198 hf) (fg_1198_65 hf) dX10_hold_12 ?_
    refine j_iload_n 1 rfl dX10_hold_15 ?_
    refine j_iconst (v := 1) dX10_hold_16 (by decide) ?_
    obtain ⟨b5, h⟩ := h
    refine j_zastJ (j := (p1).toNatClampNeg) (m_lt hf (by decide)) (fk_1244 hf) b5 rfl dX10_hold_17 (fun A6 eA6 => ?_)
    replace h := h A6 eA6
    refine j_iconst (v := 0) dX10_hold_18 (by decide) ?_
    refine j_istore_n (by decide) rfl dX10_hold_19 ?_
    refine j_ls [1, 2, 0] rfl ?_
    obtain ⟨m7, h⟩ := h
    exact fX10_hold_L20_ok hf Q P hP   m7 p1 0 A6 h
  · rw [if_pos c] at h
    refine j_iconst (v := 0) dX10_hold_9 (by decide) ?_
    refine j_zret rfl (by decide) ?_ dX10_hold_10
    rw [hP]
    exact ⟨0, A, rfl, rfl, h⟩
theorem myX10_restore : jY yX10_restore cX10_restore 3 (some .boolean) 1 := ⟨q2153, q139, by decide +kernel, by decide +kernel, by decide⟩
def fX10_restore_L22   (Q : Int32 → pA → Prop) : Nat → Int32 → Int32 → pA → Prop
  | 0, _, _, _ => False
  | n9 + 1, l1, l2, A =>
    (if 77 ≤ l2 then ∀ A1 : pA, A1 = pup A 1198 58 0 → Q 1 A1 else (vp_in ((77 * l1) + l2) 231) ∧ ((vp_in l2 77) ∧ (∀ A4 : pA, A4 = pup A 1237 (l2).toNatClampNeg (A 1245 ((77 * l1) + l2).toNatClampNeg) → fX10_restore_L22   Q n9 l1 (l2 + 1) A4)))
theorem fX10_restore_L22_ok {Γ : jG} {n : Nat} {K : Nat → pKd} {G : pG} {Lg : pL} (hf : mOK n K G) (Q : Int32 → pA → Prop) (P : jO → pS → Prop) (hP : P = (fun o u => ∃ (r : Int32) (A' : pA), o = .inl (some (.int r)) ∧ u = (n, K, A', Lg, G) ∧ Q r A'))    : ∀ (n9 : Nat) (l1 : Int32) (l2 : Int32) (A : pA), fX10_restore_L22   Q n9 l1 l2 A → J Γ RX10 cX10_restore 3 (some .boolean) "restore" [] 2 0 0 22 [(0, .ref 1198), (1, .int l1), (2, .int l2)] [] (n, K, A, Lg, G) P := by
  intro n9
  induction n9 with
  | zero => intro l1 l2 A h; exact h.elim
  | succ n9 ih =>
    intro l1 l2 A h
    unfold fX10_restore_L22 at h
    refine j_iload_n 2 rfl dX10_restore_22 ?_
    refine j_bipush (v := 77) dX10_restore_23 (by decide) ?_
    refine j_icmp_ge (tgt := 51) dX10_restore_25 (by decide) (fun c => ?_) (fun c => ?_)
    · rw [if_pos c] at h
      refine j_aload_n 0 rfl dX10_restore_51 ?_
      refine j_iconst (v := 0) dX10_restore_52 (by decide) ?_
      refine j_putfiE (fp_X10_263_9 _) rfl rfl rfl (m_lt hf (by decide)) (fk_1198 hf) dX10_restore_53 (fun A1 eA1 => ?_)
      replace h := h A1 eA1
      refine j_iconst (v := 1) dX10_restore_56 (by decide) ?_
      refine j_zret rfl (by decide) ?_ dX10_restore_57
      rw [hP]
      exact ⟨1, A1, rfl, rfl, h⟩
    · rw [if_neg c] at h
      refine j_aload_n 0 rfl dX10_restore_28 ?_
      refine j_getfr fl_X10_134_9 rfl (m_lt hf (by decide)) (fk_1198 hf) (fg_1198_56 hf) dX10_restore_29 ?_
      refine j_iload_n 2 rfl dX10_restore_32 ?_
      refine j_aload_n 0 rfl dX10_restore_33 ?_
      refine j_getfr fl_X10_158_9 rfl (m_lt hf (by decide)) (fk_1198 hf) (fg_1198_66 hf) dX10_restore_34 ?_
      refine j_bipush (v := 77) dX10_restore_37 (by decide) ?_
      refine j_iload_n 1 rfl dX10_restore_39 ?_
      refine j_imul dX10_restore_40 ?_
      refine j_iload_n 2 rfl dX10_restore_41 ?_
      refine j_iadd dX10_restore_42 ?_
      obtain ⟨b2, h⟩ := h
      refine j_ialdJ (j := ((77 * l1) + l2).toNatClampNeg) (m_lt hf (by decide)) (fk_1245 hf) b2 rfl dX10_restore_43 ?_
      obtain ⟨b3, h⟩ := h
      refine j_iastJ (j := (l2).toNatClampNeg) (m_lt hf (by decide)) (fk_1237 hf) b3 rfl dX10_restore_44 (fun A4 eA4 => ?_)
      replace h := h A4 eA4
      refine j_iinc (v := l2 + 1) 2 rfl rfl (by decide) rfl dX10_restore_45 ?_
      refine j_goto (tgt := 22) dX10_restore_48 (by decide) ?_
      refine j_ls [1, 2, 0] rfl ?_
      exact ih l1 (l2 + 1) A4 h
def fX10_restore (A : pA) (p1 : Int32) (Q : Int32 → pA → Prop) : Prop :=
    fX10_in A p1 0 2 (fun r5 => (if r5 = 0 then Q 0 A else (vp_in p1 3) ∧ ((if (A 1244 (p1).toNatClampNeg) = 0 then Q 0 A else ∃ m7, fX10_restore_L22   Q m7 p1 0 A))))
theorem tX10_restore {Γ : jG} {n : Nat} {K : Nat → pKd} {G : pG} {Lg : pL} (hf : mOK n K G) {A : pA} (p1 : Int32) (Q : Int32 → pA → Prop) (h : fX10_restore A p1 Q) : jMet Γ yX10_restore cX10_restore 3 (some .boolean) [] 2 0 0 [.ref 1198, .int p1] (n, K, A, Lg, G) (fun o u => ∃ (r : Int32) (A' : pA), o = .inl (some (.int r)) ∧ u = (n, K, A', Lg, G) ∧ Q r A') := by
  unfold fX10_restore at h
  obtain ⟨P, hP⟩ : ∃ P : jO → pS → Prop, P = (fun o u => ∃ (r : Int32) (A' : pA), o = .inl (some (.int r)) ∧ u = (n, K, A', Lg, G) ∧ Q r A') := ⟨_, rfl⟩
  rw [← hP]
  refine jMet_of rfl rfl rfl (Nat.le_of_ble_eq_true rfl) ?_
  show J Γ RX10 cX10_restore 3 (some .boolean) "restore" [] 2 0 0 0 [(0, .ref 1198), (1, .int p1)] [] (n, K, A, Lg, G) P
  refine j_iload_n 1 rfl dX10_restore_0 ?_
  refine j_iconst (v := 0) dX10_restore_1 (by decide) ?_
  refine j_iconst (v := 2) dX10_restore_2 (by decide) ?_
  refine j_callS (As := [.int p1, .int 0, .int 2]) (st := []) (kc' := 0) (ks' := 0) (tX10_in hf p1 0 2 _ h) myX10_in q1892 q1893 rfl (Nat.le_of_ble_eq_true rfl) rfl (by decide) (Nat.le_refl 0) (Nat.le_refl 0) dX10_restore_3 (fun v9 u9 hq => ?_) (fun k9 u9 hq => by obtain ⟨_, e9, _⟩ := hq; cases e9)
  obtain ⟨r5, e9, rfl, h⟩ := hq
  obtain rfl := Sum.inl.inj e9
  show J Γ RX10 cX10_restore 3 (some .boolean) "restore" [] 2 0 0 6 [(0, .ref 1198), (1, .int p1)] [.int r5] (n, K, A, Lg, G) P
  refine j_if_eq (tgt := 18) dX10_restore_6 (by decide) (fun c => ?_) (fun c => ?_)
  · rw [if_pos c] at h
    refine j_iconst (v := 0) dX10_restore_18 (by decide) ?_
    refine j_zret rfl (by decide) ?_ dX10_restore_19
    rw [hP]
    exact ⟨0, A, rfl, rfl, h⟩
  · rw [if_neg c] at h
    refine j_aload_n 0 rfl dX10_restore_9 ?_
    refine j_getfr fl_X10_155_9 rfl (m_lt hf (by decide)) (fk_1198 hf) (fg_1198_65 hf) dX10_restore_10 ?_
    refine j_iload_n 1 rfl dX10_restore_13 ?_
    obtain ⟨b6, h⟩ := h
    refine j_zaldJ (j := (p1).toNatClampNeg) (m_lt hf (by decide)) (fk_1244 hf) b6 rfl dX10_restore_14 ?_
    refine j_if_ne (tgt := 20) dX10_restore_15 (by decide) (fun c => ?_) (fun c => ?_)
    · rw [if_neg c] at h
      refine j_iconst (v := 0) dX10_restore_20 (by decide) ?_
      refine j_istore_n (by decide) rfl dX10_restore_21 ?_
      refine j_ls [1, 2, 0] rfl ?_
      obtain ⟨m7, h⟩ := h
      exact fX10_restore_L22_ok hf Q P hP   m7 p1 0 A h
    · rw [if_pos c] at h
      refine j_iconst (v := 0) dX10_restore_18 (by decide) ?_
      refine j_zret rfl (by decide) ?_ dX10_restore_19
      rw [hP]
      exact ⟨0, A, rfl, rfl, h⟩
theorem myX10_sumNow : jY yX10_sumNow cX10_sumNow 5 (some .int) 2 := ⟨q2161, q139, by decide +kernel, by decide +kernel, by decide⟩
def fX10_sumNow_L5 (A : pA)  (Q : Int32 → Prop) : Nat → Int32 → Int32 → Int32 → Int32 → Prop
  | 0, _, _, _, _ => False
  | n9 + 1, l1, l2, l3, l4 =>
    (if (l1 + l2) ≤ l4 then Q l3 else (vp_in l4 77) ∧ (fX10_sumNow_L5 A  Q n9 l1 l2 (l3 + (A 1237 (l4).toNatClampNeg)) (l4 + 1)))
theorem fX10_sumNow_L5_ok {Γ : jG} {n : Nat} {K : Nat → pKd} {G : pG} {A : pA} {Lg : pL} (hf : mOK n K G) (Q : Int32 → Prop) (P : jO → pS → Prop) (hP : P = (fun o u => ∃ (r : Int32), o = .inl (some (.int r)) ∧ u = (n, K, A, Lg, G) ∧ Q r))    : ∀ (n9 : Nat) (l1 : Int32) (l2 : Int32) (l3 : Int32) (l4 : Int32), fX10_sumNow_L5 A  Q n9 l1 l2 l3 l4 → J Γ RX10 cX10_sumNow 5 (some .int) "sumNow" [] 1 0 0 5 [(0, .ref 1198), (1, .int l1), (2, .int l2), (3, .int l3), (4, .int l4)] [] (n, K, A, Lg, G) P := by
  intro n9
  induction n9 with
  | zero => intro l1 l2 l3 l4 h; exact h.elim
  | succ n9 ih =>
    intro l1 l2 l3 l4 h
    unfold fX10_sumNow_L5 at h
    refine j_iload 4 rfl dX10_sumNow_5 ?_
    refine j_iload_n 1 rfl dX10_sumNow_7 ?_
    refine j_iload_n 2 rfl dX10_sumNow_8 ?_
    refine j_iadd dX10_sumNow_9 ?_
    refine j_icmp_ge (tgt := 29) dX10_sumNow_10 (by decide) (fun c => ?_) (fun c => ?_)
    · rw [if_pos c] at h
      refine j_iload_n 3 rfl dX10_sumNow_29 ?_
      refine j_iret rfl ?_ dX10_sumNow_30
      rw [hP]
      exact ⟨l3, rfl, rfl, h⟩
    · rw [if_neg c] at h
      refine j_iload_n 3 rfl dX10_sumNow_13 ?_
      refine j_aload_n 0 rfl dX10_sumNow_14 ?_
      refine j_getfr fl_X10_134_9 rfl (m_lt hf (by decide)) (fk_1198 hf) (fg_1198_56 hf) dX10_sumNow_15 ?_
      refine j_iload 4 rfl dX10_sumNow_18 ?_
      obtain ⟨b1, h⟩ := h
      refine j_ialdJ (j := (l4).toNatClampNeg) (m_lt hf (by decide)) (fk_1237 hf) b1 rfl dX10_sumNow_20 ?_
      refine j_iadd dX10_sumNow_21 ?_
      refine j_istore_n (by decide) rfl dX10_sumNow_22 ?_
      refine j_iinc (v := l4 + 1) 4 rfl rfl (by decide) rfl dX10_sumNow_23 ?_
      refine j_goto (tgt := 5) dX10_sumNow_26 (by decide) ?_
      refine j_ls [2, 3, 4, 1, 0] rfl ?_
      exact ih l1 l2 (l3 + (A 1237 (l4).toNatClampNeg)) (l4 + 1) h
def fX10_sumNow (A : pA) (p1 : Int32) (p2 : Int32) (Q : Int32 → Prop) : Prop :=
    ∃ m2, fX10_sumNow_L5 A  Q m2 p1 p2 0 p1
theorem tX10_sumNow {Γ : jG} {n : Nat} {K : Nat → pKd} {G : pG} {Lg : pL} (hf : mOK n K G) {A : pA} (p1 : Int32) (p2 : Int32) (Q : Int32 → Prop) (h : fX10_sumNow A p1 p2 Q) : jMet Γ yX10_sumNow cX10_sumNow 5 (some .int) [] 1 0 0 [.ref 1198, .int p1, .int p2] (n, K, A, Lg, G) (fun o u => ∃ (r : Int32), o = .inl (some (.int r)) ∧ u = (n, K, A, Lg, G) ∧ Q r) := by
  unfold fX10_sumNow at h
  obtain ⟨P, hP⟩ : ∃ P : jO → pS → Prop, P = (fun o u => ∃ (r : Int32), o = .inl (some (.int r)) ∧ u = (n, K, A, Lg, G) ∧ Q r) := ⟨_, rfl⟩
  rw [← hP]
  refine jMet_of rfl rfl rfl (Nat.le_of_ble_eq_true rfl) ?_
  show J Γ RX10 cX10_sumNow 5 (some .int) "sumNow" [] 1 0 0 0 [(0, .ref 1198), (1, .int p1), (2, .int p2)] [] (n, K, A, Lg, G) P
  refine j_iconst (v := 0) dX10_sumNow_0 (by decide) ?_
  refine j_istore_n (by decide) rfl dX10_sumNow_1 ?_
  refine j_iload_n 2 rfl dX10_sumNow_2 ?_
  refine j_istore (by decide) rfl dX10_sumNow_3 ?_
  refine j_ls [2, 3, 4, 1, 0] rfl ?_
  obtain ⟨m2, h⟩ := h
  exact fX10_sumNow_L5_ok hf Q P hP   m2 p1 p2 0 p1 h
