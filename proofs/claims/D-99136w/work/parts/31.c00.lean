set_option maxRecDepth 100000
set_option maxHeartbeats 4000000
theorem myJ16_bitCount : jY yJ16_bitCount cJ16_bitCount 1 (some .int) 1 := ⟨q1495, q158, by decide +kernel, by decide +kernel, by decide⟩
def fJ16_bitCount (A : pA) (p0 : Int32) (Q : Int32 → Prop) : Prop :=
    Q ((((((((p0 - ((((p0 : Int32).toUInt32 >>> ((1 : Int32).toUInt32 &&& Int32.toUInt32 31)).toInt32) &&& 1431655765)) &&& 858993459) + (((((p0 - ((((p0 : Int32).toUInt32 >>> ((1 : Int32).toUInt32 &&& Int32.toUInt32 31)).toInt32) &&& 1431655765)) : Int32).toUInt32 >>> ((2 : Int32).toUInt32 &&& Int32.toUInt32 31)).toInt32) &&& 858993459)) + ((((((p0 - ((((p0 : Int32).toUInt32 >>> ((1 : Int32).toUInt32 &&& Int32.toUInt32 31)).toInt32) &&& 1431655765)) &&& 858993459) + (((((p0 - ((((p0 : Int32).toUInt32 >>> ((1 : Int32).toUInt32 &&& Int32.toUInt32 31)).toInt32) &&& 1431655765)) : Int32).toUInt32 >>> ((2 : Int32).toUInt32 &&& Int32.toUInt32 31)).toInt32) &&& 858993459)) : Int32).toUInt32 >>> ((4 : Int32).toUInt32 &&& Int32.toUInt32 31)).toInt32)) &&& 252645135) + ((((((((p0 - ((((p0 : Int32).toUInt32 >>> ((1 : Int32).toUInt32 &&& Int32.toUInt32 31)).toInt32) &&& 1431655765)) &&& 858993459) + (((((p0 - ((((p0 : Int32).toUInt32 >>> ((1 : Int32).toUInt32 &&& Int32.toUInt32 31)).toInt32) &&& 1431655765)) : Int32).toUInt32 >>> ((2 : Int32).toUInt32 &&& Int32.toUInt32 31)).toInt32) &&& 858993459)) + ((((((p0 - ((((p0 : Int32).toUInt32 >>> ((1 : Int32).toUInt32 &&& Int32.toUInt32 31)).toInt32) &&& 1431655765)) &&& 858993459) + (((((p0 - ((((p0 : Int32).toUInt32 >>> ((1 : Int32).toUInt32 &&& Int32.toUInt32 31)).toInt32) &&& 1431655765)) : Int32).toUInt32 >>> ((2 : Int32).toUInt32 &&& Int32.toUInt32 31)).toInt32) &&& 858993459)) : Int32).toUInt32 >>> ((4 : Int32).toUInt32 &&& Int32.toUInt32 31)).toInt32)) &&& 252645135) : Int32).toUInt32 >>> ((8 : Int32).toUInt32 &&& Int32.toUInt32 31)).toInt32)) + (((((((((p0 - ((((p0 : Int32).toUInt32 >>> ((1 : Int32).toUInt32 &&& Int32.toUInt32 31)).toInt32) &&& 1431655765)) &&& 858993459) + (((((p0 - ((((p0 : Int32).toUInt32 >>> ((1 : Int32).toUInt32 &&& Int32.toUInt32 31)).toInt32) &&& 1431655765)) : Int32).toUInt32 >>> ((2 : Int32).toUInt32 &&& Int32.toUInt32 31)).toInt32) &&& 858993459)) + ((((((p0 - ((((p0 : Int32).toUInt32 >>> ((1 : Int32).toUInt32 &&& Int32.toUInt32 31)).toInt32) &&& 1431655765)) &&& 858993459) + (((((p0 - ((((p0 : Int32).toUInt32 >>> ((1 : Int32).toUInt32 &&& Int32.toUInt32 31)).toInt32) &&& 1431655765)) : Int32).toUInt32 >>> ((2 : Int32).toUInt32 &&& Int32.toUInt32 31)).toInt32) &&& 858993459)) : Int32).toUInt32 >>> ((4 : Int32).toUInt32 &&& Int32.toUInt32 31)).toInt32)) &&& 252645135) + ((((((((p0 - ((((p0 : Int32).toUInt32 >>> ((1 : Int32).toUInt32 &&& Int32.toUInt32 31)).toInt32) &&& 1431655765)) &&& 858993459) + (((((p0 - ((((p0 : Int32).toUInt32 >>> ((1 : Int32).toUInt32 &&& Int32.toUInt32 31)).toInt32) &&& 1431655765)) : Int32).toUInt32 >>> ((2 : Int32).toUInt32 &&& Int32.toUInt32 31)).toInt32) &&& 858993459)) + ((((((p0 - ((((p0 : Int32).toUInt32 >>> ((1 : Int32).toUInt32 &&& Int32.toUInt32 31)).toInt32) &&& 1431655765)) &&& 858993459) + (((((p0 - ((((p0 : Int32).toUInt32 >>> ((1 : Int32).toUInt32 &&& Int32.toUInt32 31)).toInt32) &&& 1431655765)) : Int32).toUInt32 >>> ((2 : Int32).toUInt32 &&& Int32.toUInt32 31)).toInt32) &&& 858993459)) : Int32).toUInt32 >>> ((4 : Int32).toUInt32 &&& Int32.toUInt32 31)).toInt32)) &&& 252645135) : Int32).toUInt32 >>> ((8 : Int32).toUInt32 &&& Int32.toUInt32 31)).toInt32)) : Int32).toUInt32 >>> ((16 : Int32).toUInt32 &&& Int32.toUInt32 31)).toInt32)) &&& 63)
theorem tJ16_bitCount {Γ : jG} {n : Nat} {K : Nat → pKd} {G : pG} {A : pA} {Lg : pL} (hf : fOK n K G) (p0 : Int32) (Q : Int32 → Prop) (h : fJ16_bitCount A p0 Q) : jMet Γ yJ16_bitCount cJ16_bitCount 1 (some .int) [] 1 0 0 [.int p0] (n, K, A, Lg, G) (fun o u => ∃ (r : Int32), o = .inl (some (.int r)) ∧ u = (n, K, A, Lg, G) ∧ Q r) := by
  unfold fJ16_bitCount at h
  obtain ⟨P, hP⟩ : ∃ P : jO → pS → Prop, P = (fun o u => ∃ (r : Int32), o = .inl (some (.int r)) ∧ u = (n, K, A, Lg, G) ∧ Q r) := ⟨_, rfl⟩
  rw [← hP]
  refine jMet_of rfl rfl rfl (Nat.le_of_ble_eq_true rfl) ?_
  show J Γ RJ16 cJ16_bitCount 1 (some .int) "bitCount" [] 1 0 0 0 [(0, .int p0)] [] (n, K, A, Lg, G) P
  refine j_iload_n 0 rfl dJ16_bitCount_0 ?_
  refine j_iload_n 0 rfl dJ16_bitCount_1 ?_
  refine j_iconst (v := 1) dJ16_bitCount_2 (by decide) ?_
  refine j_iushr dJ16_bitCount_3 ?_
  refine j_ldcw (v := 1431655765) q1496 dJ16_bitCount_4 ?_
  refine j_iand dJ16_bitCount_7 ?_
  refine j_isub dJ16_bitCount_8 ?_
  refine j_istore_n (by decide) rfl dJ16_bitCount_9 ?_
  refine j_iload_n 0 rfl dJ16_bitCount_10 ?_
  refine j_ldcw (v := 858993459) q1497 dJ16_bitCount_11 ?_
  refine j_iand dJ16_bitCount_14 ?_
  refine j_iload_n 0 rfl dJ16_bitCount_15 ?_
  refine j_iconst (v := 2) dJ16_bitCount_16 (by decide) ?_
  refine j_iushr dJ16_bitCount_17 ?_
  refine j_ldcw (v := 858993459) q1497 dJ16_bitCount_18 ?_
  refine j_iand dJ16_bitCount_21 ?_
  refine j_iadd dJ16_bitCount_22 ?_
  refine j_istore_n (by decide) rfl dJ16_bitCount_23 ?_
  refine j_iload_n 0 rfl dJ16_bitCount_24 ?_
  refine j_iload_n 0 rfl dJ16_bitCount_25 ?_
  refine j_iconst (v := 4) dJ16_bitCount_26 (by decide) ?_
  refine j_iushr dJ16_bitCount_27 ?_
  refine j_iadd dJ16_bitCount_28 ?_
  refine j_ldcw (v := 252645135) q1498 dJ16_bitCount_29 ?_
  refine j_iand dJ16_bitCount_32 ?_
  refine j_istore_n (by decide) rfl dJ16_bitCount_33 ?_
  refine j_iload_n 0 rfl dJ16_bitCount_34 ?_
  refine j_iload_n 0 rfl dJ16_bitCount_35 ?_
  refine j_bipush (v := 8) dJ16_bitCount_36 (by decide) ?_
  refine j_iushr dJ16_bitCount_38 ?_
  refine j_iadd dJ16_bitCount_39 ?_
  refine j_istore_n (by decide) rfl dJ16_bitCount_40 ?_
  refine j_iload_n 0 rfl dJ16_bitCount_41 ?_
  refine j_iload_n 0 rfl dJ16_bitCount_42 ?_
  refine j_bipush (v := 16) dJ16_bitCount_43 (by decide) ?_
  refine j_iushr dJ16_bitCount_45 ?_
  refine j_iadd dJ16_bitCount_46 ?_
  refine j_istore_n (by decide) rfl dJ16_bitCount_47 ?_
  refine j_iload_n 0 rfl dJ16_bitCount_48 ?_
  refine j_bipush (v := 63) dJ16_bitCount_49 (by decide) ?_
  refine j_iand dJ16_bitCount_51 ?_
  refine j_iret rfl ?_ dJ16_bitCount_52
  rw [hP]
  exact ⟨(((((((p0 - ((((p0 : Int32).toUInt32 >>> ((1 : Int32).toUInt32 &&& Int32.toUInt32 31)).toInt32) &&& 1431655765)) &&& 858993459) + (((((p0 - ((((p0 : Int32).toUInt32 >>> ((1 : Int32).toUInt32 &&& Int32.toUInt32 31)).toInt32) &&& 1431655765)) : Int32).toUInt32 >>> ((2 : Int32).toUInt32 &&& Int32.toUInt32 31)).toInt32) &&& 858993459)) + ((((((p0 - ((((p0 : Int32).toUInt32 >>> ((1 : Int32).toUInt32 &&& Int32.toUInt32 31)).toInt32) &&& 1431655765)) &&& 858993459) + (((((p0 - ((((p0 : Int32).toUInt32 >>> ((1 : Int32).toUInt32 &&& Int32.toUInt32 31)).toInt32) &&& 1431655765)) : Int32).toUInt32 >>> ((2 : Int32).toUInt32 &&& Int32.toUInt32 31)).toInt32) &&& 858993459)) : Int32).toUInt32 >>> ((4 : Int32).toUInt32 &&& Int32.toUInt32 31)).toInt32)) &&& 252645135) + ((((((((p0 - ((((p0 : Int32).toUInt32 >>> ((1 : Int32).toUInt32 &&& Int32.toUInt32 31)).toInt32) &&& 1431655765)) &&& 858993459) + (((((p0 - ((((p0 : Int32).toUInt32 >>> ((1 : Int32).toUInt32 &&& Int32.toUInt32 31)).toInt32) &&& 1431655765)) : Int32).toUInt32 >>> ((2 : Int32).toUInt32 &&& Int32.toUInt32 31)).toInt32) &&& 858993459)) + ((((((p0 - ((((p0 : Int32).toUInt32 >>> ((1 : Int32).toUInt32 &&& Int32.toUInt32 31)).toInt32) &&& 1431655765)) &&& 858993459) + (((((p0 - ((((p0 : Int32).toUInt32 >>> ((1 : Int32).toUInt32 &&& Int32.toUInt32 31)).toInt32) &&& 1431655765)) : Int32).toUInt32 >>> ((2 : Int32).toUInt32 &&& Int32.toUInt32 31)).toInt32) &&& 858993459)) : Int32).toUInt32 >>> ((4 : Int32).toUInt32 &&& Int32.toUInt32 31)).toInt32)) &&& 252645135) : Int32).toUInt32 >>> ((8 : Int32).toUInt32 &&& Int32.toUInt32 31)).toInt32)) + (((((((((p0 - ((((p0 : Int32).toUInt32 >>> ((1 : Int32).toUInt32 &&& Int32.toUInt32 31)).toInt32) &&& 1431655765)) &&& 858993459) + (((((p0 - ((((p0 : Int32).toUInt32 >>> ((1 : Int32).toUInt32 &&& Int32.toUInt32 31)).toInt32) &&& 1431655765)) : Int32).toUInt32 >>> ((2 : Int32).toUInt32 &&& Int32.toUInt32 31)).toInt32) &&& 858993459)) + ((((((p0 - ((((p0 : Int32).toUInt32 >>> ((1 : Int32).toUInt32 &&& Int32.toUInt32 31)).toInt32) &&& 1431655765)) &&& 858993459) + (((((p0 - ((((p0 : Int32).toUInt32 >>> ((1 : Int32).toUInt32 &&& Int32.toUInt32 31)).toInt32) &&& 1431655765)) : Int32).toUInt32 >>> ((2 : Int32).toUInt32 &&& Int32.toUInt32 31)).toInt32) &&& 858993459)) : Int32).toUInt32 >>> ((4 : Int32).toUInt32 &&& Int32.toUInt32 31)).toInt32)) &&& 252645135) + ((((((((p0 - ((((p0 : Int32).toUInt32 >>> ((1 : Int32).toUInt32 &&& Int32.toUInt32 31)).toInt32) &&& 1431655765)) &&& 858993459) + (((((p0 - ((((p0 : Int32).toUInt32 >>> ((1 : Int32).toUInt32 &&& Int32.toUInt32 31)).toInt32) &&& 1431655765)) : Int32).toUInt32 >>> ((2 : Int32).toUInt32 &&& Int32.toUInt32 31)).toInt32) &&& 858993459)) + ((((((p0 - ((((p0 : Int32).toUInt32 >>> ((1 : Int32).toUInt32 &&& Int32.toUInt32 31)).toInt32) &&& 1431655765)) &&& 858993459) + (((((p0 - ((((p0 : Int32).toUInt32 >>> ((1 : Int32).toUInt32 &&& Int32.toUInt32 31)).toInt32) &&& 1431655765)) : Int32).toUInt32 >>> ((2 : Int32).toUInt32 &&& Int32.toUInt32 31)).toInt32) &&& 858993459)) : Int32).toUInt32 >>> ((4 : Int32).toUInt32 &&& Int32.toUInt32 31)).toInt32)) &&& 252645135) : Int32).toUInt32 >>> ((8 : Int32).toUInt32 &&& Int32.toUInt32 31)).toInt32)) : Int32).toUInt32 >>> ((16 : Int32).toUInt32 &&& Int32.toUInt32 31)).toInt32)) &&& 63, rfl, rfl, h⟩
theorem myJ16_numberOfTrailingZeros : jY yJ16_numberOfTrailingZeros cJ16_numberOfTrailingZeros 2 (some .int) 1 := ⟨q1505, q158, by decide +kernel, by decide +kernel, by decide⟩
def fJ16_numberOfTrailingZeros_J74 (A : pA)  (Q : Int32 → Prop) (l0 : Int32) (l1 : Int32) : Prop :=
    Q (l1 + (((l0 : Int32).toUInt32 >>> ((1 : Int32).toUInt32 &&& Int32.toUInt32 31)).toInt32))
theorem fJ16_numberOfTrailingZeros_J74_ok {Γ : jG} {n : Nat} {K : Nat → pKd} {G : pG} {A : pA} {Lg : pL} (hf : fOK n K G) (Q : Int32 → Prop) (P : jO → pS → Prop) (hP : P = (fun o u => ∃ (r : Int32), o = .inl (some (.int r)) ∧ u = (n, K, A, Lg, G) ∧ Q r))   (l0 : Int32) (l1 : Int32) (h : fJ16_numberOfTrailingZeros_J74 A  Q l0 l1) : J Γ RJ16 cJ16_numberOfTrailingZeros 2 (some .int) "numberOfTrailingZeros" [] 1 0 0 74 [(0, .int l0), (1, .int l1)] [] (n, K, A, Lg, G) P := by
  unfold fJ16_numberOfTrailingZeros_J74 at h
  refine j_iload_n 1 rfl dJ16_numberOfTrailingZeros_74 ?_
  refine j_iload_n 0 rfl dJ16_numberOfTrailingZeros_75 ?_
  refine j_iconst (v := 1) dJ16_numberOfTrailingZeros_76 (by decide) ?_
  refine j_iushr dJ16_numberOfTrailingZeros_77 ?_
  refine j_iadd dJ16_numberOfTrailingZeros_78 ?_
  refine j_iret rfl ?_ dJ16_numberOfTrailingZeros_79
  rw [hP]
  exact ⟨l1 + (((l0 : Int32).toUInt32 >>> ((1 : Int32).toUInt32 &&& Int32.toUInt32 31)).toInt32), rfl, rfl, h⟩
def fJ16_numberOfTrailingZeros_J62 (A : pA)  (Q : Int32 → Prop) (l0 : Int32) (l1 : Int32) : Prop :=
    (if l0 ≤ 4 then fJ16_numberOfTrailingZeros_J74 A  Q l0 l1 else fJ16_numberOfTrailingZeros_J74 A  Q (((l0 : Int32).toUInt32 >>> ((2 : Int32).toUInt32 &&& Int32.toUInt32 31)).toInt32) (l1 + 2))
theorem fJ16_numberOfTrailingZeros_J62_ok {Γ : jG} {n : Nat} {K : Nat → pKd} {G : pG} {A : pA} {Lg : pL} (hf : fOK n K G) (Q : Int32 → Prop) (P : jO → pS → Prop) (hP : P = (fun o u => ∃ (r : Int32), o = .inl (some (.int r)) ∧ u = (n, K, A, Lg, G) ∧ Q r))   (l0 : Int32) (l1 : Int32) (h : fJ16_numberOfTrailingZeros_J62 A  Q l0 l1) : J Γ RJ16 cJ16_numberOfTrailingZeros 2 (some .int) "numberOfTrailingZeros" [] 1 0 0 62 [(0, .int l0), (1, .int l1)] [] (n, K, A, Lg, G) P := by
  unfold fJ16_numberOfTrailingZeros_J62 at h
  refine j_iload_n 0 rfl dJ16_numberOfTrailingZeros_62 ?_
  refine j_iconst (v := 4) dJ16_numberOfTrailingZeros_63 (by decide) ?_
  refine j_icmp_le (tgt := 74) dJ16_numberOfTrailingZeros_64 (by decide) (fun c => ?_) (fun c => ?_)
  · rw [if_pos c] at h
    exact fJ16_numberOfTrailingZeros_J74_ok hf Q P hP   l0 l1 h
  · rw [if_neg c] at h
    refine j_iinc (v := l1 + 2) 1 rfl rfl (by decide) rfl dJ16_numberOfTrailingZeros_67 ?_
    refine j_iload_n 1 rfl dJ16_numberOfTrailingZeros_70 ?_
    refine j_iconst (v := 2) dJ16_numberOfTrailingZeros_71 (by decide) ?_
    refine j_iushr dJ16_numberOfTrailingZeros_72 ?_
    refine j_istore_n (by decide) rfl dJ16_numberOfTrailingZeros_73 ?_
    exact fJ16_numberOfTrailingZeros_J74_ok hf Q P hP   (((l0 : Int32).toUInt32 >>> ((2 : Int32).toUInt32 &&& Int32.toUInt32 31)).toInt32) (l1 + 2) h
def fJ16_numberOfTrailingZeros_J49 (A : pA)  (Q : Int32 → Prop) (l0 : Int32) (l1 : Int32) : Prop :=
    (if l0 ≤ 16 then fJ16_numberOfTrailingZeros_J62 A  Q l0 l1 else fJ16_numberOfTrailingZeros_J62 A  Q (((l0 : Int32).toUInt32 >>> ((4 : Int32).toUInt32 &&& Int32.toUInt32 31)).toInt32) (l1 + 4))
theorem fJ16_numberOfTrailingZeros_J49_ok {Γ : jG} {n : Nat} {K : Nat → pKd} {G : pG} {A : pA} {Lg : pL} (hf : fOK n K G) (Q : Int32 → Prop) (P : jO → pS → Prop) (hP : P = (fun o u => ∃ (r : Int32), o = .inl (some (.int r)) ∧ u = (n, K, A, Lg, G) ∧ Q r))   (l0 : Int32) (l1 : Int32) (h : fJ16_numberOfTrailingZeros_J49 A  Q l0 l1) : J Γ RJ16 cJ16_numberOfTrailingZeros 2 (some .int) "numberOfTrailingZeros" [] 1 0 0 49 [(0, .int l0), (1, .int l1)] [] (n, K, A, Lg, G) P := by
  unfold fJ16_numberOfTrailingZeros_J49 at h
  refine j_iload_n 0 rfl dJ16_numberOfTrailingZeros_49 ?_
  refine j_bipush (v := 16) dJ16_numberOfTrailingZeros_50 (by decide) ?_
  refine j_icmp_le (tgt := 62) dJ16_numberOfTrailingZeros_52 (by decide) (fun c => ?_) (fun c => ?_)
  · rw [if_pos c] at h
    exact fJ16_numberOfTrailingZeros_J62_ok hf Q P hP   l0 l1 h
  · rw [if_neg c] at h
    refine j_iinc (v := l1 + 4) 1 rfl rfl (by decide) rfl dJ16_numberOfTrailingZeros_55 ?_
    refine j_iload_n 1 rfl dJ16_numberOfTrailingZeros_58 ?_
    refine j_iconst (v := 4) dJ16_numberOfTrailingZeros_59 (by decide) ?_
    refine j_iushr dJ16_numberOfTrailingZeros_60 ?_
    refine j_istore_n (by decide) rfl dJ16_numberOfTrailingZeros_61 ?_
    exact fJ16_numberOfTrailingZeros_J62_ok hf Q P hP   (((l0 : Int32).toUInt32 >>> ((4 : Int32).toUInt32 &&& Int32.toUInt32 31)).toInt32) (l1 + 4) h
def fJ16_numberOfTrailingZeros_J34 (A : pA)  (Q : Int32 → Prop) (l0 : Int32) (l1 : Int32) : Prop :=
    (if l0 ≤ 256 then fJ16_numberOfTrailingZeros_J49 A  Q l0 l1 else fJ16_numberOfTrailingZeros_J49 A  Q (((l0 : Int32).toUInt32 >>> ((8 : Int32).toUInt32 &&& Int32.toUInt32 31)).toInt32) (l1 + 8))
theorem fJ16_numberOfTrailingZeros_J34_ok {Γ : jG} {n : Nat} {K : Nat → pKd} {G : pG} {A : pA} {Lg : pL} (hf : fOK n K G) (Q : Int32 → Prop) (P : jO → pS → Prop) (hP : P = (fun o u => ∃ (r : Int32), o = .inl (some (.int r)) ∧ u = (n, K, A, Lg, G) ∧ Q r))   (l0 : Int32) (l1 : Int32) (h : fJ16_numberOfTrailingZeros_J34 A  Q l0 l1) : J Γ RJ16 cJ16_numberOfTrailingZeros 2 (some .int) "numberOfTrailingZeros" [] 1 0 0 34 [(0, .int l0), (1, .int l1)] [] (n, K, A, Lg, G) P := by
  unfold fJ16_numberOfTrailingZeros_J34 at h
  refine j_iload_n 0 rfl dJ16_numberOfTrailingZeros_34 ?_
  refine j_sipush (v := 256) dJ16_numberOfTrailingZeros_35 (by decide) ?_
  refine j_icmp_le (tgt := 49) dJ16_numberOfTrailingZeros_38 (by decide) (fun c => ?_) (fun c => ?_)
  · rw [if_pos c] at h
    exact fJ16_numberOfTrailingZeros_J49_ok hf Q P hP   l0 l1 h
  · rw [if_neg c] at h
    refine j_iinc (v := l1 + 8) 1 rfl rfl (by decide) rfl dJ16_numberOfTrailingZeros_41 ?_
    refine j_iload_n 1 rfl dJ16_numberOfTrailingZeros_44 ?_
    refine j_bipush (v := 8) dJ16_numberOfTrailingZeros_45 (by decide) ?_
    refine j_iushr dJ16_numberOfTrailingZeros_47 ?_
    refine j_istore_n (by decide) rfl dJ16_numberOfTrailingZeros_48 ?_
    exact fJ16_numberOfTrailingZeros_J49_ok hf Q P hP   (((l0 : Int32).toUInt32 >>> ((8 : Int32).toUInt32 &&& Int32.toUInt32 31)).toInt32) (l1 + 8) h
def fJ16_numberOfTrailingZeros (A : pA) (p0 : Int32) (Q : Int32 → Prop) : Prop :=
    (if 0 < ((p0 ^^^ (-1)) &&& (p0 - 1)) then (if ((p0 ^^^ (-1)) &&& (p0 - 1)) ≤ 65536 then fJ16_numberOfTrailingZeros_J34 A  Q ((p0 ^^^ (-1)) &&& (p0 - 1)) 1 else fJ16_numberOfTrailingZeros_J34 A  Q (((((p0 ^^^ (-1)) &&& (p0 - 1)) : Int32).toUInt32 >>> ((16 : Int32).toUInt32 &&& Int32.toUInt32 31)).toInt32) (1 + 16)) else Q (((p0 ^^^ (-1)) &&& (p0 - 1)) &&& 32))
theorem tJ16_numberOfTrailingZeros {Γ : jG} {n : Nat} {K : Nat → pKd} {G : pG} {A : pA} {Lg : pL} (hf : fOK n K G) (p0 : Int32) (Q : Int32 → Prop) (h : fJ16_numberOfTrailingZeros A p0 Q) : jMet Γ yJ16_numberOfTrailingZeros cJ16_numberOfTrailingZeros 2 (some .int) [] 1 0 0 [.int p0] (n, K, A, Lg, G) (fun o u => ∃ (r : Int32), o = .inl (some (.int r)) ∧ u = (n, K, A, Lg, G) ∧ Q r) := by
  unfold fJ16_numberOfTrailingZeros at h
  obtain ⟨P, hP⟩ : ∃ P : jO → pS → Prop, P = (fun o u => ∃ (r : Int32), o = .inl (some (.int r)) ∧ u = (n, K, A, Lg, G) ∧ Q r) := ⟨_, rfl⟩
  rw [← hP]
  refine jMet_of rfl rfl rfl (Nat.le_of_ble_eq_true rfl) ?_
  show J Γ RJ16 cJ16_numberOfTrailingZeros 2 (some .int) "numberOfTrailingZeros" [] 1 0 0 0 [(0, .int p0)] [] (n, K, A, Lg, G) P
  refine j_iload_n 0 rfl dJ16_numberOfTrailingZeros_0 ?_
  refine j_iconst (v := (-1)) dJ16_numberOfTrailingZeros_1 (by decide) ?_
  refine j_ixor dJ16_numberOfTrailingZeros_2 ?_
  refine j_iload_n 0 rfl dJ16_numberOfTrailingZeros_3 ?_
  refine j_iconst (v := 1) dJ16_numberOfTrailingZeros_4 (by decide) ?_
  refine j_isub dJ16_numberOfTrailingZeros_5 ?_
  refine j_iand dJ16_numberOfTrailingZeros_6 ?_
  refine j_istore_n (by decide) rfl dJ16_numberOfTrailingZeros_7 ?_
  refine j_iload_n 0 rfl dJ16_numberOfTrailingZeros_8 ?_
  refine j_if_gt (tgt := 17) dJ16_numberOfTrailingZeros_9 (by decide) (fun c => ?_) (fun c => ?_)
  · rw [if_pos c] at h
    refine j_iconst (v := 1) dJ16_numberOfTrailingZeros_17 (by decide) ?_
    refine j_istore_n (by decide) rfl dJ16_numberOfTrailingZeros_18 ?_
    refine j_iload_n 1 rfl dJ16_numberOfTrailingZeros_19 ?_
    refine j_ldcw (v := 65536) q1506 dJ16_numberOfTrailingZeros_20 ?_
    refine j_icmp_le (tgt := 34) dJ16_numberOfTrailingZeros_23 (by decide) (fun c => ?_) (fun c => ?_)
    · rw [if_pos c] at h
      refine j_ls [1, 0] rfl ?_
      exact fJ16_numberOfTrailingZeros_J34_ok hf Q P hP   ((p0 ^^^ (-1)) &&& (p0 - 1)) 1 h
    · rw [if_neg c] at h
      refine j_iinc (v := 1 + 16) 0 rfl rfl (by decide) rfl dJ16_numberOfTrailingZeros_26 ?_
      refine j_iload_n 1 rfl dJ16_numberOfTrailingZeros_29 ?_
      refine j_bipush (v := 16) dJ16_numberOfTrailingZeros_30 (by decide) ?_
      refine j_iushr dJ16_numberOfTrailingZeros_32 ?_
      refine j_istore_n (by decide) rfl dJ16_numberOfTrailingZeros_33 ?_
      exact fJ16_numberOfTrailingZeros_J34_ok hf Q P hP   (((((p0 ^^^ (-1)) &&& (p0 - 1)) : Int32).toUInt32 >>> ((16 : Int32).toUInt32 &&& Int32.toUInt32 31)).toInt32) (1 + 16) h
  · rw [if_neg c] at h
    refine j_iload_n 0 rfl dJ16_numberOfTrailingZeros_12 ?_
    refine j_bipush (v := 32) dJ16_numberOfTrailingZeros_13 (by decide) ?_
    refine j_iand dJ16_numberOfTrailingZeros_15 ?_
    refine j_iret rfl ?_ dJ16_numberOfTrailingZeros_16
    rw [hP]
    exact ⟨((p0 ^^^ (-1)) &&& (p0 - 1)) &&& 32, rfl, rfl, h⟩
theorem myJ7_checkIndex : jY yJ7_checkIndex cJ7_checkIndex 3 (some .int) 3 := ⟨q548, q138, by decide +kernel, by decide +kernel, by decide⟩
def fJ7_checkIndex_J9 (A : pA)  (Q : Int32 → Prop) (l0 : Int32) (l1 : Int32) : Prop :=
    False
theorem fJ7_checkIndex_J9_ok {Γ : jG} {n : Nat} {K : Nat → pKd} {G : pG} {A : pA} {Lg : pL} (hf : fOK n K G) (Q : Int32 → Prop) (P : jO → pS → Prop) (hP : P = (fun o u => ∃ (r : Int32), o = .inl (some (.int r)) ∧ u = (n, K, A, Lg, G) ∧ Q r))   (l0 : Int32) (l1 : Int32) (h : fJ7_checkIndex_J9 A  Q l0 l1) : J Γ RJ7 cJ7_checkIndex 3 (some .int) "checkIndex" [] 1 0 0 9 [(0, .int l0), (1, .int l1), (2, .null)] [] (n, K, A, Lg, G) P := by
  unfold fJ7_checkIndex_J9 at h
  exact h.elim
def fJ7_checkIndex (A : pA) (p0 : Int32) (p1 : Int32) (Q : Int32 → Prop) : Prop :=
    (if p0 < 0 then fJ7_checkIndex_J9 A  Q p0 p1 else (if p0 < p1 then Q p0 else fJ7_checkIndex_J9 A  Q p0 p1))
theorem tJ7_checkIndex {Γ : jG} {n : Nat} {K : Nat → pKd} {G : pG} {A : pA} {Lg : pL} (hf : fOK n K G) (p0 : Int32) (p1 : Int32) (Q : Int32 → Prop) (h : fJ7_checkIndex A p0 p1 Q) : jMet Γ yJ7_checkIndex cJ7_checkIndex 3 (some .int) [] 1 0 0 [.int p0, .int p1, .null] (n, K, A, Lg, G) (fun o u => ∃ (r : Int32), o = .inl (some (.int r)) ∧ u = (n, K, A, Lg, G) ∧ Q r) := by
  unfold fJ7_checkIndex at h
  obtain ⟨P, hP⟩ : ∃ P : jO → pS → Prop, P = (fun o u => ∃ (r : Int32), o = .inl (some (.int r)) ∧ u = (n, K, A, Lg, G) ∧ Q r) := ⟨_, rfl⟩
  rw [← hP]
  refine jMet_of rfl rfl rfl (Nat.le_of_ble_eq_true rfl) ?_
  show J Γ RJ7 cJ7_checkIndex 3 (some .int) "checkIndex" [] 1 0 0 0 [(0, .int p0), (1, .int p1), (2, .null)] [] (n, K, A, Lg, G) P
  refine j_iload_n 0 rfl dJ7_checkIndex_0 ?_
  refine j_if_lt (tgt := 9) dJ7_checkIndex_1 (by decide) (fun c => ?_) (fun c => ?_)
  · rw [if_pos c] at h
    exact fJ7_checkIndex_J9_ok hf Q P hP   p0 p1 h
  · rw [if_neg c] at h
    refine j_iload_n 0 rfl dJ7_checkIndex_4 ?_
    refine j_iload_n 1 rfl dJ7_checkIndex_5 ?_
    refine j_icmp_lt (tgt := 16) dJ7_checkIndex_6 (by decide) (fun c => ?_) (fun c => ?_)
    · rw [if_pos c] at h
      refine j_iload_n 0 rfl dJ7_checkIndex_16 ?_
      refine j_iret rfl ?_ dJ7_checkIndex_17
      rw [hP]
      exact ⟨p0, rfl, rfl, h⟩
    · rw [if_neg c] at h
      exact fJ7_checkIndex_J9_ok hf Q P hP   p0 p1 h

def fJ7_checkIndexS_J9 (A : pA)  (Q : Int32 → Prop) (l0 : Int32) (l1 : Int32) : Prop :=
    False
theorem fJ7_checkIndexS_J9_ok {Γ : jG} {n : Nat} {K : Nat → pKd} {G : pG} {A : pA} {Lg : pL} (hf : fOK n K G) (Q : Int32 → Prop) (P : jO → pS → Prop) (hP : P = (fun o u => ∃ (r : Int32), o = .inl (some (.int r)) ∧ u = (n, K, A, Lg, G) ∧ Q r))   (l0 : Int32) (l1 : Int32) (h : fJ7_checkIndexS_J9 A  Q l0 l1) : J Γ RJ7 cJ7_checkIndex 3 (some .int) "checkIndex" [] 1 0 0 9 [(0, .int l0), (1, .int l1), (2, .ref 2000002)] [] (n, K, A, Lg, G) P := by
  unfold fJ7_checkIndexS_J9 at h
  exact h.elim
def fJ7_checkIndexS (A : pA) (p0 : Int32) (p1 : Int32) (Q : Int32 → Prop) : Prop :=
    (if p0 < 0 then fJ7_checkIndexS_J9 A  Q p0 p1 else (if p0 < p1 then Q p0 else fJ7_checkIndexS_J9 A  Q p0 p1))
theorem tJ7_checkIndexS {Γ : jG} {n : Nat} {K : Nat → pKd} {G : pG} {A : pA} {Lg : pL} (hf : fOK n K G) (p0 : Int32) (p1 : Int32) (Q : Int32 → Prop) (h : fJ7_checkIndexS A p0 p1 Q) : jMet Γ yJ7_checkIndex cJ7_checkIndex 3 (some .int) [] 1 0 0 [.int p0, .int p1, .ref 2000002] (n, K, A, Lg, G) (fun o u => ∃ (r : Int32), o = .inl (some (.int r)) ∧ u = (n, K, A, Lg, G) ∧ Q r) := by
  unfold fJ7_checkIndexS at h
  obtain ⟨P, hP⟩ : ∃ P : jO → pS → Prop, P = (fun o u => ∃ (r : Int32), o = .inl (some (.int r)) ∧ u = (n, K, A, Lg, G) ∧ Q r) := ⟨_, rfl⟩
  rw [← hP]
  refine jMet_of rfl rfl rfl (Nat.le_of_ble_eq_true rfl) ?_
  show J Γ RJ7 cJ7_checkIndex 3 (some .int) "checkIndex" [] 1 0 0 0 [(0, .int p0), (1, .int p1), (2, .ref 2000002)] [] (n, K, A, Lg, G) P
  refine j_iload_n 0 rfl dJ7_checkIndex_0 ?_
  refine j_if_lt (tgt := 9) dJ7_checkIndex_1 (by decide) (fun c => ?_) (fun c => ?_)
  · rw [if_pos c] at h
    exact fJ7_checkIndexS_J9_ok hf Q P hP   p0 p1 h
  · rw [if_neg c] at h
    refine j_iload_n 0 rfl dJ7_checkIndex_4 ?_
    refine j_iload_n 1 rfl dJ7_checkIndex_5 ?_
    refine j_icmp_lt (tgt := 16) dJ7_checkIndex_6 (by decide) (fun c => ?_) (fun c => ?_)
    · rw [if_pos c] at h
      refine j_iload_n 0 rfl dJ7_checkIndex_16 ?_
      refine j_iret rfl ?_ dJ7_checkIndex_17
      rw [hP]
      exact ⟨p0, rfl, rfl, h⟩
    · rw [if_neg c] at h
      exact fJ7_checkIndexS_J9_ok hf Q P hP   p0 p1 h
theorem myJ6_checkIndex : jY yJ6_checkIndex cJ6_checkIndex 2 (some .int) 2 := ⟨q545, q137, by decide +kernel, by decide +kernel, by decide⟩
def fJ6_checkIndex (A : pA) (p0 : Int32) (p1 : Int32) (Q : Int32 → Prop) : Prop :=
    fJ7_checkIndex A p0 p1 (fun r1 => Q r1)
theorem tJ6_checkIndex {Γ : jG} {n : Nat} {K : Nat → pKd} {G : pG} {A : pA} {Lg : pL} (hf : fOK n K G) (p0 : Int32) (p1 : Int32) (Q : Int32 → Prop) (h : fJ6_checkIndex A p0 p1 Q) : jMet Γ yJ6_checkIndex cJ6_checkIndex 2 (some .int) [] 2 0 0 [.int p0, .int p1] (n, K, A, Lg, G) (fun o u => ∃ (r : Int32), o = .inl (some (.int r)) ∧ u = (n, K, A, Lg, G) ∧ Q r) := by
  unfold fJ6_checkIndex at h
  obtain ⟨P, hP⟩ : ∃ P : jO → pS → Prop, P = (fun o u => ∃ (r : Int32), o = .inl (some (.int r)) ∧ u = (n, K, A, Lg, G) ∧ Q r) := ⟨_, rfl⟩
  rw [← hP]
  refine jMet_of rfl rfl rfl (Nat.le_of_ble_eq_true rfl) ?_
  show J Γ RJ6 cJ6_checkIndex 2 (some .int) "checkIndex" [] 2 0 0 0 [(0, .int p0), (1, .int p1)] [] (n, K, A, Lg, G) P
  refine j_iload_n 0 rfl dJ6_checkIndex_0 ?_
  refine j_iload_n 1 rfl dJ6_checkIndex_1 ?_
  refine j_null dJ6_checkIndex_2 ?_
  refine j_callS (As := [.int p0, .int p1, .null]) (st := []) (kc' := 0) (ks' := 0) (tJ7_checkIndex hf p0 p1 _ h) myJ7_checkIndex q546 q547 rfl (Nat.le_of_ble_eq_true rfl) rfl (by decide) (Nat.le_refl 0) (Nat.le_refl 0) dJ6_checkIndex_3 (fun v9 u9 hq => ?_) (fun k9 u9 hq => by obtain ⟨_, e9, _⟩ := hq; cases e9)
  obtain ⟨r1, e9, rfl, h⟩ := hq
  obtain rfl := Sum.inl.inj e9
  show J Γ RJ6 cJ6_checkIndex 2 (some .int) "checkIndex" [] 2 0 0 6 [(0, .int p0), (1, .int p1)] [.int r1] (n, K, A, Lg, G) P
  refine j_iret rfl ?_ dJ6_checkIndex_6
  rw [hP]
  exact ⟨r1, rfl, rfl, h⟩
theorem myJ5_size : jY yJ5_size cJ5_size 1 (some .int) 0 := ⟨q538, q131, by decide +kernel, by decide +kernel, by decide⟩
def fJ5_size (a0 : Nat) (A : pA) (Q : Int32 → Prop) : Prop :=
    Q (A a0 2)
theorem tJ5_size {Γ : jG} {n : Nat} {K : Nat → pKd} {G : pG} {A : pA} {Lg : pL} (hf : fOK n K G) (a0 : Nat) (la0 : a0 < n) (ha0 : K a0 = .inl 17)  (Q : Int32 → Prop) (h : fJ5_size a0 A Q) : jMet Γ yJ5_size cJ5_size 1 (some .int) [] 1 0 0 [.ref a0] (n, K, A, Lg, G) (fun o u => ∃ (r : Int32), o = .inl (some (.int r)) ∧ u = (n, K, A, Lg, G) ∧ Q r) := by
  unfold fJ5_size at h
  obtain ⟨P, hP⟩ : ∃ P : jO → pS → Prop, P = (fun o u => ∃ (r : Int32), o = .inl (some (.int r)) ∧ u = (n, K, A, Lg, G) ∧ Q r) := ⟨_, rfl⟩
  rw [← hP]
  refine jMet_of rfl rfl rfl (Nat.le_of_ble_eq_true rfl) ?_
  show J Γ RJ5 cJ5_size 1 (some .int) "size" [] 1 0 0 0 [(0, .ref a0)] [] (n, K, A, Lg, G) P
  refine j_aload_n 0 rfl dJ5_size_0 ?_
  refine j_getfi fl_J5_48_17 rfl la0 ha0 dJ5_size_1 ?_
  refine j_iret rfl ?_ dJ5_size_4
  rw [hP]
  exact ⟨A a0 2, rfl, rfl, h⟩
theorem myJ5_elementData : jY yJ5_elementData cJ5_elementData 2 (some (.object "java/lang/Object")) 1 := ⟨q552, q131, by decide +kernel, by decide +kernel, by decide⟩
def fJ5_elementData (a0 : Nat) (n : Nat) (K : Nat → pKd) (A : pA) (G : pG) (p1 : Int32) (Q : Nat → Prop) : Prop :=
    ∃ e1 : Nat, G a0 1 = .ref e1 ∧ ((e1 < n) ∧ (∃ z3 : Nat, K e1 = .inr (6, z3) ∧ ((vp_in p1 z3) ∧ (∃ e6 : Nat, G e1 (p1).toNatClampNeg = .ref e6 ∧ (Q e6)))))
theorem tJ5_elementData {Γ : jG} {n : Nat} {K : Nat → pKd} {G : pG} {A : pA} {Lg : pL} (hf : fOK n K G) (a0 : Nat) (la0 : a0 < n) (ha0 : K a0 = .inl 17) (p1 : Int32) (Q : Nat → Prop) (h : fJ5_elementData a0 n K A G p1 Q) : jMet Γ yJ5_elementData cJ5_elementData 2 (some (.object "java/lang/Object")) [] 1 0 0 [.ref a0, .int p1] (n, K, A, Lg, G) (fun o u => ∃ (r : Nat), o = .inl (some (.ref r)) ∧ u = (n, K, A, Lg, G) ∧ Q r) := by
  unfold fJ5_elementData at h
  obtain ⟨P, hP⟩ : ∃ P : jO → pS → Prop, P = (fun o u => ∃ (r : Nat), o = .inl (some (.ref r)) ∧ u = (n, K, A, Lg, G) ∧ Q r) := ⟨_, rfl⟩
  rw [← hP]
  refine jMet_of rfl rfl rfl (Nat.le_of_ble_eq_true rfl) ?_
  show J Γ RJ5 cJ5_elementData 2 (some (.object "java/lang/Object")) "elementData" [] 1 0 0 0 [(0, .ref a0), (1, .int p1)] [] (n, K, A, Lg, G) P
  refine j_aload_n 0 rfl dJ5_elementData_0 ?_
  obtain ⟨e1, e1h, h⟩ := h
  refine j_getfr fl_J5_9_17 rfl la0 ha0 e1h dJ5_elementData_1 ?_
  refine j_iload_n 1 rfl dJ5_elementData_4 ?_
  obtain ⟨b2, h⟩ := h
  obtain ⟨z3, b4, h⟩ := h
  obtain ⟨b5, h⟩ := h
  obtain ⟨e6, e6h, h⟩ := h
  refine j_aaldJ (t := 6) (j := (p1).toNatClampNeg) rfl rfl rfl b2 b4 b5 rfl e6h dJ5_elementData_5 ?_
  refine j_aret rfl (by first | exact Or.inl ⟨_, rfl⟩ | exact Or.inr ⟨_, rfl⟩) (Or.inr ⟨_, rfl⟩) ?_ dJ5_elementData_6
  rw [hP]
  exact ⟨e6, rfl, rfl, h⟩
theorem myJ5_get : jY yJ5_get cJ5_get 2 (some (.object "java/lang/Object")) 1 := ⟨q542, q131, by decide +kernel, by decide +kernel, by decide⟩
def fJ5_get (a0 : Nat) (n : Nat) (K : Nat → pKd) (A : pA) (G : pG) (p1 : Int32) (Q : Nat → Prop) : Prop :=
    fJ6_checkIndex A p1 (A a0 2) (fun r1 => fJ5_elementData a0 n K A G p1 (fun r2 => Q r2))
theorem tJ5_get {Γ : jG} {n : Nat} {K : Nat → pKd} {G : pG} {A : pA} {Lg : pL} (hf : fOK n K G) (a0 : Nat) (la0 : a0 < n) (ha0 : K a0 = .inl 17) (p1 : Int32) (Q : Nat → Prop) (h : fJ5_get a0 n K A G p1 Q) : jMet Γ yJ5_get cJ5_get 2 (some (.object "java/lang/Object")) [] 3 0 0 [.ref a0, .int p1] (n, K, A, Lg, G) (fun o u => ∃ (r : Nat), o = .inl (some (.ref r)) ∧ u = (n, K, A, Lg, G) ∧ Q r) := by
  unfold fJ5_get at h
  obtain ⟨P, hP⟩ : ∃ P : jO → pS → Prop, P = (fun o u => ∃ (r : Nat), o = .inl (some (.ref r)) ∧ u = (n, K, A, Lg, G) ∧ Q r) := ⟨_, rfl⟩
  rw [← hP]
  refine jMet_of rfl rfl rfl (Nat.le_of_ble_eq_true rfl) ?_
  show J Γ RJ5 cJ5_get 2 (some (.object "java/lang/Object")) "get" [] 3 0 0 0 [(0, .ref a0), (1, .int p1)] [] (n, K, A, Lg, G) P
  refine j_iload_n 1 rfl dJ5_get_0 ?_
  refine j_aload_n 0 rfl dJ5_get_1 ?_
  refine j_getfi fl_J5_48_17 rfl la0 ha0 dJ5_get_2 ?_
  refine j_callS (As := [.int p1, .int (A a0 2)]) (st := []) (kc' := 0) (ks' := 0) (tJ6_checkIndex hf p1 (A a0 2) _ h) myJ6_checkIndex q543 q544 rfl (Nat.le_of_ble_eq_true rfl) rfl (by decide) (Nat.le_refl 0) (Nat.le_refl 0) dJ5_get_5 (fun v9 u9 hq => ?_) (fun k9 u9 hq => by obtain ⟨_, e9, _⟩ := hq; cases e9)
  obtain ⟨r1, e9, rfl, h⟩ := hq
  obtain rfl := Sum.inl.inj e9
  show J Γ RJ5 cJ5_get 2 (some (.object "java/lang/Object")) "get" [] 3 0 0 8 [(0, .ref a0), (1, .int p1)] [.int r1] (n, K, A, Lg, G) P
  refine j_pop rfl dJ5_get_8 ?_
  refine j_aload_n 0 rfl dJ5_get_9 ?_
  refine j_iload_n 1 rfl dJ5_get_10 ?_
  refine j_callV (b := a0) (As := [.int p1]) (st := []) (C := RJ5) (kc' := 0) (ks' := 0) (tJ5_elementData hf a0 la0 ha0 p1 _ h) myJ5_elementData rfl q549 q550 q551 (j_l2 hf.1 la0) (fun s9 H9 hK9 hR9 h69 => jIs_in hK9 hR9 h69 la0 ha0 rfl) rfl (Nat.le_of_ble_eq_true rfl) rfl (by decide) (Nat.le_refl 0) (Nat.le_refl 0) dJ5_get_11 (fun v9 u9 hq => ?_) (fun k9 u9 hq => by obtain ⟨_, e9, _⟩ := hq; cases e9)
  obtain ⟨r2, e9, rfl, h⟩ := hq
  obtain rfl := Sum.inl.inj e9
  show J Γ RJ5 cJ5_get 2 (some (.object "java/lang/Object")) "get" [] 3 0 0 14 [(0, .ref a0), (1, .int p1)] [.ref r2] (n, K, A, Lg, G) P
  refine j_aret rfl (by first | exact Or.inl ⟨_, rfl⟩ | exact Or.inr ⟨_, rfl⟩) (Or.inr ⟨_, rfl⟩) ?_ dJ5_get_14
  rw [hP]
  exact ⟨r2, rfl, rfl, h⟩
theorem myJ8_isLatin1 : jY yJ8_isLatin1 cJ8_isLatin1 1 (some .boolean) 0 := ⟨q664, q140, by decide +kernel, by decide +kernel, by decide⟩
def fJ8_isLatin1X (a0 : Nat) (A : pA) (Q : Int32 → Prop) : Prop :=
    ((Q 1))
theorem tJ8_isLatin1X {Γ : jG} {n : Nat} {K : Nat → pKd} {G : pG} {A : pA} {Lg : pL} (hf : fOK n K G) (a0 : Nat) (ha0 : a0 < 24)  (Q : Int32 → Prop) (h : fJ8_isLatin1X a0 A Q) : jMet Γ yJ8_isLatin1 cJ8_isLatin1 1 (some .boolean) [] 1 0 0 [.ref (1000000 + a0)] (n, K, A, Lg, G) (fun o u => ∃ (r : Int32), o = .inl (some (.int r)) ∧ u = (n, K, A, Lg, G) ∧ Q r) := by
  unfold fJ8_isLatin1X at h
  obtain ⟨P, hP⟩ : ∃ P : jO → pS → Prop, P = (fun o u => ∃ (r : Int32), o = .inl (some (.int r)) ∧ u = (n, K, A, Lg, G) ∧ Q r) := ⟨_, rfl⟩
  rw [← hP]
  refine jMet_of rfl rfl rfl (Nat.le_of_ble_eq_true rfl) ?_
  show J Γ RJ8 cJ8_isLatin1 1 (some .boolean) "isLatin1" [] 1 0 0 0 [(0, .ref (1000000 + a0))] [] (n, K, A, Lg, G) P
  refine j_gets (i := 0) rfl q655 dJ8_isLatin1_0 ?_
  refine j_if_eq (x := (1 : Int32)) (tgt := 17) dJ8_isLatin1_3 (by decide) (fun c => ?_) (fun c => ?_)
  · exact absurd c (by decide)
  · skip
    refine j_aload_n 0 rfl dJ8_isLatin1_6 ?_
    refine j_xcod ha0 q1002 dJ8_isLatin1_7 ?_
    refine j_if_ne (x := (0 : Int32)) (tgt := 17) dJ8_isLatin1_10 (by decide) (fun c => ?_) (fun c => ?_)
    · exact absurd c (by decide)
    · skip
      refine j_iconst (v := 1) dJ8_isLatin1_13 (by decide) ?_
      refine j_goto (tgt := 18) dJ8_isLatin1_14 (by decide) ?_
      refine j_zret rfl (by decide) ?_ dJ8_isLatin1_18
      rw [hP]
      exact ⟨1, rfl, rfl, h⟩
theorem myJ8_coder : jY yJ8_coder cJ8_coder 1 (some .byte) 0 := ⟨q654, q140, by decide +kernel, by decide +kernel, by decide⟩
def fJ8_coderX (a0 : Nat) (A : pA) (Q : Int32 → Prop) : Prop :=
    (Q 0)
theorem tJ8_coderX {Γ : jG} {n : Nat} {K : Nat → pKd} {G : pG} {A : pA} {Lg : pL} (hf : fOK n K G) (a0 : Nat) (ha0 : a0 < 24)  (Q : Int32 → Prop) (h : fJ8_coderX a0 A Q) : jMet Γ yJ8_coder cJ8_coder 1 (some .byte) [] 1 0 0 [.ref (1000000 + a0)] (n, K, A, Lg, G) (fun o u => ∃ (r : Int32), o = .inl (some (.int r)) ∧ u = (n, K, A, Lg, G) ∧ Q r) := by
  unfold fJ8_coderX at h
  obtain ⟨P, hP⟩ : ∃ P : jO → pS → Prop, P = (fun o u => ∃ (r : Int32), o = .inl (some (.int r)) ∧ u = (n, K, A, Lg, G) ∧ Q r) := ⟨_, rfl⟩
  rw [← hP]
  refine jMet_of rfl rfl rfl (Nat.le_of_ble_eq_true rfl) ?_
  show J Γ RJ8 cJ8_coder 1 (some .byte) "coder" [] 1 0 0 0 [(0, .ref (1000000 + a0))] [] (n, K, A, Lg, G) P
  refine j_gets (i := 0) rfl q655 dJ8_coder_0 ?_
  refine j_if_eq (x := (1 : Int32)) (tgt := 13) dJ8_coder_3 (by decide) (fun c => ?_) (fun c => ?_)
  · exact absurd c (by decide)
  · skip
    refine j_aload_n 0 rfl dJ8_coder_6 ?_
    refine j_xcod ha0 q1002 dJ8_coder_7 ?_
    refine j_goto (tgt := 14) dJ8_coder_10 (by decide) ?_
    refine j_zret rfl (by decide) ?_ dJ8_coder_14
    rw [hP]
    exact ⟨0, rfl, rfl, h⟩
theorem myJ8_length : jY yJ8_length cJ8_length 1 (some .int) 0 := ⟨q650, q140, by decide +kernel, by decide +kernel, by decide⟩
def fJ8_lengthX (a0 : Nat) (A : pA) (Q : Int32 → Prop) : Prop :=
    fJ8_coderX a0 A (fun r1 => Q ((Int32.ofNat (jSl.getD a0 0)) >>> (r1 &&& 31)))
theorem tJ8_lengthX {Γ : jG} {n : Nat} {K : Nat → pKd} {G : pG} {A : pA} {Lg : pL} (hf : fOK n K G) (a0 : Nat) (ha0 : a0 < 24)  (Q : Int32 → Prop) (h : fJ8_lengthX a0 A Q) : jMet Γ yJ8_length cJ8_length 1 (some .int) [] 2 0 0 [.ref (1000000 + a0)] (n, K, A, Lg, G) (fun o u => ∃ (r : Int32), o = .inl (some (.int r)) ∧ u = (n, K, A, Lg, G) ∧ Q r) := by
  unfold fJ8_lengthX at h
  obtain ⟨P, hP⟩ : ∃ P : jO → pS → Prop, P = (fun o u => ∃ (r : Int32), o = .inl (some (.int r)) ∧ u = (n, K, A, Lg, G) ∧ Q r) := ⟨_, rfl⟩
  rw [← hP]
  refine jMet_of rfl rfl rfl (Nat.le_of_ble_eq_true rfl) ?_
  show J Γ RJ8 cJ8_length 1 (some .int) "length" [] 2 0 0 0 [(0, .ref (1000000 + a0))] [] (n, K, A, Lg, G) P
  refine j_aload_n 0 rfl dJ8_length_0 ?_
  refine j_xval ha0 q1001 dJ8_length_1 ?_
  refine j_xlen ha0 dJ8_length_4 ?_
  refine j_aload_n 0 rfl dJ8_length_5 ?_
  refine j_callV (b := (1000000 + a0)) (As := []) (st := [.int (Int32.ofNat (jSl.getD a0 0))]) (C := RJ8) (kc' := 0) (ks' := 0) (tJ8_coderX hf a0 ha0 _ h) myJ8_coder rfl q651 q652 q653 (by have := ha0; omega) (fun s9 H9 hK9 hR9 h69 => jIs_ext hK9 hR9 ha0) rfl (Nat.le_of_ble_eq_true rfl) rfl (by decide) (Nat.le_refl 0) (Nat.le_refl 0) dJ8_length_6 (fun v9 u9 hq => ?_) (fun k9 u9 hq => by obtain ⟨_, e9, _⟩ := hq; cases e9)
  obtain ⟨r1, e9, rfl, h⟩ := hq
  obtain rfl := Sum.inl.inj e9
  show J Γ RJ8 cJ8_length 1 (some .int) "length" [] 2 0 0 9 [(0, .ref (1000000 + a0))] [.int r1, .int (Int32.ofNat (jSl.getD a0 0))] (n, K, A, Lg, G) P
  refine j_ishr dJ8_length_9 ?_
  refine j_iret rfl ?_ dJ8_length_10
  rw [hP]
  exact ⟨(Int32.ofNat (jSl.getD a0 0)) >>> (r1 &&& 31), rfl, rfl, h⟩
theorem myJ8_checkIndex : jY yJ8_checkIndex cJ8_checkIndex 2 none 2 := ⟨q670, q140, by decide +kernel, by decide +kernel, by decide⟩
def fJ8_checkIndex (A : pA) (p0 : Int32) (p1 : Int32) (Q : Prop) : Prop :=
    fJ7_checkIndexS A p0 p1 (fun r1 => Q)
theorem tJ8_checkIndex {Γ : jG} {n : Nat} {K : Nat → pKd} {G : pG} {A : pA} {Lg : pL} (hf : fOK n K G) (p0 : Int32) (p1 : Int32) (Q : Prop) (h : fJ8_checkIndex A p0 p1 Q) : jMet Γ yJ8_checkIndex cJ8_checkIndex 2 none [] 2 0 0 [.int p0, .int p1] (n, K, A, Lg, G) (fun o u => o = .inl none ∧ u = (n, K, A, Lg, G) ∧ Q) := by
  unfold fJ8_checkIndex at h
  obtain ⟨P, hP⟩ : ∃ P : jO → pS → Prop, P = (fun o u => o = .inl none ∧ u = (n, K, A, Lg, G) ∧ Q) := ⟨_, rfl⟩
  rw [← hP]
  refine jMet_of rfl rfl rfl (Nat.le_of_ble_eq_true rfl) ?_
  show J Γ RJ8 cJ8_checkIndex 2 none "checkIndex" [] 2 0 0 0 [(0, .int p0), (1, .int p1)] [] (n, K, A, Lg, G) P
  refine j_iload_n 0 rfl dJ8_checkIndex_0 ?_
  refine j_iload_n 1 rfl dJ8_checkIndex_1 ?_
  refine j_gets (i := 4) rfl q671 dJ8_checkIndex_2 ?_
  refine j_callS (As := [.int p0, .int p1, .ref 2000002]) (st := []) (kc' := 0) (ks' := 0) (tJ7_checkIndexS hf p0 p1 _ h) myJ7_checkIndex q673 q547 rfl (Nat.le_of_ble_eq_true rfl) rfl (by decide) (Nat.le_refl 0) (Nat.le_refl 0) dJ8_checkIndex_5 (fun v9 u9 hq => ?_) (fun k9 u9 hq => by obtain ⟨_, e9, _⟩ := hq; cases e9)
  obtain ⟨r1, e9, rfl, h⟩ := hq
  obtain rfl := Sum.inl.inj e9
  show J Γ RJ8 cJ8_checkIndex 2 none "checkIndex" [] 2 0 0 8 [(0, .int p0), (1, .int p1)] [.int r1] (n, K, A, Lg, G) P
  refine j_pop rfl dJ8_checkIndex_8 ?_
  refine j_vret rfl ?_ dJ8_checkIndex_9
  rw [hP]
  exact ⟨rfl, rfl, h⟩
theorem myJ9_charAt : jY yJ9_charAt cJ9_charAt 2 (some .char) 2 := ⟨q667, q141, by decide +kernel, by decide +kernel, by decide⟩
def fJ9_charAtX (a0 : Nat) (A : pA) (p1 : Int32) (Q : Int32 → Prop) : Prop :=
    fJ8_checkIndex A p1 (Int32.ofNat (jSl.getD a0 0)) ((vp_in p1 (jSl.getD a0 0)) ∧ ((narrow .char (.int ((((((jSb.getD a0 []).getD (p1).toNatClampNeg 0) &&& 255) : Int32).toUInt32 % 65536).toInt32)) = .int ((((((jSb.getD a0 []).getD (p1).toNatClampNeg 0) &&& 255) : Int32).toUInt32 % 65536).toInt32)) ∧ (Q ((((((jSb.getD a0 []).getD (p1).toNatClampNeg 0) &&& 255) : Int32).toUInt32 % 65536).toInt32))))
theorem tJ9_charAtX {Γ : jG} {n : Nat} {K : Nat → pKd} {G : pG} {A : pA} {Lg : pL} (hf : fOK n K G) (a0 : Nat) (ha0 : a0 < 24) (p1 : Int32) (Q : Int32 → Prop) (h : fJ9_charAtX a0 A p1 Q) : jMet Γ yJ9_charAt cJ9_charAt 2 (some .char) [] 3 0 0 [.ref (1000100 + a0), .int p1] (n, K, A, Lg, G) (fun o u => ∃ (r : Int32), o = .inl (some (.int r)) ∧ u = (n, K, A, Lg, G) ∧ Q r) := by
  unfold fJ9_charAtX at h
  obtain ⟨P, hP⟩ : ∃ P : jO → pS → Prop, P = (fun o u => ∃ (r : Int32), o = .inl (some (.int r)) ∧ u = (n, K, A, Lg, G) ∧ Q r) := ⟨_, rfl⟩
  rw [← hP]
  refine jMet_of rfl rfl rfl (Nat.le_of_ble_eq_true rfl) ?_
  show J Γ RJ9 cJ9_charAt 2 (some .char) "charAt" [] 3 0 0 0 [(0, .ref (1000100 + a0)), (1, .int p1)] [] (n, K, A, Lg, G) P
  refine j_iload_n 1 rfl dJ9_charAt_0 ?_
  refine j_aload_n 0 rfl dJ9_charAt_1 ?_
  refine j_xlen ha0 dJ9_charAt_2 ?_
  refine j_callS (As := [.int p1, .int (Int32.ofNat (jSl.getD a0 0))]) (st := []) (kc' := 0) (ks' := 0) (tJ8_checkIndex hf p1 (Int32.ofNat (jSl.getD a0 0)) _ h) myJ8_checkIndex q668 q669 rfl (Nat.le_of_ble_eq_true rfl) rfl (by decide) (Nat.le_refl 0) (Nat.le_refl 0) dJ9_charAt_3 (fun v9 u9 hq => ?_) (fun k9 u9 hq => by obtain ⟨e9, _⟩ := hq; cases e9)
  obtain ⟨e9, rfl, h⟩ := hq
  obtain rfl := Sum.inl.inj e9
  show J Γ RJ9 cJ9_charAt 2 (some .char) "charAt" [] 3 0 0 6 [(0, .ref (1000100 + a0)), (1, .int p1)] [] (n, K, A, Lg, G) P
  refine j_aload_n 0 rfl dJ9_charAt_6 ?_
  refine j_iload_n 1 rfl dJ9_charAt_7 ?_
  obtain ⟨b1, h⟩ := h
  refine j_xbald ha0 b1 (fun _ _ _ => trivial) dJ9_charAt_8 ?_
  refine j_sipush (v := 255) dJ9_charAt_9 (by decide) ?_
  refine j_iand dJ9_charAt_12 ?_
  refine j_i2c dJ9_charAt_13 ?_
  obtain ⟨b2, h⟩ := h
  refine j_zret rfl b2 ?_ dJ9_charAt_14
  rw [hP]
  exact ⟨(((((jSb.getD a0 []).getD (p1).toNatClampNeg 0) &&& 255) : Int32).toUInt32 % 65536).toInt32, rfl, rfl, h⟩
theorem myJ8_charAt : jY yJ8_charAt cJ8_charAt 2 (some .char) 1 := ⟨q660, q140, by decide +kernel, by decide +kernel, by decide⟩
def fJ8_charAtX (a0 : Nat) (A : pA) (p1 : Int32) (Q : Int32 → Prop) : Prop :=
    fJ8_isLatin1X a0 A (fun r1 => (if r1 = 0 then False else fJ9_charAtX a0 A p1 (fun r2 => (narrow .char (.int r2) = .int r2) ∧ (Q r2))))
theorem tJ8_charAtX {Γ : jG} {n : Nat} {K : Nat → pKd} {G : pG} {A : pA} {Lg : pL} (hf : fOK n K G) (a0 : Nat) (ha0 : a0 < 24) (p1 : Int32) (Q : Int32 → Prop) (h : fJ8_charAtX a0 A p1 Q) : jMet Γ yJ8_charAt cJ8_charAt 2 (some .char) [] 4 0 0 [.ref (1000000 + a0), .int p1] (n, K, A, Lg, G) (fun o u => ∃ (r : Int32), o = .inl (some (.int r)) ∧ u = (n, K, A, Lg, G) ∧ Q r) := by
  unfold fJ8_charAtX at h
  obtain ⟨P, hP⟩ : ∃ P : jO → pS → Prop, P = (fun o u => ∃ (r : Int32), o = .inl (some (.int r)) ∧ u = (n, K, A, Lg, G) ∧ Q r) := ⟨_, rfl⟩
  rw [← hP]
  refine jMet_of rfl rfl rfl (Nat.le_of_ble_eq_true rfl) ?_
  show J Γ RJ8 cJ8_charAt 2 (some .char) "charAt" [] 4 0 0 0 [(0, .ref (1000000 + a0)), (1, .int p1)] [] (n, K, A, Lg, G) P
  refine j_aload_n 0 rfl dJ8_charAt_0 ?_
  refine j_callV (b := (1000000 + a0)) (As := []) (st := []) (C := RJ8) (kc' := 0) (ks' := 0) (tJ8_isLatin1X hf a0 ha0 _ h) myJ8_isLatin1 rfl q661 q662 q663 (by have := ha0; omega) (fun s9 H9 hK9 hR9 h69 => jIs_ext hK9 hR9 ha0) rfl (Nat.le_of_ble_eq_true rfl) rfl (by decide) (Nat.le_refl 0) (Nat.le_refl 0) dJ8_charAt_1 (fun v9 u9 hq => ?_) (fun k9 u9 hq => by obtain ⟨_, e9, _⟩ := hq; cases e9)
  obtain ⟨r1, e9, rfl, h⟩ := hq
  obtain rfl := Sum.inl.inj e9
  show J Γ RJ8 cJ8_charAt 2 (some .char) "charAt" [] 4 0 0 4 [(0, .ref (1000000 + a0)), (1, .int p1)] [.int r1] (n, K, A, Lg, G) P
  refine j_if_eq (tgt := 16) dJ8_charAt_4 (by decide) (fun c => ?_) (fun c => ?_)
  · rw [if_pos c] at h
    exact h.elim
  · rw [if_neg c] at h
    refine j_aload_n 0 rfl dJ8_charAt_7 ?_
    refine j_xval ha0 q1001 dJ8_charAt_8 ?_
    refine j_iload_n 1 rfl dJ8_charAt_11 ?_
    refine j_callS (As := [.ref (1000100 + a0), .int p1]) (st := []) (kc' := 0) (ks' := 0) (tJ9_charAtX hf a0 ha0 p1 _ h) myJ9_charAt q665 q666 rfl (Nat.le_of_ble_eq_true rfl) rfl (by decide) (Nat.le_refl 0) (Nat.le_refl 0) dJ8_charAt_12 (fun v9 u9 hq => ?_) (fun k9 u9 hq => by obtain ⟨_, e9, _⟩ := hq; cases e9)
    obtain ⟨r2, e9, rfl, h⟩ := hq
    obtain rfl := Sum.inl.inj e9
    show J Γ RJ8 cJ8_charAt 2 (some .char) "charAt" [] 4 0 0 15 [(0, .ref (1000000 + a0)), (1, .int p1)] [.int r2] (n, K, A, Lg, G) P
    obtain ⟨b3, h⟩ := h
    refine j_zret rfl b3 ?_ dJ8_charAt_15
    rw [hP]
    exact ⟨r2, rfl, rfl, h⟩
theorem myX0_within : jY yX0_within cX0_within 3 (some .int) 3 := ⟨q1278, q121, by decide +kernel, by decide +kernel, by decide⟩
def fX0_within (A : pA) (p0 : Int32) (p1 : Int32) (p2 : Int32) (Q : Int32 → Prop) : Prop :=
    Q (pmax p1 (pmin p2 p0))
theorem tX0_within {Γ : jG} {n : Nat} {K : Nat → pKd} {G : pG} {A : pA} {Lg : pL} (hf : fOK n K G) (p0 : Int32) (p1 : Int32) (p2 : Int32) (Q : Int32 → Prop) (h : fX0_within A p0 p1 p2 Q) : jMet Γ yX0_within cX0_within 3 (some .int) [] 1 0 0 [.int p0, .int p1, .int p2] (n, K, A, Lg, G) (fun o u => ∃ (r : Int32), o = .inl (some (.int r)) ∧ u = (n, K, A, Lg, G) ∧ Q r) := by
  unfold fX0_within at h
  obtain ⟨P, hP⟩ : ∃ P : jO → pS → Prop, P = (fun o u => ∃ (r : Int32), o = .inl (some (.int r)) ∧ u = (n, K, A, Lg, G) ∧ Q r) := ⟨_, rfl⟩
  rw [← hP]
  refine jMet_of rfl rfl rfl (Nat.le_of_ble_eq_true rfl) ?_
  show J Γ RX0 cX0_within 3 (some .int) "within" [] 1 0 0 0 [(0, .int p0), (1, .int p1), (2, .int p2)] [] (n, K, A, Lg, G) P
  refine j_iload_n 1 rfl dX0_within_0 ?_
  refine j_iload_n 2 rfl dX0_within_1 ?_
  refine j_iload_n 0 rfl dX0_within_2 ?_
  refine j_mmin q1279 q917 q153 q918 (Nat.le_of_ble_eq_true rfl) (by decide) dX0_within_3 ?_
  refine j_mmax q1280 q899 q153 q900 (Nat.le_of_ble_eq_true rfl) (by decide) dX0_within_6 ?_
  refine j_iret rfl ?_ dX0_within_9
  rw [hP]
  exact ⟨pmax p1 (pmin p2 p0), rfl, rfl, h⟩
theorem myX0_isIn : jY yX0_isIn cX0_isIn 3 (some .boolean) 3 := ⟨q1196, q121, by decide +kernel, by decide +kernel, by decide⟩
def fX0_isIn (A : pA) (p0 : Int32) (p1 : Int32) (p2 : Int32) (Q : Int32 → Prop) : Prop :=
    (if p0 < p1 then Q 0 else (if p2 < p0 then Q 0 else Q 1))
theorem tX0_isIn {Γ : jG} {n : Nat} {K : Nat → pKd} {G : pG} {A : pA} {Lg : pL} (hf : fOK n K G) (p0 : Int32) (p1 : Int32) (p2 : Int32) (Q : Int32 → Prop) (h : fX0_isIn A p0 p1 p2 Q) : jMet Γ yX0_isIn cX0_isIn 3 (some .boolean) [] 1 0 0 [.int p0, .int p1, .int p2] (n, K, A, Lg, G) (fun o u => ∃ (r : Int32), o = .inl (some (.int r)) ∧ u = (n, K, A, Lg, G) ∧ Q r) := by
  unfold fX0_isIn at h
  obtain ⟨P, hP⟩ : ∃ P : jO → pS → Prop, P = (fun o u => ∃ (r : Int32), o = .inl (some (.int r)) ∧ u = (n, K, A, Lg, G) ∧ Q r) := ⟨_, rfl⟩
  rw [← hP]
  refine jMet_of rfl rfl rfl (Nat.le_of_ble_eq_true rfl) ?_
  show J Γ RX0 cX0_isIn 3 (some .boolean) "isIn" [] 1 0 0 0 [(0, .int p0), (1, .int p1), (2, .int p2)] [] (n, K, A, Lg, G) P
  refine j_iload_n 0 rfl dX0_isIn_0 ?_
  refine j_iload_n 1 rfl dX0_isIn_1 ?_
  refine j_icmp_lt (tgt := 14) dX0_isIn_2 (by decide) (fun c => ?_) (fun c => ?_)
  · rw [if_pos c] at h
    refine j_iconst (v := 0) dX0_isIn_14 (by decide) ?_
    refine j_zret rfl (by decide) ?_ dX0_isIn_15
    rw [hP]
    exact ⟨0, rfl, rfl, h⟩
  · rw [if_neg c] at h
    refine j_iload_n 0 rfl dX0_isIn_5 ?_
    refine j_iload_n 2 rfl dX0_isIn_6 ?_
    refine j_icmp_gt (tgt := 14) dX0_isIn_7 (by decide) (fun c => ?_) (fun c => ?_)
    · rw [if_pos c] at h
      refine j_iconst (v := 0) dX0_isIn_14 (by decide) ?_
      refine j_zret rfl (by decide) ?_ dX0_isIn_15
      rw [hP]
      exact ⟨0, rfl, rfl, h⟩
    · rw [if_neg c] at h
      refine j_iconst (v := 1) dX0_isIn_10 (by decide) ?_
      refine j_goto (tgt := 15) dX0_isIn_11 (by decide) ?_
      refine j_zret rfl (by decide) ?_ dX0_isIn_15
      rw [hP]
      exact ⟨1, rfl, rfl, h⟩
theorem myX0_isAhead : jY yX0_isAhead cX0_isAhead 1 (some .boolean) 1 := ⟨q1319, q121, by decide +kernel, by decide +kernel, by decide⟩
def fX0_isAhead (A : pA) (p0 : Int32) (Q : Int32 → Prop) : Prop :=
    fX0_isIn A p0 0 1440 (fun r1 => (narrow .boolean (.int r1) = .int r1) ∧ (Q r1))
theorem tX0_isAhead {Γ : jG} {n : Nat} {K : Nat → pKd} {G : pG} {A : pA} {Lg : pL} (hf : fOK n K G) (p0 : Int32) (Q : Int32 → Prop) (h : fX0_isAhead A p0 Q) : jMet Γ yX0_isAhead cX0_isAhead 1 (some .boolean) [] 2 0 0 [.int p0] (n, K, A, Lg, G) (fun o u => ∃ (r : Int32), o = .inl (some (.int r)) ∧ u = (n, K, A, Lg, G) ∧ Q r) := by
  unfold fX0_isAhead at h
  obtain ⟨P, hP⟩ : ∃ P : jO → pS → Prop, P = (fun o u => ∃ (r : Int32), o = .inl (some (.int r)) ∧ u = (n, K, A, Lg, G) ∧ Q r) := ⟨_, rfl⟩
  rw [← hP]
  refine jMet_of rfl rfl rfl (Nat.le_of_ble_eq_true rfl) ?_
  show J Γ RX0 cX0_isAhead 1 (some .boolean) "isAhead" [] 2 0 0 0 [(0, .int p0)] [] (n, K, A, Lg, G) P
  refine j_iload_n 0 rfl dX0_isAhead_0 ?_
  refine j_iconst (v := 0) dX0_isAhead_1 (by decide) ?_
  refine j_sipush (v := 1440) dX0_isAhead_2 (by decide) ?_
  refine j_callS (As := [.int p0, .int 0, .int 1440]) (st := []) (kc' := 0) (ks' := 0) (tX0_isIn hf p0 0 1440 _ h) myX0_isIn q1194 q1195 rfl (Nat.le_of_ble_eq_true rfl) rfl (by decide) (Nat.le_refl 0) (Nat.le_refl 0) dX0_isAhead_5 (fun v9 u9 hq => ?_) (fun k9 u9 hq => by obtain ⟨_, e9, _⟩ := hq; cases e9)
  obtain ⟨r1, e9, rfl, h⟩ := hq
  obtain rfl := Sum.inl.inj e9
  show J Γ RX0 cX0_isAhead 1 (some .boolean) "isAhead" [] 2 0 0 8 [(0, .int p0)] [.int r1] (n, K, A, Lg, G) P
  obtain ⟨b2, h⟩ := h
  refine j_zret rfl b2 ?_ dX0_isAhead_8
  rw [hP]
  exact ⟨r1, rfl, rfl, h⟩
theorem myX2_at : jY yX2_at cX2_at 2 (some .int) 1 := ⟨q642, q126, by decide +kernel, by decide +kernel, by decide⟩
def fX2_at (A : pA) (p1 : Int32) (Q : Int32 → Prop) : Prop :=
    (if (A 2 2) ≤ p1 then Q 0 else (vp_in p1 2000) ∧ (Q (A 4 (p1).toNatClampNeg)))
theorem tX2_at {Γ : jG} {n : Nat} {K : Nat → pKd} {G : pG} {A : pA} {Lg : pL} (hf : fOK n K G) (p1 : Int32) (Q : Int32 → Prop) (h : fX2_at A p1 Q) : jMet Γ yX2_at cX2_at 2 (some .int) [] 1 0 0 [.ref 2, .int p1] (n, K, A, Lg, G) (fun o u => ∃ (r : Int32), o = .inl (some (.int r)) ∧ u = (n, K, A, Lg, G) ∧ Q r) := by
  unfold fX2_at at h
  obtain ⟨P, hP⟩ : ∃ P : jO → pS → Prop, P = (fun o u => ∃ (r : Int32), o = .inl (some (.int r)) ∧ u = (n, K, A, Lg, G) ∧ Q r) := ⟨_, rfl⟩
  rw [← hP]
  refine jMet_of rfl rfl rfl (Nat.le_of_ble_eq_true rfl) ?_
  show J Γ RX2 cX2_at 2 (some .int) "at" [] 1 0 0 0 [(0, .ref 2), (1, .int p1)] [] (n, K, A, Lg, G) P
  refine j_iload_n 1 rfl dX2_at_0 ?_
  refine j_aload_n 0 rfl dX2_at_1 ?_
  refine j_getfi fl_X2_80_2 rfl (f_lt hf (by decide)) (fk_2 hf) dX2_at_2 ?_
  refine j_icmp_ge (tgt := 17) dX2_at_5 (by decide) (fun c => ?_) (fun c => ?_)
  · rw [if_pos c] at h
    refine j_iconst (v := 0) dX2_at_17 (by decide) ?_
    refine j_iret rfl ?_ dX2_at_18
    rw [hP]
    exact ⟨0, rfl, rfl, h⟩
  · rw [if_neg c] at h
    refine j_aload_n 0 rfl dX2_at_8 ?_
    refine j_getfr fl_X2_63_2 rfl (f_lt hf (by decide)) (fk_2 hf) (fg_2_1 hf) dX2_at_9 ?_
    refine j_iload_n 1 rfl dX2_at_12 ?_
    obtain ⟨b1, h⟩ := h
    refine j_baldJ (j := (p1).toNatClampNeg) (f_lt hf (by decide)) (fk_4 hf) b1 rfl dX2_at_13 ?_
    refine j_goto (tgt := 18) dX2_at_14 (by decide) ?_
    refine j_iret rfl ?_ dX2_at_18
    rw [hP]
    exact ⟨A 4 (p1).toNatClampNeg, rfl, rfl, h⟩
theorem myX2_isDigit : jY yX2_isDigit cX2_isDigit 2 (some .boolean) 1 := ⟨q696, q126, by decide +kernel, by decide +kernel, by decide⟩
def fX2_isDigit (A : pA) (p1 : Int32) (Q : Int32 → Prop) : Prop :=
    fX2_at A p1 (fun r1 => (if r1 < 48 then Q 0 else fX2_at A p1 (fun r2 => (if 57 < r2 then Q 0 else Q 1))))
theorem tX2_isDigit {Γ : jG} {n : Nat} {K : Nat → pKd} {G : pG} {A : pA} {Lg : pL} (hf : fOK n K G) (p1 : Int32) (Q : Int32 → Prop) (h : fX2_isDigit A p1 Q) : jMet Γ yX2_isDigit cX2_isDigit 2 (some .boolean) [] 2 0 0 [.ref 2, .int p1] (n, K, A, Lg, G) (fun o u => ∃ (r : Int32), o = .inl (some (.int r)) ∧ u = (n, K, A, Lg, G) ∧ Q r) := by
  unfold fX2_isDigit at h
  obtain ⟨P, hP⟩ : ∃ P : jO → pS → Prop, P = (fun o u => ∃ (r : Int32), o = .inl (some (.int r)) ∧ u = (n, K, A, Lg, G) ∧ Q r) := ⟨_, rfl⟩
  rw [← hP]
  refine jMet_of rfl rfl rfl (Nat.le_of_ble_eq_true rfl) ?_
  show J Γ RX2 cX2_isDigit 2 (some .boolean) "isDigit" [] 2 0 0 0 [(0, .ref 2), (1, .int p1)] [] (n, K, A, Lg, G) P
  refine j_aload_n 0 rfl dX2_isDigit_0 ?_
  refine j_iload_n 1 rfl dX2_isDigit_1 ?_
  refine j_callV (b := 2) (As := [.int p1]) (st := []) (C := RX2) (kc' := 0) (ks' := 0) (tX2_at hf p1 _ h) myX2_at rfl q639 q641 qs3 (by decide) (fun s9 H9 hK9 hR9 h69 => jIs_in hK9 hR9 h69 (f_lt hf (by decide)) (fk_2 hf) rfl) rfl (Nat.le_of_ble_eq_true rfl) rfl (by decide) (Nat.le_refl 0) (Nat.le_refl 0) dX2_isDigit_2 (fun v9 u9 hq => ?_) (fun k9 u9 hq => by obtain ⟨_, e9, _⟩ := hq; cases e9)
  obtain ⟨r1, e9, rfl, h⟩ := hq
  obtain rfl := Sum.inl.inj e9
  show J Γ RX2 cX2_isDigit 2 (some .boolean) "isDigit" [] 2 0 0 5 [(0, .ref 2), (1, .int p1)] [.int r1] (n, K, A, Lg, G) P
  refine j_bipush (v := 48) dX2_isDigit_5 (by decide) ?_
  refine j_icmp_lt (tgt := 24) dX2_isDigit_7 (by decide) (fun c => ?_) (fun c => ?_)
  · rw [if_pos c] at h
    refine j_iconst (v := 0) dX2_isDigit_24 (by decide) ?_
    refine j_zret rfl (by decide) ?_ dX2_isDigit_25
    rw [hP]
    exact ⟨0, rfl, rfl, h⟩
  · rw [if_neg c] at h
    refine j_aload_n 0 rfl dX2_isDigit_10 ?_
    refine j_iload_n 1 rfl dX2_isDigit_11 ?_
    refine j_callV (b := 2) (As := [.int p1]) (st := []) (C := RX2) (kc' := 0) (ks' := 0) (tX2_at hf p1 _ h) myX2_at rfl q639 q641 qs3 (by decide) (fun s9 H9 hK9 hR9 h69 => jIs_in hK9 hR9 h69 (f_lt hf (by decide)) (fk_2 hf) rfl) rfl (Nat.le_of_ble_eq_true rfl) rfl (by decide) (Nat.le_refl 0) (Nat.le_refl 0) dX2_isDigit_12 (fun v9 u9 hq => ?_) (fun k9 u9 hq => by obtain ⟨_, e9, _⟩ := hq; cases e9)
    obtain ⟨r2, e9, rfl, h⟩ := hq
    obtain rfl := Sum.inl.inj e9
    show J Γ RX2 cX2_isDigit 2 (some .boolean) "isDigit" [] 2 0 0 15 [(0, .ref 2), (1, .int p1)] [.int r2] (n, K, A, Lg, G) P
    refine j_bipush (v := 57) dX2_isDigit_15 (by decide) ?_
    refine j_icmp_gt (tgt := 24) dX2_isDigit_17 (by decide) (fun c => ?_) (fun c => ?_)
    · rw [if_pos c] at h
      refine j_iconst (v := 0) dX2_isDigit_24 (by decide) ?_
      refine j_zret rfl (by decide) ?_ dX2_isDigit_25
      rw [hP]
      exact ⟨0, rfl, rfl, h⟩
    · rw [if_neg c] at h
      refine j_iconst (v := 1) dX2_isDigit_20 (by decide) ?_
      refine j_goto (tgt := 25) dX2_isDigit_21 (by decide) ?_
      refine j_zret rfl (by decide) ?_ dX2_isDigit_25
      rw [hP]
      exact ⟨1, rfl, rfl, h⟩
theorem myX2_isLetter : jY yX2_isLetter cX2_isLetter 2 (some .boolean) 1 := ⟨q638, q126, by decide +kernel, by decide +kernel, by decide⟩
def fX2_isLetter (A : pA) (p1 : Int32) (Q : Int32 → Prop) : Prop :=
    fX2_at A p1 (fun r1 => (if r1 < 97 then Q 0 else fX2_at A p1 (fun r2 => (if 122 < r2 then Q 0 else Q 1))))
theorem tX2_isLetter {Γ : jG} {n : Nat} {K : Nat → pKd} {G : pG} {A : pA} {Lg : pL} (hf : fOK n K G) (p1 : Int32) (Q : Int32 → Prop) (h : fX2_isLetter A p1 Q) : jMet Γ yX2_isLetter cX2_isLetter 2 (some .boolean) [] 2 0 0 [.ref 2, .int p1] (n, K, A, Lg, G) (fun o u => ∃ (r : Int32), o = .inl (some (.int r)) ∧ u = (n, K, A, Lg, G) ∧ Q r) := by
  unfold fX2_isLetter at h
  obtain ⟨P, hP⟩ : ∃ P : jO → pS → Prop, P = (fun o u => ∃ (r : Int32), o = .inl (some (.int r)) ∧ u = (n, K, A, Lg, G) ∧ Q r) := ⟨_, rfl⟩
  rw [← hP]
  refine jMet_of rfl rfl rfl (Nat.le_of_ble_eq_true rfl) ?_
  show J Γ RX2 cX2_isLetter 2 (some .boolean) "isLetter" [] 2 0 0 0 [(0, .ref 2), (1, .int p1)] [] (n, K, A, Lg, G) P
  refine j_aload_n 0 rfl dX2_isLetter_0 ?_
  refine j_iload_n 1 rfl dX2_isLetter_1 ?_
  refine j_callV (b := 2) (As := [.int p1]) (st := []) (C := RX2) (kc' := 0) (ks' := 0) (tX2_at hf p1 _ h) myX2_at rfl q639 q641 qs3 (by decide) (fun s9 H9 hK9 hR9 h69 => jIs_in hK9 hR9 h69 (f_lt hf (by decide)) (fk_2 hf) rfl) rfl (Nat.le_of_ble_eq_true rfl) rfl (by decide) (Nat.le_refl 0) (Nat.le_refl 0) dX2_isLetter_2 (fun v9 u9 hq => ?_) (fun k9 u9 hq => by obtain ⟨_, e9, _⟩ := hq; cases e9)
  obtain ⟨r1, e9, rfl, h⟩ := hq
  obtain rfl := Sum.inl.inj e9
  show J Γ RX2 cX2_isLetter 2 (some .boolean) "isLetter" [] 2 0 0 5 [(0, .ref 2), (1, .int p1)] [.int r1] (n, K, A, Lg, G) P
  refine j_bipush (v := 97) dX2_isLetter_5 (by decide) ?_
  refine j_icmp_lt (tgt := 24) dX2_isLetter_7 (by decide) (fun c => ?_) (fun c => ?_)
  · rw [if_pos c] at h
    refine j_iconst (v := 0) dX2_isLetter_24 (by decide) ?_
    refine j_zret rfl (by decide) ?_ dX2_isLetter_25
    rw [hP]
    exact ⟨0, rfl, rfl, h⟩
  · rw [if_neg c] at h
    refine j_aload_n 0 rfl dX2_isLetter_10 ?_
    refine j_iload_n 1 rfl dX2_isLetter_11 ?_
    refine j_callV (b := 2) (As := [.int p1]) (st := []) (C := RX2) (kc' := 0) (ks' := 0) (tX2_at hf p1 _ h) myX2_at rfl q639 q641 qs3 (by decide) (fun s9 H9 hK9 hR9 h69 => jIs_in hK9 hR9 h69 (f_lt hf (by decide)) (fk_2 hf) rfl) rfl (Nat.le_of_ble_eq_true rfl) rfl (by decide) (Nat.le_refl 0) (Nat.le_refl 0) dX2_isLetter_12 (fun v9 u9 hq => ?_) (fun k9 u9 hq => by obtain ⟨_, e9, _⟩ := hq; cases e9)
    obtain ⟨r2, e9, rfl, h⟩ := hq
    obtain rfl := Sum.inl.inj e9
    show J Γ RX2 cX2_isLetter 2 (some .boolean) "isLetter" [] 2 0 0 15 [(0, .ref 2), (1, .int p1)] [.int r2] (n, K, A, Lg, G) P
    refine j_bipush (v := 122) dX2_isLetter_15 (by decide) ?_
    refine j_icmp_gt (tgt := 24) dX2_isLetter_17 (by decide) (fun c => ?_) (fun c => ?_)
    · rw [if_pos c] at h
      refine j_iconst (v := 0) dX2_isLetter_24 (by decide) ?_
      refine j_zret rfl (by decide) ?_ dX2_isLetter_25
      rw [hP]
      exact ⟨0, rfl, rfl, h⟩
    · rw [if_neg c] at h
      refine j_iconst (v := 1) dX2_isLetter_20 (by decide) ?_
      refine j_goto (tgt := 25) dX2_isLetter_21 (by decide) ?_
      refine j_zret rfl (by decide) ?_ dX2_isLetter_25
      rw [hP]
      exact ⟨1, rfl, rfl, h⟩
theorem myX2_add : jY yX2_add cX2_add 5 none 4 := ⟨q704, q126, by decide +kernel, by decide +kernel, by decide⟩
def fX2_add (A : pA) (p1 : Int32) (p2 : Int32) (p3 : Int32) (p4 : Int32) (Q : pA → Prop) : Prop :=
    (vp_in (A 2 7) 2001) ∧ (∀ A2 : pA, A2 = pup A 5 (A 2 7).toNatClampNeg (vp_nar .byte ((p1 : Int32).toInt8.toInt32)) → (vp_in (A2 2 7) 2001) ∧ (∀ A4 : pA, A4 = pup A2 6 (A2 2 7).toNatClampNeg (vp_nar .short ((p2 : Int32).toInt16.toInt32)) → (vp_in (A4 2 7) 2001) ∧ (∀ A6 : pA, A6 = pup A4 7 (A4 2 7).toNatClampNeg (vp_nar .short ((p3 : Int32).toInt16.toInt32)) → (vp_in (A6 2 7) 2001) ∧ (∀ A8 : pA, A8 = pup A6 8 (A6 2 7).toNatClampNeg (vp_nar .short ((p4 : Int32).toInt16.toInt32)) → ∀ A9 : pA, A9 = pup A8 2 7 ((A8 2 7) + 1) → Q A9))))
theorem tX2_add {Γ : jG} {n : Nat} {K : Nat → pKd} {G : pG} {A : pA} {Lg : pL} (hf : fOK n K G) (p1 : Int32) (p2 : Int32) (p3 : Int32) (p4 : Int32) (Q : pA → Prop) (h : fX2_add A p1 p2 p3 p4 Q) : jMet Γ yX2_add cX2_add 5 none [] 1 0 0 [.ref 2, .int p1, .int p2, .int p3, .int p4] (n, K, A, Lg, G) (fun o u => ∃ (A' : pA), o = .inl none ∧ u = (n, K, A', Lg, G) ∧ Q A') := by
  unfold fX2_add at h
  obtain ⟨P, hP⟩ : ∃ P : jO → pS → Prop, P = (fun o u => ∃ (A' : pA), o = .inl none ∧ u = (n, K, A', Lg, G) ∧ Q A') := ⟨_, rfl⟩
  rw [← hP]
  refine jMet_of rfl rfl rfl (Nat.le_of_ble_eq_true rfl) ?_
  show J Γ RX2 cX2_add 5 none "add" [] 1 0 0 0 [(0, .ref 2), (1, .int p1), (2, .int p2), (3, .int p3), (4, .int p4)] [] (n, K, A, Lg, G) P
  refine j_aload_n 0 rfl dX2_add_0 ?_
  refine j_getfr fl_X2_67_2 rfl (f_lt hf (by decide)) (fk_2 hf) (fg_2_3 hf) dX2_add_1 ?_
  refine j_aload_n 0 rfl dX2_add_4 ?_
  refine j_getfi fl_X2_88_2 rfl (f_lt hf (by decide)) (fk_2 hf) dX2_add_5 ?_
  refine j_iload_n 1 rfl dX2_add_8 ?_
  refine j_i2b dX2_add_9 ?_
  obtain ⟨b1, h⟩ := h
  refine j_bastJ (j := (A 2 7).toNatClampNeg) (f_lt hf (by decide)) (fk_5 hf) b1 rfl dX2_add_10 (fun A2 eA2 => ?_)
  replace h := h A2 eA2
  refine j_aload_n 0 rfl dX2_add_11 ?_
  refine j_getfr fl_X2_70_2 rfl (f_lt hf (by decide)) (fk_2 hf) (fg_2_4 hf) dX2_add_12 ?_
  refine j_aload_n 0 rfl dX2_add_15 ?_
  refine j_getfi fl_X2_88_2 rfl (f_lt hf (by decide)) (fk_2 hf) dX2_add_16 ?_
  refine j_iload_n 2 rfl dX2_add_19 ?_
  refine j_i2s dX2_add_20 ?_
  obtain ⟨b3, h⟩ := h
  refine j_sastJ (j := (A2 2 7).toNatClampNeg) (f_lt hf (by decide)) (fk_6 hf) b3 rfl dX2_add_21 (fun A4 eA4 => ?_)
  replace h := h A4 eA4
  refine j_aload_n 0 rfl dX2_add_22 ?_
  refine j_getfr fl_X2_74_2 rfl (f_lt hf (by decide)) (fk_2 hf) (fg_2_5 hf) dX2_add_23 ?_
  refine j_aload_n 0 rfl dX2_add_26 ?_
  refine j_getfi fl_X2_88_2 rfl (f_lt hf (by decide)) (fk_2 hf) dX2_add_27 ?_
  refine j_iload_n 3 rfl dX2_add_30 ?_
  refine j_i2s dX2_add_31 ?_
  obtain ⟨b5, h⟩ := h
  refine j_sastJ (j := (A4 2 7).toNatClampNeg) (f_lt hf (by decide)) (fk_7 hf) b5 rfl dX2_add_32 (fun A6 eA6 => ?_)
  replace h := h A6 eA6
  refine j_aload_n 0 rfl dX2_add_33 ?_
  refine j_getfr fl_X2_77_2 rfl (f_lt hf (by decide)) (fk_2 hf) (fg_2_6 hf) dX2_add_34 ?_
  refine j_aload_n 0 rfl dX2_add_37 ?_
  refine j_getfi fl_X2_88_2 rfl (f_lt hf (by decide)) (fk_2 hf) dX2_add_38 ?_
  refine j_iload 4 rfl dX2_add_41 ?_
  refine j_i2s dX2_add_43 ?_
  obtain ⟨b7, h⟩ := h
  refine j_sastJ (j := (A6 2 7).toNatClampNeg) (f_lt hf (by decide)) (fk_8 hf) b7 rfl dX2_add_44 (fun A8 eA8 => ?_)
  replace h := h A8 eA8
  refine j_aload_n 0 rfl dX2_add_45 ?_
  refine j_dup rfl dX2_add_46 ?_
  refine j_getfi fl_X2_88_2 rfl (f_lt hf (by decide)) (fk_2 hf) dX2_add_47 ?_
  refine j_iconst (v := 1) dX2_add_50 (by decide) ?_
  refine j_iadd dX2_add_51 ?_
  refine j_putfiE (fp_X2_88_2 _) rfl rfl rfl (f_lt hf (by decide)) (fk_2 hf) dX2_add_52 (fun A9 eA9 => ?_)
  replace h := h A9 eA9
  refine j_vret rfl ?_ dX2_add_55
  rw [hP]
  exact ⟨A9, rfl, rfl, h⟩
theorem myX2_word : jY yX2_word cX2_word 6 (some .int) 2 := ⟨q646, q126, by decide +kernel, by decide +kernel, by decide⟩
def fX2_word_J83 (A : pA) (k2 : Int32 → Int32 → Int32 → Prop) (Q : Int32 → Prop) (l1 : Int32) (l2 : Int32) (l3 : Int32) (l4 : Int32) : Prop :=
    (if l4 = 0 then k2 l1 l2 (l3 + 1) else Q l3)
theorem fX2_word_J83_ok {Γ : jG} {n : Nat} {K : Nat → pKd} {G : pG} {A : pA} {Lg : pL} (hf : fOK n K G) (Q : Int32 → Prop) (P : jO → pS → Prop) (hP : P = (fun o u => ∃ (r : Int32), o = .inl (some (.int r)) ∧ u = (n, K, A, Lg, G) ∧ Q r)) (k2 : Int32 → Int32 → Int32 → Prop) (ok2 : ∀ (l1 : Int32) (l2 : Int32) (l3 : Int32), k2 l1 l2 l3 → J Γ RX2 cX2_word 6 (some .int) "word" [] 5 0 0 2 [(0, .ref 2), (1, .int l1), (2, .int l2), (3, .int l3)] [] (n, K, A, Lg, G) P) (l1 : Int32) (l2 : Int32) (l3 : Int32) (l4 : Int32) (h : fX2_word_J83 A k2 Q l1 l2 l3 l4) : J Γ RX2 cX2_word 6 (some .int) "word" [] 5 0 0 83 [(0, .ref 2), (1, .int l1), (2, .int l2), (3, .int l3), (4, .int l4)] [] (n, K, A, Lg, G) P := by
  unfold fX2_word_J83 at h
  refine j_iload 4 rfl dX2_word_83 ?_
  refine j_if_eq (tgt := 90) dX2_word_85 (by decide) (fun c => ?_) (fun c => ?_)
  · rw [if_pos c] at h
    refine j_iinc (v := l3 + 1) 3 rfl rfl (by decide) rfl dX2_word_90 ?_
    refine j_goto (tgt := 2) dX2_word_93 (by decide) ?_
    refine j_ls [1, 2, 3, 0] rfl ?_
    exact ok2 l1 l2 (l3 + 1) h
  · rw [if_neg c] at h
    refine j_iload_n 3 rfl dX2_word_88 ?_
    refine j_iret rfl ?_ dX2_word_89
    rw [hP]
    exact ⟨l3, rfl, rfl, h⟩
def fX2_word_J75 (A : pA) (k36 : Int32 → Int32 → Int32 → Int32 → Int32 → Prop) (Q : Int32 → Prop) (l1 : Int32) (l2 : Int32) (l3 : Int32) (l5 : Int32) (s0 : Int32) : Prop :=
    k36 l1 l2 l3 s0 (l5 + 1)
theorem fX2_word_J75_ok {Γ : jG} {n : Nat} {K : Nat → pKd} {G : pG} {A : pA} {Lg : pL} (hf : fOK n K G) (Q : Int32 → Prop) (P : jO → pS → Prop) (hP : P = (fun o u => ∃ (r : Int32), o = .inl (some (.int r)) ∧ u = (n, K, A, Lg, G) ∧ Q r)) (k36 : Int32 → Int32 → Int32 → Int32 → Int32 → Prop) (ok36 : ∀ (l1 : Int32) (l2 : Int32) (l3 : Int32) (l4 : Int32) (l5 : Int32), k36 l1 l2 l3 l4 l5 → J Γ RX2 cX2_word 6 (some .int) "word" [] 5 0 0 36 [(0, .ref 2), (1, .int l1), (2, .int l2), (3, .int l3), (4, .int l4), (5, .int l5)] [] (n, K, A, Lg, G) P) (l1 : Int32) (l2 : Int32) (l3 : Int32) (l5 : Int32) (s0 : Int32) (h : fX2_word_J75 A k36 Q l1 l2 l3 l5 s0) : J Γ RX2 cX2_word 6 (some .int) "word" [] 5 0 0 75 [(0, .ref 2), (1, .int l1), (2, .int l2), (3, .int l3), (5, .int l5)] [.int s0] (n, K, A, Lg, G) P := by
  unfold fX2_word_J75 at h
  refine j_istore (by decide) rfl dX2_word_75 ?_
  refine j_iinc (v := l5 + 1) 5 rfl rfl (by decide) rfl dX2_word_77 ?_
  refine j_goto (tgt := 36) dX2_word_80 (by decide) ?_
  refine j_ls [2, 3, 4, 5, 1, 0] rfl ?_
  exact ok36 l1 l2 l3 s0 (l5 + 1) h
def fX2_word_L36 (A : pA) (k2 : Int32 → Int32 → Int32 → Prop) (Q : Int32 → Prop) : Nat → Int32 → Int32 → Int32 → Int32 → Int32 → Prop
  | 0, _, _, _, _, _ => False
  | n9 + 1, l1, l2, l3, l4, l5 =>
    (if l2 ≤ l5 then fX2_word_J83 A k2 Q l1 l2 l3 l4 else (if l4 = 0 then fX2_word_J83 A k2 Q l1 l2 l3 l4 else (vp_in l3 23) ∧ (fJ8_charAtX (1 + (l3).toNatClampNeg) A (l5 - l1) (fun r2 => (vp_in l5 2000) ∧ ((if r2 = (A 4 (l5).toNatClampNeg) then fX2_word_J75 A (fun x0 x1 x2 x3 x4 => fX2_word_L36 A k2 Q n9 x0 x1 x2 x3 x4) Q l1 l2 l3 l5 1 else fX2_word_J75 A (fun x0 x1 x2 x3 x4 => fX2_word_L36 A k2 Q n9 x0 x1 x2 x3 x4) Q l1 l2 l3 l5 0))))))
theorem fX2_word_L36_ok {Γ : jG} {n : Nat} {K : Nat → pKd} {G : pG} {A : pA} {Lg : pL} (hf : fOK n K G) (Q : Int32 → Prop) (P : jO → pS → Prop) (hP : P = (fun o u => ∃ (r : Int32), o = .inl (some (.int r)) ∧ u = (n, K, A, Lg, G) ∧ Q r))  (k2 : Int32 → Int32 → Int32 → Prop) (ok2 : ∀ (l1 : Int32) (l2 : Int32) (l3 : Int32), k2 l1 l2 l3 → J Γ RX2 cX2_word 6 (some .int) "word" [] 5 0 0 2 [(0, .ref 2), (1, .int l1), (2, .int l2), (3, .int l3)] [] (n, K, A, Lg, G) P) : ∀ (n9 : Nat) (l1 : Int32) (l2 : Int32) (l3 : Int32) (l4 : Int32) (l5 : Int32), fX2_word_L36 A k2 Q n9 l1 l2 l3 l4 l5 → J Γ RX2 cX2_word 6 (some .int) "word" [] 5 0 0 36 [(0, .ref 2), (1, .int l1), (2, .int l2), (3, .int l3), (4, .int l4), (5, .int l5)] [] (n, K, A, Lg, G) P := by
  intro n9
  induction n9 with
  | zero => intro l1 l2 l3 l4 l5 h; exact h.elim
  | succ n9 ih =>
    intro l1 l2 l3 l4 l5 h
    unfold fX2_word_L36 at h
    refine j_iload 5 rfl dX2_word_36 ?_
    refine j_iload_n 2 rfl dX2_word_38 ?_
    refine j_icmp_ge (tgt := 83) dX2_word_39 (by decide) (fun c => ?_) (fun c => ?_)
    · rw [if_pos c] at h
      refine j_ls [0, 1, 2, 3, 4] rfl ?_
      exact fX2_word_J83_ok hf Q P hP k2 ok2 l1 l2 l3 l4 h
    · rw [if_neg c] at h
      refine j_iload 4 rfl dX2_word_42 ?_
      refine j_if_eq (tgt := 83) dX2_word_44 (by decide) (fun c => ?_) (fun c => ?_)
      · rw [if_pos c] at h
        refine j_ls [0, 1, 2, 3, 4] rfl ?_
        exact fX2_word_J83_ok hf Q P hP k2 ok2 l1 l2 l3 l4 h
      · rw [if_neg c] at h
        refine j_aload_n 0 rfl dX2_word_47 ?_
        refine j_getfr fl_X2_57_2 rfl (f_lt hf (by decide)) (fk_2 hf) (fg_2_0 hf) dX2_word_48 ?_
        refine j_iload_n 3 rfl dX2_word_51 ?_
        obtain ⟨b1, h⟩ := h
        refine j_aaldJ (t := 5) (j := (l3).toNatClampNeg) rfl rfl rfl (f_lt hf (by decide)) (fk_3 hf) b1 rfl (words_row hf (j_ix b1)) dX2_word_52 ?_
        refine j_iload 5 rfl dX2_word_53 ?_
        refine j_iload_n 1 rfl dX2_word_55 ?_
        refine j_isub dX2_word_56 ?_
        refine j_callV (b := (1000000 + (1 + (l3).toNatClampNeg))) (As := [.int (l5 - l1)]) (st := []) (C := RJ8) (kc' := 0) (ks' := 0) (tJ8_charAtX hf (1 + (l3).toNatClampNeg) (words_lt (j_ix b1)) (l5 - l1) _ h) myJ8_charAt rfl q657 q658 q659 (by have := (words_lt (j_ix b1)); omega) (fun s9 H9 hK9 hR9 h69 => jIs_ext hK9 hR9 (words_lt (j_ix b1))) rfl (Nat.le_of_ble_eq_true rfl) rfl (by decide) (Nat.le_refl 0) (Nat.le_refl 0) dX2_word_57 (fun v9 u9 hq => ?_) (fun k9 u9 hq => by obtain ⟨_, e9, _⟩ := hq; cases e9)
        obtain ⟨r2, e9, rfl, h⟩ := hq
        obtain rfl := Sum.inl.inj e9
        show J Γ RX2 cX2_word 6 (some .int) "word" [] 5 0 0 60 [(0, .ref 2), (1, .int l1), (2, .int l2), (3, .int l3), (4, .int l4), (5, .int l5)] [.int r2] (n, K, A, Lg, G) P
        refine j_aload_n 0 rfl dX2_word_60 ?_
        refine j_getfr fl_X2_63_2 rfl (f_lt hf (by decide)) (fk_2 hf) (fg_2_1 hf) dX2_word_61 ?_
        refine j_iload 5 rfl dX2_word_64 ?_
        obtain ⟨b3, h⟩ := h
        refine j_baldJ (j := (l5).toNatClampNeg) (f_lt hf (by decide)) (fk_4 hf) b3 rfl dX2_word_66 ?_
        refine j_icmp_ne (tgt := 74) dX2_word_67 (by decide) (fun c => ?_) (fun c => ?_)
        · rw [if_neg c] at h
          refine j_iconst (v := 0) dX2_word_74 (by decide) ?_
          refine j_ls [0, 1, 2, 3, 5] rfl ?_
          exact fX2_word_J75_ok hf Q P hP (fun x0 x1 x2 x3 x4 => fX2_word_L36 A k2 Q n9 x0 x1 x2 x3 x4) (fun x0 x1 x2 x3 x4 h9 => ih x0 x1 x2 x3 x4 h9) l1 l2 l3 l5 0 h
        · rw [if_pos c] at h
          refine j_iconst (v := 1) dX2_word_70 (by decide) ?_
          refine j_goto (tgt := 75) dX2_word_71 (by decide) ?_
          refine j_ls [0, 1, 2, 3, 5] rfl ?_
          exact fX2_word_J75_ok hf Q P hP (fun x0 x1 x2 x3 x4 => fX2_word_L36 A k2 Q n9 x0 x1 x2 x3 x4) (fun x0 x1 x2 x3 x4 h9 => ih x0 x1 x2 x3 x4 h9) l1 l2 l3 l5 1 h
def fX2_word_J31 (A : pA) (k2 : Int32 → Int32 → Int32 → Prop) (Q : Int32 → Prop) (l1 : Int32) (l2 : Int32) (l3 : Int32) (s0 : Int32) : Prop :=
    ∃ m4, fX2_word_L36 A k2 Q m4 l1 l2 l3 s0 l1
theorem fX2_word_J31_ok {Γ : jG} {n : Nat} {K : Nat → pKd} {G : pG} {A : pA} {Lg : pL} (hf : fOK n K G) (Q : Int32 → Prop) (P : jO → pS → Prop) (hP : P = (fun o u => ∃ (r : Int32), o = .inl (some (.int r)) ∧ u = (n, K, A, Lg, G) ∧ Q r)) (k2 : Int32 → Int32 → Int32 → Prop) (ok2 : ∀ (l1 : Int32) (l2 : Int32) (l3 : Int32), k2 l1 l2 l3 → J Γ RX2 cX2_word 6 (some .int) "word" [] 5 0 0 2 [(0, .ref 2), (1, .int l1), (2, .int l2), (3, .int l3)] [] (n, K, A, Lg, G) P) (l1 : Int32) (l2 : Int32) (l3 : Int32) (s0 : Int32) (h : fX2_word_J31 A k2 Q l1 l2 l3 s0) : J Γ RX2 cX2_word 6 (some .int) "word" [] 5 0 0 31 [(0, .ref 2), (1, .int l1), (2, .int l2), (3, .int l3)] [.int s0] (n, K, A, Lg, G) P := by
  unfold fX2_word_J31 at h
  refine j_istore (by decide) rfl dX2_word_31 ?_
  refine j_iload_n 2 rfl dX2_word_33 ?_
  refine j_istore (by decide) rfl dX2_word_34 ?_
  refine j_ls [2, 3, 4, 5, 1, 0] rfl ?_
  obtain ⟨m4, h⟩ := h
  exact fX2_word_L36_ok hf Q P hP k2 ok2 m4 l1 l2 l3 s0 l1 h
def fX2_word_L2 (A : pA)  (Q : Int32 → Prop) : Nat → Int32 → Int32 → Int32 → Prop
  | 0, _, _, _ => False
  | n9 + 1, l1, l2, l3 =>
    (if 23 ≤ l3 then Q (-1) else (vp_in l3 23) ∧ (fJ8_lengthX (1 + (l3).toNatClampNeg) A (fun r6 => (if r6 = (l2 - l1) then fX2_word_J31 A (fun x0 x1 x2 => fX2_word_L2 A  Q n9 x0 x1 x2) Q l1 l2 l3 1 else fX2_word_J31 A (fun x0 x1 x2 => fX2_word_L2 A  Q n9 x0 x1 x2) Q l1 l2 l3 0))))
theorem fX2_word_L2_ok {Γ : jG} {n : Nat} {K : Nat → pKd} {G : pG} {A : pA} {Lg : pL} (hf : fOK n K G) (Q : Int32 → Prop) (P : jO → pS → Prop) (hP : P = (fun o u => ∃ (r : Int32), o = .inl (some (.int r)) ∧ u = (n, K, A, Lg, G) ∧ Q r))    : ∀ (n9 : Nat) (l1 : Int32) (l2 : Int32) (l3 : Int32), fX2_word_L2 A  Q n9 l1 l2 l3 → J Γ RX2 cX2_word 6 (some .int) "word" [] 5 0 0 2 [(0, .ref 2), (1, .int l1), (2, .int l2), (3, .int l3)] [] (n, K, A, Lg, G) P := by
  intro n9
  induction n9 with
  | zero => intro l1 l2 l3 h; exact h.elim
  | succ n9 ih =>
    intro l1 l2 l3 h
    unfold fX2_word_L2 at h
    refine j_iload_n 3 rfl dX2_word_2 ?_
    refine j_aload_n 0 rfl dX2_word_3 ?_
    refine j_getfr fl_X2_57_2 rfl (f_lt hf (by decide)) (fk_2 hf) (fg_2_0 hf) dX2_word_4 ?_
    refine j_alen (t := 5) rfl (f_lt hf (by decide)) (fk_3 hf) dX2_word_7 ?_
    show J Γ RX2 cX2_word 6 (some .int) "word" [] 5 0 0 8 [(0, .ref 2), (1, .int l1), (2, .int l2), (3, .int l3)] [.int 23, .int l3] (n, K, A, Lg, G) P
    refine j_icmp_ge (tgt := 96) dX2_word_8 (by decide) (fun c => ?_) (fun c => ?_)
    · rw [if_pos c] at h
      refine j_iconst (v := (-1)) dX2_word_96 (by decide) ?_
      refine j_iret rfl ?_ dX2_word_97
      rw [hP]
      exact ⟨(-1), rfl, rfl, h⟩
    · rw [if_neg c] at h
      refine j_aload_n 0 rfl dX2_word_11 ?_
      refine j_getfr fl_X2_57_2 rfl (f_lt hf (by decide)) (fk_2 hf) (fg_2_0 hf) dX2_word_12 ?_
      refine j_iload_n 3 rfl dX2_word_15 ?_
      obtain ⟨b5, h⟩ := h
      refine j_aaldJ (t := 5) (j := (l3).toNatClampNeg) rfl rfl rfl (f_lt hf (by decide)) (fk_3 hf) b5 rfl (words_row hf (j_ix b5)) dX2_word_16 ?_
      refine j_callV (b := (1000000 + (1 + (l3).toNatClampNeg))) (As := []) (st := []) (C := RJ8) (kc' := 0) (ks' := 0) (tJ8_lengthX hf (1 + (l3).toNatClampNeg) (words_lt (j_ix b5)) _ h) myJ8_length rfl q647 q648 q649 (by have := (words_lt (j_ix b5)); omega) (fun s9 H9 hK9 hR9 h69 => jIs_ext hK9 hR9 (words_lt (j_ix b5))) rfl (Nat.le_of_ble_eq_true rfl) rfl (by decide) (Nat.le_refl 0) (Nat.le_refl 0) dX2_word_17 (fun v9 u9 hq => ?_) (fun k9 u9 hq => by obtain ⟨_, e9, _⟩ := hq; cases e9)
      obtain ⟨r6, e9, rfl, h⟩ := hq
      obtain rfl := Sum.inl.inj e9
      show J Γ RX2 cX2_word 6 (some .int) "word" [] 5 0 0 20 [(0, .ref 2), (1, .int l1), (2, .int l2), (3, .int l3)] [.int r6] (n, K, A, Lg, G) P
      refine j_iload_n 2 rfl dX2_word_20 ?_
      refine j_iload_n 1 rfl dX2_word_21 ?_
      refine j_isub dX2_word_22 ?_
      refine j_icmp_ne (tgt := 30) dX2_word_23 (by decide) (fun c => ?_) (fun c => ?_)
      · rw [if_neg c] at h
        refine j_iconst (v := 0) dX2_word_30 (by decide) ?_
        exact fX2_word_J31_ok hf Q P hP (fun x0 x1 x2 => fX2_word_L2 A  Q n9 x0 x1 x2) (fun x0 x1 x2 h9 => ih x0 x1 x2 h9) l1 l2 l3 0 h
      · rw [if_pos c] at h
        refine j_iconst (v := 1) dX2_word_26 (by decide) ?_
        refine j_goto (tgt := 31) dX2_word_27 (by decide) ?_
        exact fX2_word_J31_ok hf Q P hP (fun x0 x1 x2 => fX2_word_L2 A  Q n9 x0 x1 x2) (fun x0 x1 x2 h9 => ih x0 x1 x2 h9) l1 l2 l3 1 h
def fX2_word (A : pA) (p1 : Int32) (p2 : Int32) (Q : Int32 → Prop) : Prop :=
    ∃ m7, fX2_word_L2 A  Q m7 p1 p2 0
theorem tX2_word {Γ : jG} {n : Nat} {K : Nat → pKd} {G : pG} {A : pA} {Lg : pL} (hf : fOK n K G) (p1 : Int32) (p2 : Int32) (Q : Int32 → Prop) (h : fX2_word A p1 p2 Q) : jMet Γ yX2_word cX2_word 6 (some .int) [] 5 0 0 [.ref 2, .int p1, .int p2] (n, K, A, Lg, G) (fun o u => ∃ (r : Int32), o = .inl (some (.int r)) ∧ u = (n, K, A, Lg, G) ∧ Q r) := by
  unfold fX2_word at h
  obtain ⟨P, hP⟩ : ∃ P : jO → pS → Prop, P = (fun o u => ∃ (r : Int32), o = .inl (some (.int r)) ∧ u = (n, K, A, Lg, G) ∧ Q r) := ⟨_, rfl⟩
  rw [← hP]
  refine jMet_of rfl rfl rfl (Nat.le_of_ble_eq_true rfl) ?_
  show J Γ RX2 cX2_word 6 (some .int) "word" [] 5 0 0 0 [(0, .ref 2), (1, .int p1), (2, .int p2)] [] (n, K, A, Lg, G) P
  refine j_iconst (v := 0) dX2_word_0 (by decide) ?_
  refine j_istore_n (by decide) rfl dX2_word_1 ?_
  refine j_ls [1, 2, 3, 0] rfl ?_
  obtain ⟨m7, h⟩ := h
  exact fX2_word_L2_ok hf Q P hP   m7 p1 p2 0 h
theorem myX2_sign : jY yX2_sign cX2_sign 3 (some .int) 1 := ⟨q700, q126, by decide +kernel, by decide +kernel, by decide⟩
def fX2_sign (A : pA) (p1 : Int32) (Q : Int32 → Prop) : Prop :=
    fX2_at A p1 (fun r1 => (if r1 = 40 then Q r1 else (if r1 = 41 then Q r1 else (if r1 = 42 then Q r1 else (if r1 = 43 then Q r1 else (if r1 = 44 then Q 0 else (if r1 = 45 then Q r1 else (if r1 = 46 then Q 0 else (if r1 = 47 then Q r1 else (if r1 = 48 then Q 0 else (if r1 = 49 then Q 0 else (if r1 = 50 then Q 0 else (if r1 = 51 then Q 0 else (if r1 = 52 then Q 0 else (if r1 = 53 then Q 0 else (if r1 = 54 then Q 0 else (if r1 = 55 then Q 0 else (if r1 = 56 then Q 0 else (if r1 = 57 then Q 0 else (if r1 = 58 then Q 0 else (if r1 = 59 then Q r1 else (if r1 = 60 then Q r1 else (if r1 = 61 then Q r1 else (Q 0))))))))))))))))))))))))
theorem tX2_sign {Γ : jG} {n : Nat} {K : Nat → pKd} {G : pG} {A : pA} {Lg : pL} (hf : fOK n K G) (p1 : Int32) (Q : Int32 → Prop) (h : fX2_sign A p1 Q) : jMet Γ yX2_sign cX2_sign 3 (some .int) [] 2 0 0 [.ref 2, .int p1] (n, K, A, Lg, G) (fun o u => ∃ (r : Int32), o = .inl (some (.int r)) ∧ u = (n, K, A, Lg, G) ∧ Q r) := by
  unfold fX2_sign at h
  obtain ⟨P, hP⟩ : ∃ P : jO → pS → Prop, P = (fun o u => ∃ (r : Int32), o = .inl (some (.int r)) ∧ u = (n, K, A, Lg, G) ∧ Q r) := ⟨_, rfl⟩
  rw [← hP]
  refine jMet_of rfl rfl rfl (Nat.le_of_ble_eq_true rfl) ?_
  show J Γ RX2 cX2_sign 3 (some .int) "sign" [] 2 0 0 0 [(0, .ref 2), (1, .int p1)] [] (n, K, A, Lg, G) P
  refine j_aload_n 0 rfl dX2_sign_0 ?_
  refine j_iload_n 1 rfl dX2_sign_1 ?_
  refine j_callV (b := 2) (As := [.int p1]) (st := []) (C := RX2) (kc' := 0) (ks' := 0) (tX2_at hf p1 _ h) myX2_at rfl q639 q641 qs3 (by decide) (fun s9 H9 hK9 hR9 h69 => jIs_in hK9 hR9 h69 (f_lt hf (by decide)) (fk_2 hf) rfl) rfl (Nat.le_of_ble_eq_true rfl) rfl (by decide) (Nat.le_refl 0) (Nat.le_refl 0) dX2_sign_2 (fun v9 u9 hq => ?_) (fun k9 u9 hq => by obtain ⟨_, e9, _⟩ := hq; cases e9)
  obtain ⟨r1, e9, rfl, h⟩ := hq
  obtain rfl := Sum.inl.inj e9
  show J Γ RX2 cX2_sign 3 (some .int) "sign" [] 2 0 0 5 [(0, .ref 2), (1, .int p1)] [.int r1] (n, K, A, Lg, G) P
  refine j_istore_n (by decide) rfl dX2_sign_5 ?_
  refine j_iload_n 0 rfl dX2_sign_6 ?_
  by_cases c2 : r1 = 40
  · rw [if_pos c2] at h
    have c2T : (r1 : Int32).toInt = 40 := by rw [c2]; rfl
    refine j_tableIn (off := 101) (tgt := 108) (by rw [c2T]; decide) (by rw [c2T]; decide) (by rw [c2T]; rfl) dX2_sign_7 (by decide) ?_
    refine j_iload_n 0 rfl dX2_sign_108 ?_
    refine j_iret rfl ?_ dX2_sign_109
    rw [hP]
    exact ⟨r1, rfl, rfl, h⟩
  rw [if_neg c2] at h
  by_cases c3 : r1 = 41
  · rw [if_pos c3] at h
    have c3T : (r1 : Int32).toInt = 41 := by rw [c3]; rfl
    refine j_tableIn (off := 101) (tgt := 108) (by rw [c3T]; decide) (by rw [c3T]; decide) (by rw [c3T]; rfl) dX2_sign_7 (by decide) ?_
    refine j_iload_n 0 rfl dX2_sign_108 ?_
    refine j_iret rfl ?_ dX2_sign_109
    rw [hP]
    exact ⟨r1, rfl, rfl, h⟩
  rw [if_neg c3] at h
  by_cases c4 : r1 = 42
  · rw [if_pos c4] at h
    have c4T : (r1 : Int32).toInt = 42 := by rw [c4]; rfl
    refine j_tableIn (off := 101) (tgt := 108) (by rw [c4T]; decide) (by rw [c4T]; decide) (by rw [c4T]; rfl) dX2_sign_7 (by decide) ?_
    refine j_iload_n 0 rfl dX2_sign_108 ?_
    refine j_iret rfl ?_ dX2_sign_109
    rw [hP]
    exact ⟨r1, rfl, rfl, h⟩
  rw [if_neg c4] at h
  by_cases c5 : r1 = 43
  · rw [if_pos c5] at h
    have c5T : (r1 : Int32).toInt = 43 := by rw [c5]; rfl
    refine j_tableIn (off := 101) (tgt := 108) (by rw [c5T]; decide) (by rw [c5T]; decide) (by rw [c5T]; rfl) dX2_sign_7 (by decide) ?_
    refine j_iload_n 0 rfl dX2_sign_108 ?_
    refine j_iret rfl ?_ dX2_sign_109
    rw [hP]
    exact ⟨r1, rfl, rfl, h⟩
  rw [if_neg c5] at h
  by_cases c6 : r1 = 44
  · rw [if_pos c6] at h
    have c6T : (r1 : Int32).toInt = 44 := by rw [c6]; rfl
    refine j_tableIn (off := 103) (tgt := 110) (by rw [c6T]; decide) (by rw [c6T]; decide) (by rw [c6T]; rfl) dX2_sign_7 (by decide) ?_
    refine j_iconst (v := 0) dX2_sign_110 (by decide) ?_
    refine j_iret rfl ?_ dX2_sign_111
    rw [hP]
    exact ⟨0, rfl, rfl, h⟩
  rw [if_neg c6] at h
  by_cases c7 : r1 = 45
  · rw [if_pos c7] at h
    have c7T : (r1 : Int32).toInt = 45 := by rw [c7]; rfl
    refine j_tableIn (off := 101) (tgt := 108) (by rw [c7T]; decide) (by rw [c7T]; decide) (by rw [c7T]; rfl) dX2_sign_7 (by decide) ?_
    refine j_iload_n 0 rfl dX2_sign_108 ?_
    refine j_iret rfl ?_ dX2_sign_109
    rw [hP]
    exact ⟨r1, rfl, rfl, h⟩
  rw [if_neg c7] at h
  by_cases c8 : r1 = 46
  · rw [if_pos c8] at h
    have c8T : (r1 : Int32).toInt = 46 := by rw [c8]; rfl
    refine j_tableIn (off := 103) (tgt := 110) (by rw [c8T]; decide) (by rw [c8T]; decide) (by rw [c8T]; rfl) dX2_sign_7 (by decide) ?_
    refine j_iconst (v := 0) dX2_sign_110 (by decide) ?_
    refine j_iret rfl ?_ dX2_sign_111
    rw [hP]
    exact ⟨0, rfl, rfl, h⟩
  rw [if_neg c8] at h
  by_cases c9 : r1 = 47
  · rw [if_pos c9] at h
    have c9T : (r1 : Int32).toInt = 47 := by rw [c9]; rfl
    refine j_tableIn (off := 101) (tgt := 108) (by rw [c9T]; decide) (by rw [c9T]; decide) (by rw [c9T]; rfl) dX2_sign_7 (by decide) ?_
    refine j_iload_n 0 rfl dX2_sign_108 ?_
    refine j_iret rfl ?_ dX2_sign_109
    rw [hP]
    exact ⟨r1, rfl, rfl, h⟩
  rw [if_neg c9] at h
  by_cases c10 : r1 = 48
  · rw [if_pos c10] at h
    have c10T : (r1 : Int32).toInt = 48 := by rw [c10]; rfl
    refine j_tableIn (off := 103) (tgt := 110) (by rw [c10T]; decide) (by rw [c10T]; decide) (by rw [c10T]; rfl) dX2_sign_7 (by decide) ?_
    refine j_iconst (v := 0) dX2_sign_110 (by decide) ?_
    refine j_iret rfl ?_ dX2_sign_111
    rw [hP]
    exact ⟨0, rfl, rfl, h⟩
  rw [if_neg c10] at h
  by_cases c11 : r1 = 49
  · rw [if_pos c11] at h
    have c11T : (r1 : Int32).toInt = 49 := by rw [c11]; rfl
    refine j_tableIn (off := 103) (tgt := 110) (by rw [c11T]; decide) (by rw [c11T]; decide) (by rw [c11T]; rfl) dX2_sign_7 (by decide) ?_
    refine j_iconst (v := 0) dX2_sign_110 (by decide) ?_
    refine j_iret rfl ?_ dX2_sign_111
    rw [hP]
    exact ⟨0, rfl, rfl, h⟩
  rw [if_neg c11] at h
  by_cases c12 : r1 = 50
  · rw [if_pos c12] at h
    have c12T : (r1 : Int32).toInt = 50 := by rw [c12]; rfl
    refine j_tableIn (off := 103) (tgt := 110) (by rw [c12T]; decide) (by rw [c12T]; decide) (by rw [c12T]; rfl) dX2_sign_7 (by decide) ?_
    refine j_iconst (v := 0) dX2_sign_110 (by decide) ?_
    refine j_iret rfl ?_ dX2_sign_111
    rw [hP]
    exact ⟨0, rfl, rfl, h⟩
  rw [if_neg c12] at h
  by_cases c13 : r1 = 51
  · rw [if_pos c13] at h
    have c13T : (r1 : Int32).toInt = 51 := by rw [c13]; rfl
    refine j_tableIn (off := 103) (tgt := 110) (by rw [c13T]; decide) (by rw [c13T]; decide) (by rw [c13T]; rfl) dX2_sign_7 (by decide) ?_
    refine j_iconst (v := 0) dX2_sign_110 (by decide) ?_
    refine j_iret rfl ?_ dX2_sign_111
    rw [hP]
    exact ⟨0, rfl, rfl, h⟩
  rw [if_neg c13] at h
  by_cases c14 : r1 = 52
  · rw [if_pos c14] at h
    have c14T : (r1 : Int32).toInt = 52 := by rw [c14]; rfl
    refine j_tableIn (off := 103) (tgt := 110) (by rw [c14T]; decide) (by rw [c14T]; decide) (by rw [c14T]; rfl) dX2_sign_7 (by decide) ?_
    refine j_iconst (v := 0) dX2_sign_110 (by decide) ?_
    refine j_iret rfl ?_ dX2_sign_111
    rw [hP]
    exact ⟨0, rfl, rfl, h⟩
  rw [if_neg c14] at h
  by_cases c15 : r1 = 53
  · rw [if_pos c15] at h
    have c15T : (r1 : Int32).toInt = 53 := by rw [c15]; rfl
    refine j_tableIn (off := 103) (tgt := 110) (by rw [c15T]; decide) (by rw [c15T]; decide) (by rw [c15T]; rfl) dX2_sign_7 (by decide) ?_
    refine j_iconst (v := 0) dX2_sign_110 (by decide) ?_
    refine j_iret rfl ?_ dX2_sign_111
    rw [hP]
    exact ⟨0, rfl, rfl, h⟩
  rw [if_neg c15] at h
  by_cases c16 : r1 = 54
  · rw [if_pos c16] at h
    have c16T : (r1 : Int32).toInt = 54 := by rw [c16]; rfl
    refine j_tableIn (off := 103) (tgt := 110) (by rw [c16T]; decide) (by rw [c16T]; decide) (by rw [c16T]; rfl) dX2_sign_7 (by decide) ?_
    refine j_iconst (v := 0) dX2_sign_110 (by decide) ?_
    refine j_iret rfl ?_ dX2_sign_111
    rw [hP]
    exact ⟨0, rfl, rfl, h⟩
  rw [if_neg c16] at h
  by_cases c17 : r1 = 55
  · rw [if_pos c17] at h
    have c17T : (r1 : Int32).toInt = 55 := by rw [c17]; rfl
    refine j_tableIn (off := 103) (tgt := 110) (by rw [c17T]; decide) (by rw [c17T]; decide) (by rw [c17T]; rfl) dX2_sign_7 (by decide) ?_
    refine j_iconst (v := 0) dX2_sign_110 (by decide) ?_
    refine j_iret rfl ?_ dX2_sign_111
    rw [hP]
    exact ⟨0, rfl, rfl, h⟩
  rw [if_neg c17] at h
  by_cases c18 : r1 = 56
  · rw [if_pos c18] at h
    have c18T : (r1 : Int32).toInt = 56 := by rw [c18]; rfl
    refine j_tableIn (off := 103) (tgt := 110) (by rw [c18T]; decide) (by rw [c18T]; decide) (by rw [c18T]; rfl) dX2_sign_7 (by decide) ?_
    refine j_iconst (v := 0) dX2_sign_110 (by decide) ?_
    refine j_iret rfl ?_ dX2_sign_111
    rw [hP]
    exact ⟨0, rfl, rfl, h⟩
  rw [if_neg c18] at h
  by_cases c19 : r1 = 57
  · rw [if_pos c19] at h
    have c19T : (r1 : Int32).toInt = 57 := by rw [c19]; rfl
    refine j_tableIn (off := 103) (tgt := 110) (by rw [c19T]; decide) (by rw [c19T]; decide) (by rw [c19T]; rfl) dX2_sign_7 (by decide) ?_
    refine j_iconst (v := 0) dX2_sign_110 (by decide) ?_
    refine j_iret rfl ?_ dX2_sign_111
    rw [hP]
    exact ⟨0, rfl, rfl, h⟩
  rw [if_neg c19] at h
  by_cases c20 : r1 = 58
  · rw [if_pos c20] at h
    have c20T : (r1 : Int32).toInt = 58 := by rw [c20]; rfl
    refine j_tableIn (off := 103) (tgt := 110) (by rw [c20T]; decide) (by rw [c20T]; decide) (by rw [c20T]; rfl) dX2_sign_7 (by decide) ?_
    refine j_iconst (v := 0) dX2_sign_110 (by decide) ?_
    refine j_iret rfl ?_ dX2_sign_111
    rw [hP]
    exact ⟨0, rfl, rfl, h⟩
  rw [if_neg c20] at h
  by_cases c21 : r1 = 59
  · rw [if_pos c21] at h
    have c21T : (r1 : Int32).toInt = 59 := by rw [c21]; rfl
    refine j_tableIn (off := 101) (tgt := 108) (by rw [c21T]; decide) (by rw [c21T]; decide) (by rw [c21T]; rfl) dX2_sign_7 (by decide) ?_
    refine j_iload_n 0 rfl dX2_sign_108 ?_
    refine j_iret rfl ?_ dX2_sign_109
    rw [hP]
    exact ⟨r1, rfl, rfl, h⟩
  rw [if_neg c21] at h
  by_cases c22 : r1 = 60
  · rw [if_pos c22] at h
    have c22T : (r1 : Int32).toInt = 60 := by rw [c22]; rfl
    refine j_tableIn (off := 101) (tgt := 108) (by rw [c22T]; decide) (by rw [c22T]; decide) (by rw [c22T]; rfl) dX2_sign_7 (by decide) ?_
    refine j_iload_n 0 rfl dX2_sign_108 ?_
    refine j_iret rfl ?_ dX2_sign_109
    rw [hP]
    exact ⟨r1, rfl, rfl, h⟩
  rw [if_neg c22] at h
  by_cases c23 : r1 = 61
  · rw [if_pos c23] at h
    have c23T : (r1 : Int32).toInt = 61 := by rw [c23]; rfl
    refine j_tableIn (off := 101) (tgt := 108) (by rw [c23T]; decide) (by rw [c23T]; decide) (by rw [c23T]; rfl) dX2_sign_7 (by decide) ?_
    refine j_iload_n 0 rfl dX2_sign_108 ?_
    refine j_iret rfl ?_ dX2_sign_109
    rw [hP]
    exact ⟨r1, rfl, rfl, h⟩
  rw [if_neg c23] at h
  refine j_tableOut (tgt := 110) (by have c2T := lv_neT c2 (a := 40) rfl; have c3T := lv_neT c3 (a := 41) rfl; have c4T := lv_neT c4 (a := 42) rfl; have c5T := lv_neT c5 (a := 43) rfl; have c6T := lv_neT c6 (a := 44) rfl; have c7T := lv_neT c7 (a := 45) rfl; have c8T := lv_neT c8 (a := 46) rfl; have c9T := lv_neT c9 (a := 47) rfl; have c10T := lv_neT c10 (a := 48) rfl; have c11T := lv_neT c11 (a := 49) rfl; have c12T := lv_neT c12 (a := 50) rfl; have c13T := lv_neT c13 (a := 51) rfl; have c14T := lv_neT c14 (a := 52) rfl; have c15T := lv_neT c15 (a := 53) rfl; have c16T := lv_neT c16 (a := 54) rfl; have c17T := lv_neT c17 (a := 55) rfl; have c18T := lv_neT c18 (a := 56) rfl; have c19T := lv_neT c19 (a := 57) rfl; have c20T := lv_neT c20 (a := 58) rfl; have c21T := lv_neT c21 (a := 59) rfl; have c22T := lv_neT c22 (a := 60) rfl; have c23T := lv_neT c23 (a := 61) rfl; omega) dX2_sign_7 (by decide) ?_
  refine j_iconst (v := 0) dX2_sign_110 (by decide) ?_
  refine j_iret rfl ?_ dX2_sign_111
  rw [hP]
  exact ⟨0, rfl, rfl, h⟩
theorem myX2_read : jY yX2_read cX2_read 7 none 0 := ⟨q634, q126, by decide +kernel, by decide +kernel, by decide⟩
def fX2_read_J215   (Q : pA → Prop) (l1 : Int32) (l2 : Int32) (A : pA) : Prop :=
    (if l2 = 0 then Q A else fX2_add A 4 l1 l1 0 (fun A1 => Q A1))
theorem fX2_read_J215_ok {Γ : jG} {n : Nat} {K : Nat → pKd} {G : pG} {Lg : pL} (hf : fOK n K G) (Q : pA → Prop) (P : jO → pS → Prop) (hP : P = (fun o u => ∃ (A' : pA), o = .inl none ∧ u = (n, K, A', Lg, G) ∧ Q A'))   (l1 : Int32) (l2 : Int32) (A : pA) (h : fX2_read_J215   Q l1 l2 A) : J Γ RX2 cX2_read 7 none "read" [] 6 0 0 215 [(0, .ref 2), (1, .int l1), (2, .int l2)] [] (n, K, A, Lg, G) P := by
  unfold fX2_read_J215 at h
  refine j_iload_n 2 rfl dX2_read_215 ?_
  refine j_if_eq (tgt := 227) dX2_read_216 (by decide) (fun c => ?_) (fun c => ?_)
  · rw [if_pos c] at h
    refine j_vret rfl ?_ dX2_read_227
    rw [hP]
    exact ⟨A, rfl, rfl, h⟩
  · rw [if_neg c] at h
    refine j_aload_n 0 rfl dX2_read_219 ?_
    refine j_iconst (v := 4) dX2_read_220 (by decide) ?_
    refine j_iload_n 1 rfl dX2_read_221 ?_
    refine j_iload_n 1 rfl dX2_read_222 ?_
    refine j_iconst (v := 0) dX2_read_223 (by decide) ?_
    refine j_callV (b := 2) (As := [.int 4, .int l1, .int l1, .int 0]) (st := []) (C := RX2) (kc' := 0) (ks' := 0) (tX2_add hf 4 l1 l1 0 _ h) myX2_add rfl q701 q703 qs7 (by decide) (fun s9 H9 hK9 hR9 h69 => jIs_in hK9 hR9 h69 (f_lt hf (by decide)) (fk_2 hf) rfl) rfl (Nat.le_of_ble_eq_true rfl) rfl (by decide) (Nat.le_refl 0) (Nat.le_refl 0) dX2_read_224 (fun v9 u9 hq => ?_) (fun k9 u9 hq => by obtain ⟨_, e9, _⟩ := hq; cases e9)
    obtain ⟨A1, e9, rfl, h⟩ := hq
    obtain rfl := Sum.inl.inj e9
    show J Γ RX2 cX2_read 7 none "read" [] 6 0 0 227 [(0, .ref 2), (1, .int l1), (2, .int l2)] [] (n, K, A1, Lg, G) P
    refine j_vret rfl ?_ dX2_read_227
    rw [hP]
    exact ⟨A1, rfl, rfl, h⟩
def fX2_read_J57  (k9 : Int32 → Int32 → pA → Prop) (Q : pA → Prop) (l1 : Int32) (l2 : Int32) (A : pA) : Prop :=
    k9 (l1 + 1) l2 A
theorem fX2_read_J57_ok {Γ : jG} {n : Nat} {K : Nat → pKd} {G : pG} {Lg : pL} (hf : fOK n K G) (Q : pA → Prop) (P : jO → pS → Prop) (hP : P = (fun o u => ∃ (A' : pA), o = .inl none ∧ u = (n, K, A', Lg, G) ∧ Q A')) (k9 : Int32 → Int32 → pA → Prop) (ok9 : ∀ (l1 : Int32) (l2 : Int32) (A : pA), k9 l1 l2 A → J Γ RX2 cX2_read 7 none "read" [] 6 0 0 9 [(0, .ref 2), (1, .int l1), (2, .int l2)] [] (n, K, A, Lg, G) P) (l1 : Int32) (l2 : Int32) (A : pA) (h : fX2_read_J57  k9 Q l1 l2 A) : J Γ RX2 cX2_read 7 none "read" [] 6 0 0 57 [(0, .ref 2), (1, .int l1), (2, .int l2)] [] (n, K, A, Lg, G) P := by
  unfold fX2_read_J57 at h
  refine j_iinc (v := l1 + 1) 1 rfl rfl (by decide) rfl dX2_read_57 ?_
  refine j_goto (tgt := 9) dX2_read_60 (by decide) ?_
  refine j_ls [1, 0, 2] rfl ?_
  exact ok9 (l1 + 1) l2 A h
def fX2_read_J208  (k9 : Int32 → Int32 → pA → Prop) (Q : pA → Prop) (l4 : Int32) (s0 : Int32) (A : pA) : Prop :=
    k9 l4 s0 A
theorem fX2_read_J208_ok {Γ : jG} {n : Nat} {K : Nat → pKd} {G : pG} {Lg : pL} (hf : fOK n K G) (Q : pA → Prop) (P : jO → pS → Prop) (hP : P = (fun o u => ∃ (A' : pA), o = .inl none ∧ u = (n, K, A', Lg, G) ∧ Q A')) (k9 : Int32 → Int32 → pA → Prop) (ok9 : ∀ (l1 : Int32) (l2 : Int32) (A : pA), k9 l1 l2 A → J Γ RX2 cX2_read 7 none "read" [] 6 0 0 9 [(0, .ref 2), (1, .int l1), (2, .int l2)] [] (n, K, A, Lg, G) P) (l4 : Int32) (s0 : Int32) (A : pA) (h : fX2_read_J208  k9 Q l4 s0 A) : J Γ RX2 cX2_read 7 none "read" [] 6 0 0 208 [(0, .ref 2), (4, .int l4)] [.int s0] (n, K, A, Lg, G) P := by
  unfold fX2_read_J208 at h
  refine j_istore_n (by decide) rfl dX2_read_208 ?_
  refine j_iload 2 rfl dX2_read_209 ?_
  refine j_istore_n (by decide) rfl dX2_read_211 ?_
  refine j_goto (tgt := 9) dX2_read_212 (by decide) ?_
  refine j_ls [2, 0, 1] rfl ?_
  exact ok9 l4 s0 A h
def fX2_read_J186  (k9 : Int32 → Int32 → pA → Prop) (Q : pA → Prop) (l1 : Int32) (l4 : Int32) (l5 : Int32) (l6 : Int32) (A : pA) : Prop :=
    fX2_add A l5 l1 l4 l6 (fun A2 => (if l5 = 5 then fX2_read_J208  k9 Q l4 0 A2 else fX2_read_J208  k9 Q l4 1 A2))
theorem fX2_read_J186_ok {Γ : jG} {n : Nat} {K : Nat → pKd} {G : pG} {Lg : pL} (hf : fOK n K G) (Q : pA → Prop) (P : jO → pS → Prop) (hP : P = (fun o u => ∃ (A' : pA), o = .inl none ∧ u = (n, K, A', Lg, G) ∧ Q A')) (k9 : Int32 → Int32 → pA → Prop) (ok9 : ∀ (l1 : Int32) (l2 : Int32) (A : pA), k9 l1 l2 A → J Γ RX2 cX2_read 7 none "read" [] 6 0 0 9 [(0, .ref 2), (1, .int l1), (2, .int l2)] [] (n, K, A, Lg, G) P) (l1 : Int32) (l4 : Int32) (l5 : Int32) (l6 : Int32) (A : pA) (h : fX2_read_J186  k9 Q l1 l4 l5 l6 A) : J Γ RX2 cX2_read 7 none "read" [] 6 0 0 186 [(0, .ref 2), (1, .int l1), (4, .int l4), (5, .int l5), (6, .int l6)] [] (n, K, A, Lg, G) P := by
  unfold fX2_read_J186 at h
  refine j_aload_n 0 rfl dX2_read_186 ?_
  refine j_iload 3 rfl dX2_read_187 ?_
  refine j_iload_n 1 rfl dX2_read_189 ?_
  refine j_iload 2 rfl dX2_read_190 ?_
  refine j_iload 4 rfl dX2_read_192 ?_
  refine j_callV (b := 2) (As := [.int l5, .int l1, .int l4, .int l6]) (st := []) (C := RX2) (kc' := 0) (ks' := 0) (tX2_add hf l5 l1 l4 l6 _ h) myX2_add rfl q701 q703 qs7 (by decide) (fun s9 H9 hK9 hR9 h69 => jIs_in hK9 hR9 h69 (f_lt hf (by decide)) (fk_2 hf) rfl) rfl (Nat.le_of_ble_eq_true rfl) rfl (by decide) (Nat.le_refl 0) (Nat.le_refl 0) dX2_read_194 (fun v9 u9 hq => ?_) (fun k9 u9 hq => by obtain ⟨_, e9, _⟩ := hq; cases e9)
  obtain ⟨A2, e9, rfl, h⟩ := hq
  obtain rfl := Sum.inl.inj e9
  show J Γ RX2 cX2_read 7 none "read" [] 6 0 0 197 [(0, .ref 2), (1, .int l1), (4, .int l4), (5, .int l5), (6, .int l6)] [] (n, K, A2, Lg, G) P
  refine j_iload 3 rfl dX2_read_197 ?_
  refine j_iconst (v := 5) dX2_read_199 (by decide) ?_
  refine j_icmp_eq (tgt := 207) dX2_read_200 (by decide) (fun c => ?_) (fun c => ?_)
  · rw [if_pos c] at h
    refine j_iconst (v := 0) dX2_read_207 (by decide) ?_
    refine j_ls [0, 2] rfl ?_
    exact fX2_read_J208_ok hf Q P hP k9 ok9 l4 0 A2 h
  · rw [if_neg c] at h
    refine j_iconst (v := 1) dX2_read_203 (by decide) ?_
    refine j_goto (tgt := 208) dX2_read_204 (by decide) ?_
    refine j_ls [0, 2] rfl ?_
    exact fX2_read_J208_ok hf Q P hP k9 ok9 l4 1 A2 h
def fX2_read_J121  (k9 : Int32 → Int32 → pA → Prop) (Q : pA → Prop) (l1 : Int32) (l4 : Int32) (l6 : Int32) (s0 : Int32) (A : pA) : Prop :=
    fX2_read_J186  k9 Q l1 l4 s0 l6 A
theorem fX2_read_J121_ok {Γ : jG} {n : Nat} {K : Nat → pKd} {G : pG} {Lg : pL} (hf : fOK n K G) (Q : pA → Prop) (P : jO → pS → Prop) (hP : P = (fun o u => ∃ (A' : pA), o = .inl none ∧ u = (n, K, A', Lg, G) ∧ Q A')) (k9 : Int32 → Int32 → pA → Prop) (ok9 : ∀ (l1 : Int32) (l2 : Int32) (A : pA), k9 l1 l2 A → J Γ RX2 cX2_read 7 none "read" [] 6 0 0 9 [(0, .ref 2), (1, .int l1), (2, .int l2)] [] (n, K, A, Lg, G) P) (l1 : Int32) (l4 : Int32) (l6 : Int32) (s0 : Int32) (A : pA) (h : fX2_read_J121  k9 Q l1 l4 l6 s0 A) : J Γ RX2 cX2_read 7 none "read" [] 6 0 0 121 [(0, .ref 2), (1, .int l1), (4, .int l4), (6, .int l6)] [.int s0] (n, K, A, Lg, G) P := by
  unfold fX2_read_J121 at h
  refine j_istore (by decide) rfl dX2_read_121 ?_
  refine j_goto (tgt := 186) dX2_read_123 (by decide) ?_
  refine j_ls [1, 2, 3, 0, 4] rfl ?_
  exact fX2_read_J186_ok hf Q P hP k9 ok9 l1 l4 s0 l6 A h
def fX2_read_L74  (k9 : Int32 → Int32 → pA → Prop) (Q : pA → Prop) : Nat → Int32 → Int32 → pA → Prop
  | 0, _, _, _ => False
  | n9 + 1, l1, l4, A =>
    fX2_isLetter A l4 (fun r3 => (if r3 = 0 then fX2_word A l1 l4 (fun r4 => (if r4 < 0 then (if (l4 - l1) ≤ 8 then fX2_read_J121  k9 Q l1 l4 r4 0 A else fX2_read_J121  k9 Q l1 l4 r4 5 A) else fX2_read_J121  k9 Q l1 l4 r4 3 A)) else fX2_read_L74  k9 Q n9 l1 (l4 + 1) A))
theorem fX2_read_L74_ok {Γ : jG} {n : Nat} {K : Nat → pKd} {G : pG} {Lg : pL} (hf : fOK n K G) (Q : pA → Prop) (P : jO → pS → Prop) (hP : P = (fun o u => ∃ (A' : pA), o = .inl none ∧ u = (n, K, A', Lg, G) ∧ Q A'))  (k9 : Int32 → Int32 → pA → Prop) (ok9 : ∀ (l1 : Int32) (l2 : Int32) (A : pA), k9 l1 l2 A → J Γ RX2 cX2_read 7 none "read" [] 6 0 0 9 [(0, .ref 2), (1, .int l1), (2, .int l2)] [] (n, K, A, Lg, G) P) : ∀ (n9 : Nat) (l1 : Int32) (l4 : Int32) (A : pA), fX2_read_L74  k9 Q n9 l1 l4 A → J Γ RX2 cX2_read 7 none "read" [] 6 0 0 74 [(0, .ref 2), (1, .int l1), (4, .int l4)] [] (n, K, A, Lg, G) P := by
  intro n9
  induction n9 with
  | zero => intro l1 l4 A h; exact h.elim
  | succ n9 ih =>
    intro l1 l4 A h
    unfold fX2_read_L74 at h
    refine j_aload_n 0 rfl dX2_read_74 ?_
    refine j_iload 2 rfl dX2_read_75 ?_
    refine j_callV (b := 2) (As := [.int l4]) (st := []) (C := RX2) (kc' := 0) (ks' := 0) (tX2_isLetter hf l4 _ h) myX2_isLetter rfl q635 q637 qs2 (by decide) (fun s9 H9 hK9 hR9 h69 => jIs_in hK9 hR9 h69 (f_lt hf (by decide)) (fk_2 hf) rfl) rfl (Nat.le_of_ble_eq_true rfl) rfl (by decide) (Nat.le_refl 0) (Nat.le_refl 0) dX2_read_77 (fun v9 u9 hq => ?_) (fun k9 u9 hq => by obtain ⟨_, e9, _⟩ := hq; cases e9)
    obtain ⟨r3, e9, rfl, h⟩ := hq
    obtain rfl := Sum.inl.inj e9
    show J Γ RX2 cX2_read 7 none "read" [] 6 0 0 80 [(0, .ref 2), (1, .int l1), (4, .int l4)] [.int r3] (n, K, A, Lg, G) P
    refine j_if_eq (tgt := 89) dX2_read_80 (by decide) (fun c => ?_) (fun c => ?_)
    · rw [if_pos c] at h
      refine j_aload_n 0 rfl dX2_read_89 ?_
      refine j_iload_n 1 rfl dX2_read_90 ?_
      refine j_iload 2 rfl dX2_read_91 ?_
      refine j_callV (b := 2) (As := [.int l1, .int l4]) (st := []) (C := RX2) (kc' := 0) (ks' := 0) (tX2_word hf l1 l4 _ h) myX2_word rfl q643 q645 qs4 (by decide) (fun s9 H9 hK9 hR9 h69 => jIs_in hK9 hR9 h69 (f_lt hf (by decide)) (fk_2 hf) rfl) rfl (Nat.le_of_ble_eq_true rfl) rfl (by decide) (Nat.le_refl 0) (Nat.le_refl 0) dX2_read_93 (fun v9 u9 hq => ?_) (fun k9 u9 hq => by obtain ⟨_, e9, _⟩ := hq; cases e9)
      obtain ⟨r4, e9, rfl, h⟩ := hq
      obtain rfl := Sum.inl.inj e9
      show J Γ RX2 cX2_read 7 none "read" [] 6 0 0 96 [(0, .ref 2), (1, .int l1), (4, .int l4)] [.int r4] (n, K, A, Lg, G) P
      refine j_istore (by decide) rfl dX2_read_96 ?_
      refine j_iload 0 rfl dX2_read_98 ?_
      refine j_if_lt (tgt := 107) dX2_read_100 (by decide) (fun c => ?_) (fun c => ?_)
      · rw [if_pos c] at h
        refine j_iload 3 rfl dX2_read_107 ?_
        refine j_iload_n 2 rfl dX2_read_109 ?_
        refine j_isub dX2_read_110 ?_
        refine j_bipush (v := 8) dX2_read_111 (by decide) ?_
        refine j_icmp_le (tgt := 120) dX2_read_113 (by decide) (fun c => ?_) (fun c => ?_)
        · rw [if_pos c] at h
          refine j_iconst (v := 0) dX2_read_120 (by decide) ?_
          refine j_ls [1, 2, 3, 0] rfl ?_
          exact fX2_read_J121_ok hf Q P hP k9 ok9 l1 l4 r4 0 A h
        · rw [if_neg c] at h
          refine j_iconst (v := 5) dX2_read_116 (by decide) ?_
          refine j_goto (tgt := 121) dX2_read_117 (by decide) ?_
          refine j_ls [1, 2, 3, 0] rfl ?_
          exact fX2_read_J121_ok hf Q P hP k9 ok9 l1 l4 r4 5 A h
      · rw [if_neg c] at h
        refine j_iconst (v := 3) dX2_read_103 (by decide) ?_
        refine j_goto (tgt := 121) dX2_read_104 (by decide) ?_
        refine j_ls [1, 2, 3, 0] rfl ?_
        exact fX2_read_J121_ok hf Q P hP k9 ok9 l1 l4 r4 3 A h
    · rw [if_neg c] at h
      refine j_iinc (v := l4 + 1) 2 rfl rfl (by decide) rfl dX2_read_83 ?_
      refine j_goto (tgt := 74) dX2_read_86 (by decide) ?_
      refine j_ls [1, 2, 0] rfl ?_
      exact ih l1 (l4 + 1) A h
def fX2_read_J162  (k9 : Int32 → Int32 → pA → Prop) (Q : pA → Prop) (l1 : Int32) (l4 : Int32) (l6 : Int32) (s0 : Int32) (A : pA) : Prop :=
    fX2_read_J186  k9 Q l1 l4 s0 l6 A
theorem fX2_read_J162_ok {Γ : jG} {n : Nat} {K : Nat → pKd} {G : pG} {Lg : pL} (hf : fOK n K G) (Q : pA → Prop) (P : jO → pS → Prop) (hP : P = (fun o u => ∃ (A' : pA), o = .inl none ∧ u = (n, K, A', Lg, G) ∧ Q A')) (k9 : Int32 → Int32 → pA → Prop) (ok9 : ∀ (l1 : Int32) (l2 : Int32) (A : pA), k9 l1 l2 A → J Γ RX2 cX2_read 7 none "read" [] 6 0 0 9 [(0, .ref 2), (1, .int l1), (2, .int l2)] [] (n, K, A, Lg, G) P) (l1 : Int32) (l4 : Int32) (l6 : Int32) (s0 : Int32) (A : pA) (h : fX2_read_J162  k9 Q l1 l4 l6 s0 A) : J Γ RX2 cX2_read 7 none "read" [] 6 0 0 162 [(0, .ref 2), (1, .int l1), (4, .int l4), (6, .int l6)] [.int s0] (n, K, A, Lg, G) P := by
  unfold fX2_read_J162 at h
  refine j_istore (by decide) rfl dX2_read_162 ?_
  refine j_goto (tgt := 186) dX2_read_164 (by decide) ?_
  refine j_ls [1, 2, 3, 0, 4] rfl ?_
  exact fX2_read_J186_ok hf Q P hP k9 ok9 l1 l4 s0 l6 A h
def fX2_read_L134  (k9 : Int32 → Int32 → pA → Prop) (Q : pA → Prop) : Nat → Int32 → Int32 → Int32 → pA → Prop
  | 0, _, _, _, _ => False
  | n9 + 1, l1, l4, l6, A =>
    fX2_isDigit A l4 (fun r5 => (if r5 = 0 then (if (l4 - l1) ≤ 4 then fX2_read_J162  k9 Q l1 l4 l6 1 A else fX2_read_J162  k9 Q l1 l4 l6 5 A) else fX2_read_L134  k9 Q n9 l1 (l4 + 1) l6 A))
theorem fX2_read_L134_ok {Γ : jG} {n : Nat} {K : Nat → pKd} {G : pG} {Lg : pL} (hf : fOK n K G) (Q : pA → Prop) (P : jO → pS → Prop) (hP : P = (fun o u => ∃ (A' : pA), o = .inl none ∧ u = (n, K, A', Lg, G) ∧ Q A'))  (k9 : Int32 → Int32 → pA → Prop) (ok9 : ∀ (l1 : Int32) (l2 : Int32) (A : pA), k9 l1 l2 A → J Γ RX2 cX2_read 7 none "read" [] 6 0 0 9 [(0, .ref 2), (1, .int l1), (2, .int l2)] [] (n, K, A, Lg, G) P) : ∀ (n9 : Nat) (l1 : Int32) (l4 : Int32) (l6 : Int32) (A : pA), fX2_read_L134  k9 Q n9 l1 l4 l6 A → J Γ RX2 cX2_read 7 none "read" [] 6 0 0 134 [(0, .ref 2), (1, .int l1), (4, .int l4), (6, .int l6)] [] (n, K, A, Lg, G) P := by
  intro n9
  induction n9 with
  | zero => intro l1 l4 l6 A h; exact h.elim
  | succ n9 ih =>
    intro l1 l4 l6 A h
    unfold fX2_read_L134 at h
    refine j_aload_n 0 rfl dX2_read_134 ?_
    refine j_iload 2 rfl dX2_read_135 ?_
    refine j_callV (b := 2) (As := [.int l4]) (st := []) (C := RX2) (kc' := 0) (ks' := 0) (tX2_isDigit hf l4 _ h) myX2_isDigit rfl q693 q695 qs5 (by decide) (fun s9 H9 hK9 hR9 h69 => jIs_in hK9 hR9 h69 (f_lt hf (by decide)) (fk_2 hf) rfl) rfl (Nat.le_of_ble_eq_true rfl) rfl (by decide) (Nat.le_refl 0) (Nat.le_refl 0) dX2_read_137 (fun v9 u9 hq => ?_) (fun k9 u9 hq => by obtain ⟨_, e9, _⟩ := hq; cases e9)
    obtain ⟨r5, e9, rfl, h⟩ := hq
    obtain rfl := Sum.inl.inj e9
    show J Γ RX2 cX2_read 7 none "read" [] 6 0 0 140 [(0, .ref 2), (1, .int l1), (4, .int l4), (6, .int l6)] [.int r5] (n, K, A, Lg, G) P
    refine j_if_eq (tgt := 149) dX2_read_140 (by decide) (fun c => ?_) (fun c => ?_)
    · rw [if_pos c] at h
      refine j_iload 2 rfl dX2_read_149 ?_
      refine j_iload_n 1 rfl dX2_read_151 ?_
      refine j_isub dX2_read_152 ?_
      refine j_iconst (v := 4) dX2_read_153 (by decide) ?_
      refine j_icmp_le (tgt := 161) dX2_read_154 (by decide) (fun c => ?_) (fun c => ?_)
      · rw [if_pos c] at h
        refine j_iconst (v := 1) dX2_read_161 (by decide) ?_
        exact fX2_read_J162_ok hf Q P hP k9 ok9 l1 l4 l6 1 A h
      · rw [if_neg c] at h
        refine j_iconst (v := 5) dX2_read_157 (by decide) ?_
        refine j_goto (tgt := 162) dX2_read_158 (by decide) ?_
        exact fX2_read_J162_ok hf Q P hP k9 ok9 l1 l4 l6 5 A h
    · rw [if_neg c] at h
      refine j_iinc (v := l4 + 1) 2 rfl rfl (by decide) rfl dX2_read_143 ?_
      refine j_goto (tgt := 134) dX2_read_146 (by decide) ?_
      refine j_ls [1, 2, 0, 3] rfl ?_
      exact ih l1 (l4 + 1) l6 A h
def fX2_read_J184  (k9 : Int32 → Int32 → pA → Prop) (Q : pA → Prop) (l1 : Int32) (l4 : Int32) (l6 : Int32) (s0 : Int32) (A : pA) : Prop :=
    fX2_read_J186  k9 Q l1 l4 s0 l6 A
theorem fX2_read_J184_ok {Γ : jG} {n : Nat} {K : Nat → pKd} {G : pG} {Lg : pL} (hf : fOK n K G) (Q : pA → Prop) (P : jO → pS → Prop) (hP : P = (fun o u => ∃ (A' : pA), o = .inl none ∧ u = (n, K, A', Lg, G) ∧ Q A')) (k9 : Int32 → Int32 → pA → Prop) (ok9 : ∀ (l1 : Int32) (l2 : Int32) (A : pA), k9 l1 l2 A → J Γ RX2 cX2_read 7 none "read" [] 6 0 0 9 [(0, .ref 2), (1, .int l1), (2, .int l2)] [] (n, K, A, Lg, G) P) (l1 : Int32) (l4 : Int32) (l6 : Int32) (s0 : Int32) (A : pA) (h : fX2_read_J184  k9 Q l1 l4 l6 s0 A) : J Γ RX2 cX2_read 7 none "read" [] 6 0 0 184 [(0, .ref 2), (1, .int l1), (4, .int l4), (6, .int l6)] [.int s0] (n, K, A, Lg, G) P := by
  unfold fX2_read_J184 at h
  refine j_istore (by decide) rfl dX2_read_184 ?_
  refine j_ls [1, 2, 3, 0, 4] rfl ?_
  exact fX2_read_J186_ok hf Q P hP k9 ok9 l1 l4 s0 l6 A h
def fX2_read_L9   (Q : pA → Prop) : Nat → Int32 → Int32 → pA → Prop
  | 0, _, _, _ => False
  | n9 + 1, l1, l2, A =>
    (if (A 2 2) ≤ l1 then fX2_read_J215   Q l1 l2 A else (if l2 = 0 then fX2_read_J215   Q l1 l2 A else (vp_in l1 2000) ∧ ((if (A 4 (l1).toNatClampNeg) = 32 then fX2_read_J57  (fun x0 x1 x2 => fX2_read_L9   Q n9 x0 x1 x2) Q l1 l2 A else (if (A 4 (l1).toNatClampNeg) = 9 then fX2_read_J57  (fun x0 x1 x2 => fX2_read_L9   Q n9 x0 x1 x2) Q l1 l2 A else (if (A 4 (l1).toNatClampNeg) = 10 then fX2_read_J57  (fun x0 x1 x2 => fX2_read_L9   Q n9 x0 x1 x2) Q l1 l2 A else (if (A 4 (l1).toNatClampNeg) = 13 then fX2_read_J57  (fun x0 x1 x2 => fX2_read_L9   Q n9 x0 x1 x2) Q l1 l2 A else fX2_isLetter A l1 (fun r7 => (if r7 = 0 then fX2_isDigit A l1 (fun r8 => (if r8 = 0 then fX2_sign A l1 (fun r9 => (if r9 = 0 then fX2_read_J184  (fun x0 x1 x2 => fX2_read_L9   Q n9 x0 x1 x2) Q l1 (l1 + 1) r9 5 A else fX2_read_J184  (fun x0 x1 x2 => fX2_read_L9   Q n9 x0 x1 x2) Q l1 (l1 + 1) r9 2 A)) else ∃ m10, fX2_read_L134  (fun x0 x1 x2 => fX2_read_L9   Q n9 x0 x1 x2) Q m10 l1 (l1 + 1) 0 A)) else ∃ m11, fX2_read_L74  (fun x0 x1 x2 => fX2_read_L9   Q n9 x0 x1 x2) Q m11 l1 (l1 + 1) A)))))))))
theorem fX2_read_L9_ok {Γ : jG} {n : Nat} {K : Nat → pKd} {G : pG} {Lg : pL} (hf : fOK n K G) (Q : pA → Prop) (P : jO → pS → Prop) (hP : P = (fun o u => ∃ (A' : pA), o = .inl none ∧ u = (n, K, A', Lg, G) ∧ Q A'))    : ∀ (n9 : Nat) (l1 : Int32) (l2 : Int32) (A : pA), fX2_read_L9   Q n9 l1 l2 A → J Γ RX2 cX2_read 7 none "read" [] 6 0 0 9 [(0, .ref 2), (1, .int l1), (2, .int l2)] [] (n, K, A, Lg, G) P := by
  intro n9
  induction n9 with
  | zero => intro l1 l2 A h; exact h.elim
  | succ n9 ih =>
    intro l1 l2 A h
    unfold fX2_read_L9 at h
    refine j_iload_n 1 rfl dX2_read_9 ?_
    refine j_aload_n 0 rfl dX2_read_10 ?_
    refine j_getfi fl_X2_80_2 rfl (f_lt hf (by decide)) (fk_2 hf) dX2_read_11 ?_
    refine j_icmp_ge (tgt := 215) dX2_read_14 (by decide) (fun c => ?_) (fun c => ?_)
    · rw [if_pos c] at h
      exact fX2_read_J215_ok hf Q P hP   l1 l2 A h
    · rw [if_neg c] at h
      refine j_iload_n 2 rfl dX2_read_17 ?_
      refine j_if_eq (tgt := 215) dX2_read_18 (by decide) (fun c => ?_) (fun c => ?_)
      · rw [if_pos c] at h
        exact fX2_read_J215_ok hf Q P hP   l1 l2 A h
      · rw [if_neg c] at h
        refine j_aload_n 0 rfl dX2_read_21 ?_
        refine j_getfr fl_X2_63_2 rfl (f_lt hf (by decide)) (fk_2 hf) (fg_2_1 hf) dX2_read_22 ?_
        refine j_iload_n 1 rfl dX2_read_25 ?_
        obtain ⟨b6, h⟩ := h
        refine j_baldJ (j := (l1).toNatClampNeg) (f_lt hf (by decide)) (fk_4 hf) b6 rfl dX2_read_26 ?_
        refine j_istore_n (by decide) rfl dX2_read_27 ?_
        refine j_iload_n 2 rfl dX2_read_28 ?_
        refine j_iconst (v := 1) dX2_read_29 (by decide) ?_
        refine j_iadd dX2_read_30 ?_
        refine j_istore (by decide) rfl dX2_read_31 ?_
        refine j_iload_n 1 rfl dX2_read_33 ?_
        refine j_bipush (v := 32) dX2_read_34 (by decide) ?_
        refine j_icmp_eq (tgt := 57) dX2_read_36 (by decide) (fun c => ?_) (fun c => ?_)
        · rw [if_pos c] at h
          refine j_ls [2, 3, 4] rfl ?_
          exact fX2_read_J57_ok hf Q P hP (fun x0 x1 x2 => fX2_read_L9   Q n9 x0 x1 x2) (fun x0 x1 x2 h9 => ih x0 x1 x2 h9) l1 l2 A h
        · rw [if_neg c] at h
          refine j_iload_n 1 rfl dX2_read_39 ?_
          refine j_bipush (v := 9) dX2_read_40 (by decide) ?_
          refine j_icmp_eq (tgt := 57) dX2_read_42 (by decide) (fun c => ?_) (fun c => ?_)
          · rw [if_pos c] at h
            refine j_ls [2, 3, 4] rfl ?_
            exact fX2_read_J57_ok hf Q P hP (fun x0 x1 x2 => fX2_read_L9   Q n9 x0 x1 x2) (fun x0 x1 x2 h9 => ih x0 x1 x2 h9) l1 l2 A h
          · rw [if_neg c] at h
            refine j_iload_n 1 rfl dX2_read_45 ?_
            refine j_bipush (v := 10) dX2_read_46 (by decide) ?_
            refine j_icmp_eq (tgt := 57) dX2_read_48 (by decide) (fun c => ?_) (fun c => ?_)
            · rw [if_pos c] at h
              refine j_ls [2, 3, 4] rfl ?_
              exact fX2_read_J57_ok hf Q P hP (fun x0 x1 x2 => fX2_read_L9   Q n9 x0 x1 x2) (fun x0 x1 x2 h9 => ih x0 x1 x2 h9) l1 l2 A h
            · rw [if_neg c] at h
              refine j_iload_n 1 rfl dX2_read_51 ?_
              refine j_bipush (v := 13) dX2_read_52 (by decide) ?_
              refine j_icmp_ne (tgt := 63) dX2_read_54 (by decide) (fun c => ?_) (fun c => ?_)
              · rw [if_neg c] at h
                refine j_iconst (v := 0) dX2_read_63 (by decide) ?_
                refine j_istore (by decide) rfl dX2_read_64 ?_
                refine j_aload_n 3 rfl dX2_read_66 ?_
                refine j_iload_n 4 rfl dX2_read_67 ?_
                refine j_callV (b := 2) (As := [.int l1]) (st := []) (C := RX2) (kc' := 0) (ks' := 0) (tX2_isLetter hf l1 _ h) myX2_isLetter rfl q635 q637 qs2 (by decide) (fun s9 H9 hK9 hR9 h69 => jIs_in hK9 hR9 h69 (f_lt hf (by decide)) (fk_2 hf) rfl) rfl (Nat.le_of_ble_eq_true rfl) rfl (by decide) (Nat.le_refl 0) (Nat.le_refl 0) dX2_read_68 (fun v9 u9 hq => ?_) (fun k9 u9 hq => by obtain ⟨_, e9, _⟩ := hq; cases e9)
                obtain ⟨r7, e9, rfl, h⟩ := hq
                obtain rfl := Sum.inl.inj e9
                show J Γ RX2 cX2_read 7 none "read" [] 6 0 0 71 [(6, .int 0), (4, .int (l1 + 1)), (3, .int (A 4 (l1).toNatClampNeg)), (0, .ref 2), (1, .int l1), (2, .int l2)] [.int r7] (n, K, A, Lg, G) P
                refine j_if_eq (tgt := 126) dX2_read_71 (by decide) (fun c => ?_) (fun c => ?_)
                · rw [if_pos c] at h
                  refine j_aload_n 3 rfl dX2_read_126 ?_
                  refine j_iload_n 4 rfl dX2_read_127 ?_
                  refine j_callV (b := 2) (As := [.int l1]) (st := []) (C := RX2) (kc' := 0) (ks' := 0) (tX2_isDigit hf l1 _ h) myX2_isDigit rfl q693 q695 qs5 (by decide) (fun s9 H9 hK9 hR9 h69 => jIs_in hK9 hR9 h69 (f_lt hf (by decide)) (fk_2 hf) rfl) rfl (Nat.le_of_ble_eq_true rfl) rfl (by decide) (Nat.le_refl 0) (Nat.le_refl 0) dX2_read_128 (fun v9 u9 hq => ?_) (fun k9 u9 hq => by obtain ⟨_, e9, _⟩ := hq; cases e9)
                  obtain ⟨r8, e9, rfl, h⟩ := hq
                  obtain rfl := Sum.inl.inj e9
                  show J Γ RX2 cX2_read 7 none "read" [] 6 0 0 131 [(6, .int 0), (4, .int (l1 + 1)), (3, .int (A 4 (l1).toNatClampNeg)), (0, .ref 2), (1, .int l1), (2, .int l2)] [.int r8] (n, K, A, Lg, G) P
                  refine j_if_eq (tgt := 167) dX2_read_131 (by decide) (fun c => ?_) (fun c => ?_)
                  · rw [if_pos c] at h
                    refine j_aload_n 3 rfl dX2_read_167 ?_
                    refine j_iload_n 4 rfl dX2_read_168 ?_
                    refine j_callV (b := 2) (As := [.int l1]) (st := []) (C := RX2) (kc' := 0) (ks' := 0) (tX2_sign hf l1 _ h) myX2_sign rfl q697 q699 qs6 (by decide) (fun s9 H9 hK9 hR9 h69 => jIs_in hK9 hR9 h69 (f_lt hf (by decide)) (fk_2 hf) rfl) rfl (Nat.le_of_ble_eq_true rfl) rfl (by decide) (Nat.le_refl 0) (Nat.le_refl 0) dX2_read_169 (fun v9 u9 hq => ?_) (fun k9 u9 hq => by obtain ⟨_, e9, _⟩ := hq; cases e9)
                    obtain ⟨r9, e9, rfl, h⟩ := hq
                    obtain rfl := Sum.inl.inj e9
                    show J Γ RX2 cX2_read 7 none "read" [] 6 0 0 172 [(6, .int 0), (4, .int (l1 + 1)), (3, .int (A 4 (l1).toNatClampNeg)), (0, .ref 2), (1, .int l1), (2, .int l2)] [.int r9] (n, K, A, Lg, G) P
                    refine j_istore (by decide) rfl dX2_read_172 ?_
                    refine j_iload 0 rfl dX2_read_174 ?_
                    refine j_if_ne (tgt := 183) dX2_read_176 (by decide) (fun c => ?_) (fun c => ?_)
                    · rw [if_neg c] at h
                      refine j_iconst (v := 2) dX2_read_183 (by decide) ?_
                      refine j_ls [3, 4, 1, 0] rfl ?_
                      exact fX2_read_J184_ok hf Q P hP (fun x0 x1 x2 => fX2_read_L9   Q n9 x0 x1 x2) (fun x0 x1 x2 h9 => ih x0 x1 x2 h9) l1 (l1 + 1) r9 2 A h
                    · rw [if_pos c] at h
                      refine j_iconst (v := 5) dX2_read_179 (by decide) ?_
                      refine j_goto (tgt := 184) dX2_read_180 (by decide) ?_
                      refine j_ls [3, 4, 1, 0] rfl ?_
                      exact fX2_read_J184_ok hf Q P hP (fun x0 x1 x2 => fX2_read_L9   Q n9 x0 x1 x2) (fun x0 x1 x2 h9 => ih x0 x1 x2 h9) l1 (l1 + 1) r9 5 A h
                  · rw [if_neg c] at h
                    refine j_ls [3, 4, 1, 0] rfl ?_
                    obtain ⟨m10, h⟩ := h
                    exact fX2_read_L134_ok hf Q P hP (fun x0 x1 x2 => fX2_read_L9   Q n9 x0 x1 x2) (fun x0 x1 x2 h9 => ih x0 x1 x2 h9) m10 l1 (l1 + 1) 0 A h
                · rw [if_neg c] at h
                  refine j_ls [3, 4, 1] rfl ?_
                  obtain ⟨m11, h⟩ := h
                  exact fX2_read_L74_ok hf Q P hP (fun x0 x1 x2 => fX2_read_L9   Q n9 x0 x1 x2) (fun x0 x1 x2 h9 => ih x0 x1 x2 h9) m11 l1 (l1 + 1) A h
              · rw [if_pos c] at h
                refine j_ls [2, 3, 4] rfl ?_
                exact fX2_read_J57_ok hf Q P hP (fun x0 x1 x2 => fX2_read_L9   Q n9 x0 x1 x2) (fun x0 x1 x2 h9 => ih x0 x1 x2 h9) l1 l2 A h
def fX2_read (A : pA) (Q : pA → Prop) : Prop :=
    ∀ A12 : pA, A12 = pup A 2 7 0 → ∃ m13, fX2_read_L9   Q m13 0 1 A12
theorem tX2_read {Γ : jG} {n : Nat} {K : Nat → pKd} {G : pG} {A : pA} {Lg : pL} (hf : fOK n K G)  (Q : pA → Prop) (h : fX2_read A Q) : jMet Γ yX2_read cX2_read 7 none [] 6 0 0 [.ref 2] (n, K, A, Lg, G) (fun o u => ∃ (A' : pA), o = .inl none ∧ u = (n, K, A', Lg, G) ∧ Q A') := by
  unfold fX2_read at h
  obtain ⟨P, hP⟩ : ∃ P : jO → pS → Prop, P = (fun o u => ∃ (A' : pA), o = .inl none ∧ u = (n, K, A', Lg, G) ∧ Q A') := ⟨_, rfl⟩
  rw [← hP]
  refine jMet_of rfl rfl rfl (Nat.le_of_ble_eq_true rfl) ?_
  show J Γ RX2 cX2_read 7 none "read" [] 6 0 0 0 [(0, .ref 2)] [] (n, K, A, Lg, G) P
  refine j_aload_n 0 rfl dX2_read_0 ?_
  refine j_iconst (v := 0) dX2_read_1 (by decide) ?_
  refine j_putfiE (fp_X2_88_2 _) rfl rfl rfl (f_lt hf (by decide)) (fk_2 hf) dX2_read_2 (fun A12 eA12 => ?_)
  replace h := h A12 eA12
  refine j_iconst (v := 0) dX2_read_5 (by decide) ?_
  refine j_istore_n (by decide) rfl dX2_read_6 ?_
  refine j_iconst (v := 1) dX2_read_7 (by decide) ?_
  refine j_istore_n (by decide) rfl dX2_read_8 ?_
  refine j_ls [2, 1, 0] rfl ?_
  obtain ⟨m13, h⟩ := h
  exact fX2_read_L9_ok hf Q P hP   m13 0 1 A12 h
theorem myX2_number : jY yX2_number cX2_number 4 (some .int) 1 := ⟨q793, q126, by decide +kernel, by decide +kernel, by decide⟩
def fX2_number_L9 (A : pA)  (Q : Int32 → Prop) : Nat → Int32 → Int32 → Int32 → Prop
  | 0, _, _, _ => False
  | n9 + 1, l1, l2, l3 =>
    (vp_in l1 2001) ∧ ((if (A 7 (l1).toNatClampNeg) ≤ l3 then Q l2 else (vp_in l3 2000) ∧ (fX2_number_L9 A  Q n9 l1 (((10 * l2) + (A 4 (l3).toNatClampNeg)) - 48) (l3 + 1))))
theorem fX2_number_L9_ok {Γ : jG} {n : Nat} {K : Nat → pKd} {G : pG} {A : pA} {Lg : pL} (hf : fOK n K G) (Q : Int32 → Prop) (P : jO → pS → Prop) (hP : P = (fun o u => ∃ (r : Int32), o = .inl (some (.int r)) ∧ u = (n, K, A, Lg, G) ∧ Q r))    : ∀ (n9 : Nat) (l1 : Int32) (l2 : Int32) (l3 : Int32), fX2_number_L9 A  Q n9 l1 l2 l3 → J Γ RX2 cX2_number 4 (some .int) "number" [] 1 0 0 9 [(0, .ref 2), (1, .int l1), (2, .int l2), (3, .int l3)] [] (n, K, A, Lg, G) P := by
  intro n9
  induction n9 with
  | zero => intro l1 l2 l3 h; exact h.elim
  | succ n9 ih =>
    intro l1 l2 l3 h
    unfold fX2_number_L9 at h
    refine j_iload_n 3 rfl dX2_number_9 ?_
    refine j_aload_n 0 rfl dX2_number_10 ?_
    refine j_getfr fl_X2_74_2 rfl (f_lt hf (by decide)) (fk_2 hf) (fg_2_5 hf) dX2_number_11 ?_
    refine j_iload_n 1 rfl dX2_number_14 ?_
    obtain ⟨b1, h⟩ := h
    refine j_saldJ (j := (l1).toNatClampNeg) (f_lt hf (by decide)) (fk_7 hf) b1 rfl dX2_number_15 ?_
    refine j_icmp_ge (tgt := 40) dX2_number_16 (by decide) (fun c => ?_) (fun c => ?_)
    · rw [if_pos c] at h
      refine j_iload_n 2 rfl dX2_number_40 ?_
      refine j_iret rfl ?_ dX2_number_41
      rw [hP]
      exact ⟨l2, rfl, rfl, h⟩
    · rw [if_neg c] at h
      refine j_bipush (v := 10) dX2_number_19 (by decide) ?_
      refine j_iload_n 2 rfl dX2_number_21 ?_
      refine j_imul dX2_number_22 ?_
      refine j_aload_n 0 rfl dX2_number_23 ?_
      refine j_getfr fl_X2_63_2 rfl (f_lt hf (by decide)) (fk_2 hf) (fg_2_1 hf) dX2_number_24 ?_
      refine j_iload_n 3 rfl dX2_number_27 ?_
      obtain ⟨b2, h⟩ := h
      refine j_baldJ (j := (l3).toNatClampNeg) (f_lt hf (by decide)) (fk_4 hf) b2 rfl dX2_number_28 ?_
      refine j_iadd dX2_number_29 ?_
      refine j_bipush (v := 48) dX2_number_30 (by decide) ?_
      refine j_isub dX2_number_32 ?_
      refine j_istore_n (by decide) rfl dX2_number_33 ?_
      refine j_iinc (v := l3 + 1) 3 rfl rfl (by decide) rfl dX2_number_34 ?_
      refine j_goto (tgt := 9) dX2_number_37 (by decide) ?_
      refine j_ls [2, 3, 1, 0] rfl ?_
      exact ih l1 (((10 * l2) + (A 4 (l3).toNatClampNeg)) - 48) (l3 + 1) h
def fX2_number (A : pA) (p1 : Int32) (Q : Int32 → Prop) : Prop :=
    (vp_in p1 2001) ∧ (∃ m4, fX2_number_L9 A  Q m4 p1 0 (A 6 (p1).toNatClampNeg))
theorem tX2_number {Γ : jG} {n : Nat} {K : Nat → pKd} {G : pG} {A : pA} {Lg : pL} (hf : fOK n K G) (p1 : Int32) (Q : Int32 → Prop) (h : fX2_number A p1 Q) : jMet Γ yX2_number cX2_number 4 (some .int) [] 1 0 0 [.ref 2, .int p1] (n, K, A, Lg, G) (fun o u => ∃ (r : Int32), o = .inl (some (.int r)) ∧ u = (n, K, A, Lg, G) ∧ Q r) := by
  unfold fX2_number at h
  obtain ⟨P, hP⟩ : ∃ P : jO → pS → Prop, P = (fun o u => ∃ (r : Int32), o = .inl (some (.int r)) ∧ u = (n, K, A, Lg, G) ∧ Q r) := ⟨_, rfl⟩
  rw [← hP]
  refine jMet_of rfl rfl rfl (Nat.le_of_ble_eq_true rfl) ?_
  show J Γ RX2 cX2_number 4 (some .int) "number" [] 1 0 0 0 [(0, .ref 2), (1, .int p1)] [] (n, K, A, Lg, G) P
  refine j_iconst (v := 0) dX2_number_0 (by decide) ?_
  refine j_istore_n (by decide) rfl dX2_number_1 ?_
  refine j_aload_n 1 rfl dX2_number_2 ?_
  refine j_getfr fl_X2_70_2 rfl (f_lt hf (by decide)) (fk_2 hf) (fg_2_4 hf) dX2_number_3 ?_
  refine j_iload_n 2 rfl dX2_number_6 ?_
  obtain ⟨b3, h⟩ := h
  refine j_saldJ (j := (p1).toNatClampNeg) (f_lt hf (by decide)) (fk_6 hf) b3 rfl dX2_number_7 ?_
  refine j_istore_n (by decide) rfl dX2_number_8 ?_
  refine j_ls [2, 3, 1, 0] rfl ?_
  obtain ⟨m4, h⟩ := h
  exact fX2_number_L9_ok hf Q P hP   m4 p1 0 (A 6 (p1).toNatClampNeg) h
theorem myX4_areNext : jY yX4_areNext cX4_areNext 3 (some .boolean) 2 := ⟨q1115, q128, by decide +kernel, by decide +kernel, by decide⟩
def fX4_areNext (a0 : Nat) (n : Nat) (K : Nat → pKd) (A : pA) (G : pG) (p1 : Int32) (p2 : Int32) (Q : Int32 → Prop) : Prop :=
    fJ5_get (a0 + 1) n K A G p1 (fun r1 => (r1 < n) ∧ ((K r1 = .inl 14) ∧ ((if (((A r1 1) >>> (p2 &&& 31)) &&& 1) = 1 then Q 1 else Q 0))))
theorem tX4_areNext {Γ : jG} {n : Nat} {K : Nat → pKd} {G : pG} {A : pA} {Lg : pL} (hf : fOK n K G) (a0 : Nat) (ha0 : xOK n K G a0) (p1 : Int32) (p2 : Int32) (Q : Int32 → Prop) (h : fX4_areNext a0 n K A G p1 p2 Q) : jMet Γ yX4_areNext cX4_areNext 3 (some .boolean) [] 4 0 0 [.ref a0, .int p1, .int p2] (n, K, A, Lg, G) (fun o u => ∃ (r : Int32), o = .inl (some (.int r)) ∧ u = (n, K, A, Lg, G) ∧ Q r) := by
  unfold fX4_areNext at h
  obtain ⟨P, hP⟩ : ∃ P : jO → pS → Prop, P = (fun o u => ∃ (r : Int32), o = .inl (some (.int r)) ∧ u = (n, K, A, Lg, G) ∧ Q r) := ⟨_, rfl⟩
  rw [← hP]
  refine jMet_of rfl rfl rfl (Nat.le_of_ble_eq_true rfl) ?_
  show J Γ RX4 cX4_areNext 3 (some .boolean) "areNext" [] 4 0 0 0 [(0, .ref a0), (1, .int p1), (2, .int p2)] [] (n, K, A, Lg, G) P
  refine j_aload_n 0 rfl dX4_areNext_0 ?_
  refine j_getfr fl_X4_12_4 rfl (x_lt ha0 (j := 0) (by decide)) (xk_0 ha0) (xg_0_0 ha0) dX4_areNext_1 ?_
  refine j_iload_n 1 rfl dX4_areNext_4 ?_
  refine j_callV (b := (a0 + 1)) (As := [.int p1]) (st := []) (C := RJ5) (kc' := 0) (ks' := 0) (tJ5_get hf (a0 + 1) (x_lt ha0 (j := 1) (by decide)) (xk_1 ha0) p1 _ h) myJ5_get rfl q1020 q540 q541 (j_l2 hf.1 (x_lt ha0 (j := 1) (by decide))) (fun s9 H9 hK9 hR9 h69 => jIs_in hK9 hR9 h69 (x_lt ha0 (j := 1) (by decide)) (xk_1 ha0) rfl) rfl (Nat.le_of_ble_eq_true rfl) rfl (by decide) (Nat.le_refl 0) (Nat.le_refl 0) dX4_areNext_5 (fun v9 u9 hq => ?_) (fun k9 u9 hq => by obtain ⟨_, e9, _⟩ := hq; cases e9)
  obtain ⟨r1, e9, rfl, h⟩ := hq
  obtain rfl := Sum.inl.inj e9
  show J Γ RX4 cX4_areNext 3 (some .boolean) "areNext" [] 4 0 0 8 [(0, .ref a0), (1, .int p1), (2, .int p2)] [.ref r1] (n, K, A, Lg, G) P
  obtain ⟨b2, h⟩ := h
  obtain ⟨b3, h⟩ := h
  refine j_cast (C := "DogsHour$Spot") q1116 (j_l2 hf.1 b2) (fun s9 H9 hK9 hR9 h69 => jIs_in hK9 hR9 h69 b2 b3 rfl) (Or.inl rfl) dX4_areNext_8 ?_
  refine j_getfi fl_X4_75_14 rfl b2 b3 dX4_areNext_11 ?_
  refine j_iload_n 2 rfl dX4_areNext_14 ?_
  refine j_ishr dX4_areNext_15 ?_
  refine j_iconst (v := 1) dX4_areNext_16 (by decide) ?_
  refine j_iand dX4_areNext_17 ?_
  refine j_iconst (v := 1) dX4_areNext_18 (by decide) ?_
  refine j_icmp_ne (tgt := 26) dX4_areNext_19 (by decide) (fun c => ?_) (fun c => ?_)
  · rw [if_neg c] at h
    refine j_iconst (v := 0) dX4_areNext_26 (by decide) ?_
    refine j_zret rfl (by decide) ?_ dX4_areNext_27
    rw [hP]
    exact ⟨0, rfl, rfl, h⟩
  · rw [if_pos c] at h
    refine j_iconst (v := 1) dX4_areNext_22 (by decide) ?_
    refine j_goto (tgt := 27) dX4_areNext_23 (by decide) ?_
    refine j_zret rfl (by decide) ?_ dX4_areNext_27
    rw [hP]
    exact ⟨1, rfl, rfl, h⟩
theorem myX4_laysFar : jY yX4_laysFar cX4_laysFar 4 none 0 := ⟨q1173, q128, by decide +kernel, by decide +kernel, by decide⟩
def fX4_laysFar_J69 (a0 : Nat) (n : Nat) (K : Nat → pKd) (G : pG) (k10 : Int32 → Int32 → pA → Prop) (Q : pA → Prop) (l1 : Int32) (l2 : Int32) (s0 : Int32) (s1 : Int32) (s2 : Nat) (A : pA) : Prop :=
    (s2 < n) ∧ (∃ z2 : Nat, K s2 = .inr (0, z2) ∧ ((vp_in s1 z2) ∧ (∀ A5 : pA, A5 = pup A s2 (s1).toNatClampNeg s0 → k10 l1 (l2 + 1) A5)))
theorem fX4_laysFar_J69_ok {Γ : jG} {n : Nat} {K : Nat → pKd} {G : pG} {Lg : pL} (hf : fOK n K G) (a0 : Nat) (ha0 : xOK n K G a0) (Q : pA → Prop) (P : jO → pS → Prop) (hP : P = (fun o u => ∃ (A' : pA), o = .inl none ∧ u = (n, K, A', Lg, G) ∧ Q A')) (k10 : Int32 → Int32 → pA → Prop) (ok10 : ∀ (l1 : Int32) (l2 : Int32) (A : pA), k10 l1 l2 A → J Γ RX4 cX4_laysFar 4 none "laysFar" [] 5 0 0 10 [(0, .ref a0), (1, .int l1), (2, .int l2)] [] (n, K, A, Lg, G) P) (l1 : Int32) (l2 : Int32) (s0 : Int32) (s1 : Int32) (s2 : Nat) (A : pA) (h : fX4_laysFar_J69 a0 n K G k10 Q l1 l2 s0 s1 s2 A) : J Γ RX4 cX4_laysFar 4 none "laysFar" [] 5 0 0 69 [(0, .ref a0), (1, .int l1), (2, .int l2)] [.int s0, .int s1, .ref s2] (n, K, A, Lg, G) P := by
  unfold fX4_laysFar_J69 at h
  obtain ⟨b1, h⟩ := h
  obtain ⟨z2, b3, h⟩ := h
  obtain ⟨b4, h⟩ := h
  refine j_iastJ (j := (s1).toNatClampNeg) b1 b3 b4 rfl dX4_laysFar_69 (fun A5 eA5 => ?_)
  replace h := h A5 eA5
  refine j_iinc (v := l2 + 1) 2 rfl rfl (by decide) rfl dX4_laysFar_70 ?_
  refine j_goto (tgt := 10) dX4_laysFar_73 (by decide) ?_
  refine j_ls [1, 2, 0] rfl ?_
  exact ok10 l1 (l2 + 1) A5 h
def fX4_laysFar_J67 (a0 : Nat) (n : Nat) (K : Nat → pKd) (G : pG) (k10 : Int32 → Int32 → pA → Prop) (Q : pA → Prop) (l1 : Int32) (l2 : Int32) (s0 : Int32) (s1 : Nat) (A : pA) : Prop :=
    fX4_laysFar_J69 a0 n K G k10 Q l1 l2 1000000 s0 s1 A
theorem fX4_laysFar_J67_ok {Γ : jG} {n : Nat} {K : Nat → pKd} {G : pG} {Lg : pL} (hf : fOK n K G) (a0 : Nat) (ha0 : xOK n K G a0) (Q : pA → Prop) (P : jO → pS → Prop) (hP : P = (fun o u => ∃ (A' : pA), o = .inl none ∧ u = (n, K, A', Lg, G) ∧ Q A')) (k10 : Int32 → Int32 → pA → Prop) (ok10 : ∀ (l1 : Int32) (l2 : Int32) (A : pA), k10 l1 l2 A → J Γ RX4 cX4_laysFar 4 none "laysFar" [] 5 0 0 10 [(0, .ref a0), (1, .int l1), (2, .int l2)] [] (n, K, A, Lg, G) P) (l1 : Int32) (l2 : Int32) (s0 : Int32) (s1 : Nat) (A : pA) (h : fX4_laysFar_J67 a0 n K G k10 Q l1 l2 s0 s1 A) : J Γ RX4 cX4_laysFar 4 none "laysFar" [] 5 0 0 67 [(0, .ref a0), (1, .int l1), (2, .int l2)] [.int s0, .ref s1] (n, K, A, Lg, G) P := by
  unfold fX4_laysFar_J67 at h
  refine j_ldc (v := 1000000) q1175 dX4_laysFar_67 ?_
  exact fX4_laysFar_J69_ok hf a0 ha0 Q P hP k10 ok10 l1 l2 1000000 s0 s1 A h
def fX4_laysFar_L10 (a0 : Nat) (n : Nat) (K : Nat → pKd) (G : pG) (k2 : Int32 → pA → Prop) (Q : pA → Prop) : Nat → Int32 → Int32 → pA → Prop
  | 0, _, _, _ => False
  | n9 + 1, l1, l2, A =>
    (if 7 ≤ l2 then k2 (l1 + 1) A else (vp_in l1 7) ∧ ((if l1 = l2 then fX4_laysFar_J69 a0 n K G (fun x0 x1 x2 => fX4_laysFar_L10 a0 n K G k2 Q n9 x0 x1 x2) Q l1 l2 0 l2 (a0 + 8 + (l1).toNatClampNeg) A else fJ5_size (a0 + 1) A (fun r7 => (if r7 ≤ l1 then fX4_laysFar_J67 a0 n K G (fun x0 x1 x2 => fX4_laysFar_L10 a0 n K G k2 Q n9 x0 x1 x2) Q l1 l2 l2 (a0 + 8 + (l1).toNatClampNeg) A else fJ5_size (a0 + 1) A (fun r8 => (if r8 ≤ l2 then fX4_laysFar_J67 a0 n K G (fun x0 x1 x2 => fX4_laysFar_L10 a0 n K G k2 Q n9 x0 x1 x2) Q l1 l2 l2 (a0 + 8 + (l1).toNatClampNeg) A else fX4_areNext a0 n K A G l1 l2 (fun r9 => (if r9 = 0 then fX4_laysFar_J67 a0 n K G (fun x0 x1 x2 => fX4_laysFar_L10 a0 n K G k2 Q n9 x0 x1 x2) Q l1 l2 l2 (a0 + 8 + (l1).toNatClampNeg) A else fX4_laysFar_J69 a0 n K G (fun x0 x1 x2 => fX4_laysFar_L10 a0 n K G k2 Q n9 x0 x1 x2) Q l1 l2 1 l2 (a0 + 8 + (l1).toNatClampNeg) A)))))))))
theorem fX4_laysFar_L10_ok {Γ : jG} {n : Nat} {K : Nat → pKd} {G : pG} {Lg : pL} (hf : fOK n K G) (a0 : Nat) (ha0 : xOK n K G a0) (Q : pA → Prop) (P : jO → pS → Prop) (hP : P = (fun o u => ∃ (A' : pA), o = .inl none ∧ u = (n, K, A', Lg, G) ∧ Q A'))  (k2 : Int32 → pA → Prop) (ok2 : ∀ (l1 : Int32) (A : pA), k2 l1 A → J Γ RX4 cX4_laysFar 4 none "laysFar" [] 5 0 0 2 [(0, .ref a0), (1, .int l1)] [] (n, K, A, Lg, G) P) : ∀ (n9 : Nat) (l1 : Int32) (l2 : Int32) (A : pA), fX4_laysFar_L10 a0 n K G k2 Q n9 l1 l2 A → J Γ RX4 cX4_laysFar 4 none "laysFar" [] 5 0 0 10 [(0, .ref a0), (1, .int l1), (2, .int l2)] [] (n, K, A, Lg, G) P := by
  intro n9
  induction n9 with
  | zero => intro l1 l2 A h; exact h.elim
  | succ n9 ih =>
    intro l1 l2 A h
    unfold fX4_laysFar_L10 at h
    refine j_iload_n 2 rfl dX4_laysFar_10 ?_
    refine j_bipush (v := 7) dX4_laysFar_11 (by decide) ?_
    refine j_icmp_ge (tgt := 76) dX4_laysFar_13 (by decide) (fun c => ?_) (fun c => ?_)
    · rw [if_pos c] at h
      refine j_iinc (v := l1 + 1) 1 rfl rfl (by decide) rfl dX4_laysFar_76 ?_
      refine j_goto (tgt := 2) dX4_laysFar_79 (by decide) ?_
      refine j_ls [1, 0] rfl ?_
      exact ok2 (l1 + 1) A h
    · rw [if_neg c] at h
      refine j_aload_n 0 rfl dX4_laysFar_16 ?_
      refine j_getfr fl_X4_39_4 rfl (x_lt ha0 (j := 0) (by decide)) (xk_0 ha0) (xg_0_6 ha0) dX4_laysFar_17 ?_
      refine j_iload_n 1 rfl dX4_laysFar_20 ?_
      obtain ⟨b6, h⟩ := h
      refine j_aaldJ (t := 11) (j := (l1).toNatClampNeg) rfl rfl rfl (x_lt ha0 (j := 7) (by decide)) (xk_7 ha0) b6 rfl (x_row ha0 (j_ix b6)).1 dX4_laysFar_21 ?_
      refine j_iload_n 2 rfl dX4_laysFar_22 ?_
      refine j_iload_n 1 rfl dX4_laysFar_23 ?_
      refine j_iload_n 2 rfl dX4_laysFar_24 ?_
      refine j_icmp_ne (tgt := 32) dX4_laysFar_25 (by decide) (fun c => ?_) (fun c => ?_)
      · rw [if_neg c] at h
        refine j_iload_n 1 rfl dX4_laysFar_32 ?_
        refine j_aload_n 0 rfl dX4_laysFar_33 ?_
        refine j_getfr fl_X4_12_4 rfl (x_lt ha0 (j := 0) (by decide)) (xk_0 ha0) (xg_0_0 ha0) dX4_laysFar_34 ?_
        refine j_callV (b := (a0 + 1)) (As := []) (st := [.int l1, .int l2, .ref (a0 + 8 + (l1).toNatClampNeg)]) (C := RJ5) (kc' := 0) (ks' := 0) (tJ5_size hf (a0 + 1) (x_lt ha0 (j := 1) (by decide)) (xk_1 ha0) _ h) myJ5_size rfl q1019 q536 q537 (j_l2 hf.1 (x_lt ha0 (j := 1) (by decide))) (fun s9 H9 hK9 hR9 h69 => jIs_in hK9 hR9 h69 (x_lt ha0 (j := 1) (by decide)) (xk_1 ha0) rfl) rfl (Nat.le_of_ble_eq_true rfl) rfl (by decide) (Nat.le_refl 0) (Nat.le_refl 0) dX4_laysFar_37 (fun v9 u9 hq => ?_) (fun k9 u9 hq => by obtain ⟨_, e9, _⟩ := hq; cases e9)
        obtain ⟨r7, e9, rfl, h⟩ := hq
        obtain rfl := Sum.inl.inj e9
        show J Γ RX4 cX4_laysFar 4 none "laysFar" [] 5 0 0 40 [(0, .ref a0), (1, .int l1), (2, .int l2)] [.int r7, .int l1, .int l2, .ref (a0 + 8 + (l1).toNatClampNeg)] (n, K, A, Lg, G) P
        refine j_icmp_ge (tgt := 67) dX4_laysFar_40 (by decide) (fun c => ?_) (fun c => ?_)
        · rw [if_pos c] at h
          exact fX4_laysFar_J67_ok hf a0 ha0 Q P hP (fun x0 x1 x2 => fX4_laysFar_L10 a0 n K G k2 Q n9 x0 x1 x2) (fun x0 x1 x2 h9 => ih x0 x1 x2 h9) l1 l2 l2 (a0 + 8 + (l1).toNatClampNeg) A h
        · rw [if_neg c] at h
          refine j_iload_n 2 rfl dX4_laysFar_43 ?_
          refine j_aload_n 0 rfl dX4_laysFar_44 ?_
          refine j_getfr fl_X4_12_4 rfl (x_lt ha0 (j := 0) (by decide)) (xk_0 ha0) (xg_0_0 ha0) dX4_laysFar_45 ?_
          refine j_callV (b := (a0 + 1)) (As := []) (st := [.int l2, .int l2, .ref (a0 + 8 + (l1).toNatClampNeg)]) (C := RJ5) (kc' := 0) (ks' := 0) (tJ5_size hf (a0 + 1) (x_lt ha0 (j := 1) (by decide)) (xk_1 ha0) _ h) myJ5_size rfl q1019 q536 q537 (j_l2 hf.1 (x_lt ha0 (j := 1) (by decide))) (fun s9 H9 hK9 hR9 h69 => jIs_in hK9 hR9 h69 (x_lt ha0 (j := 1) (by decide)) (xk_1 ha0) rfl) rfl (Nat.le_of_ble_eq_true rfl) rfl (by decide) (Nat.le_refl 0) (Nat.le_refl 0) dX4_laysFar_48 (fun v9 u9 hq => ?_) (fun k9 u9 hq => by obtain ⟨_, e9, _⟩ := hq; cases e9)
          obtain ⟨r8, e9, rfl, h⟩ := hq
          obtain rfl := Sum.inl.inj e9
          show J Γ RX4 cX4_laysFar 4 none "laysFar" [] 5 0 0 51 [(0, .ref a0), (1, .int l1), (2, .int l2)] [.int r8, .int l2, .int l2, .ref (a0 + 8 + (l1).toNatClampNeg)] (n, K, A, Lg, G) P
          refine j_icmp_ge (tgt := 67) dX4_laysFar_51 (by decide) (fun c => ?_) (fun c => ?_)
          · rw [if_pos c] at h
            exact fX4_laysFar_J67_ok hf a0 ha0 Q P hP (fun x0 x1 x2 => fX4_laysFar_L10 a0 n K G k2 Q n9 x0 x1 x2) (fun x0 x1 x2 h9 => ih x0 x1 x2 h9) l1 l2 l2 (a0 + 8 + (l1).toNatClampNeg) A h
          · rw [if_neg c] at h
            refine j_aload_n 0 rfl dX4_laysFar_54 ?_
            refine j_iload_n 1 rfl dX4_laysFar_55 ?_
            refine j_iload_n 2 rfl dX4_laysFar_56 ?_
            refine j_callV (b := a0) (As := [.int l1, .int l2]) (st := [.int l2, .ref (a0 + 8 + (l1).toNatClampNeg)]) (C := RX4) (kc' := 0) (ks' := 0) (tX4_areNext hf a0 ha0 l1 l2 _ h) myX4_areNext rfl q1174 q1113 q1114 (j_l2 hf.1 (x_lt ha0 (j := 0) (by decide))) (fun s9 H9 hK9 hR9 h69 => jIs_in hK9 hR9 h69 (x_lt ha0 (j := 0) (by decide)) (xk_0 ha0) rfl) rfl (Nat.le_of_ble_eq_true rfl) rfl (by decide) (Nat.le_refl 0) (Nat.le_refl 0) dX4_laysFar_57 (fun v9 u9 hq => ?_) (fun k9 u9 hq => by obtain ⟨_, e9, _⟩ := hq; cases e9)
            obtain ⟨r9, e9, rfl, h⟩ := hq
            obtain rfl := Sum.inl.inj e9
            show J Γ RX4 cX4_laysFar 4 none "laysFar" [] 5 0 0 60 [(0, .ref a0), (1, .int l1), (2, .int l2)] [.int r9, .int l2, .ref (a0 + 8 + (l1).toNatClampNeg)] (n, K, A, Lg, G) P
            refine j_if_eq (tgt := 67) dX4_laysFar_60 (by decide) (fun c => ?_) (fun c => ?_)
            · rw [if_pos c] at h
              exact fX4_laysFar_J67_ok hf a0 ha0 Q P hP (fun x0 x1 x2 => fX4_laysFar_L10 a0 n K G k2 Q n9 x0 x1 x2) (fun x0 x1 x2 h9 => ih x0 x1 x2 h9) l1 l2 l2 (a0 + 8 + (l1).toNatClampNeg) A h
            · rw [if_neg c] at h
              refine j_iconst (v := 1) dX4_laysFar_63 (by decide) ?_
              refine j_goto (tgt := 69) dX4_laysFar_64 (by decide) ?_
              exact fX4_laysFar_J69_ok hf a0 ha0 Q P hP (fun x0 x1 x2 => fX4_laysFar_L10 a0 n K G k2 Q n9 x0 x1 x2) (fun x0 x1 x2 h9 => ih x0 x1 x2 h9) l1 l2 1 l2 (a0 + 8 + (l1).toNatClampNeg) A h
      · rw [if_pos c] at h
        refine j_iconst (v := 0) dX4_laysFar_28 (by decide) ?_
        refine j_goto (tgt := 69) dX4_laysFar_29 (by decide) ?_
        exact fX4_laysFar_J69_ok hf a0 ha0 Q P hP (fun x0 x1 x2 => fX4_laysFar_L10 a0 n K G k2 Q n9 x0 x1 x2) (fun x0 x1 x2 h9 => ih x0 x1 x2 h9) l1 l2 0 l2 (a0 + 8 + (l1).toNatClampNeg) A h
def fX4_laysFar_L100 (a0 : Nat) (n : Nat) (K : Nat → pKd) (G : pG) (k92 : Int32 → Int32 → pA → Prop) (Q : pA → Prop) : Nat → Int32 → Int32 → Int32 → pA → Prop
  | 0, _, _, _, _ => False
  | n9 + 1, l1, l2, l3, A =>
    (if 7 ≤ l3 then k92 l1 (l2 + 1) A else (vp_in l2 7) ∧ ((vp_in l2 7) ∧ ((vp_in l3 7) ∧ ((vp_in l2 7) ∧ ((vp_in l1 7) ∧ ((vp_in l1 7) ∧ ((vp_in l3 7) ∧ ((vp_in l3 7) ∧ (∀ A18 : pA, A18 = pup A (a0 + 8 + (l2).toNatClampNeg) (l3).toNatClampNeg (pmin (A (a0 + 8 + (l2).toNatClampNeg) (l3).toNatClampNeg) ((A (a0 + 8 + (l2).toNatClampNeg) (l1).toNatClampNeg) + (A (a0 + 8 + (l1).toNatClampNeg) (l3).toNatClampNeg))) → fX4_laysFar_L100 a0 n K G k92 Q n9 l1 l2 (l3 + 1) A18)))))))))
theorem fX4_laysFar_L100_ok {Γ : jG} {n : Nat} {K : Nat → pKd} {G : pG} {Lg : pL} (hf : fOK n K G) (a0 : Nat) (ha0 : xOK n K G a0) (Q : pA → Prop) (P : jO → pS → Prop) (hP : P = (fun o u => ∃ (A' : pA), o = .inl none ∧ u = (n, K, A', Lg, G) ∧ Q A'))  (k92 : Int32 → Int32 → pA → Prop) (ok92 : ∀ (l1 : Int32) (l2 : Int32) (A : pA), k92 l1 l2 A → J Γ RX4 cX4_laysFar 4 none "laysFar" [] 5 0 0 92 [(0, .ref a0), (1, .int l1), (2, .int l2)] [] (n, K, A, Lg, G) P) : ∀ (n9 : Nat) (l1 : Int32) (l2 : Int32) (l3 : Int32) (A : pA), fX4_laysFar_L100 a0 n K G k92 Q n9 l1 l2 l3 A → J Γ RX4 cX4_laysFar 4 none "laysFar" [] 5 0 0 100 [(0, .ref a0), (1, .int l1), (2, .int l2), (3, .int l3)] [] (n, K, A, Lg, G) P := by
  intro n9
  induction n9 with
  | zero => intro l1 l2 l3 A h; exact h.elim
  | succ n9 ih =>
    intro l1 l2 l3 A h
    unfold fX4_laysFar_L100 at h
    refine j_iload_n 3 rfl dX4_laysFar_100 ?_
    refine j_bipush (v := 7) dX4_laysFar_101 (by decide) ?_
    refine j_icmp_ge (tgt := 148) dX4_laysFar_103 (by decide) (fun c => ?_) (fun c => ?_)
    · rw [if_pos c] at h
      refine j_iinc (v := l2 + 1) 2 rfl rfl (by decide) rfl dX4_laysFar_148 ?_
      refine j_goto (tgt := 92) dX4_laysFar_151 (by decide) ?_
      refine j_ls [1, 2, 0] rfl ?_
      exact ok92 l1 (l2 + 1) A h
    · rw [if_neg c] at h
      refine j_aload_n 0 rfl dX4_laysFar_106 ?_
      refine j_getfr fl_X4_39_4 rfl (x_lt ha0 (j := 0) (by decide)) (xk_0 ha0) (xg_0_6 ha0) dX4_laysFar_107 ?_
      refine j_iload_n 2 rfl dX4_laysFar_110 ?_
      obtain ⟨b10, h⟩ := h
      refine j_aaldJ (t := 11) (j := (l2).toNatClampNeg) rfl rfl rfl (x_lt ha0 (j := 7) (by decide)) (xk_7 ha0) b10 rfl (x_row ha0 (j_ix b10)).1 dX4_laysFar_111 ?_
      refine j_iload_n 3 rfl dX4_laysFar_112 ?_
      refine j_aload_n 0 rfl dX4_laysFar_113 ?_
      refine j_getfr fl_X4_39_4 rfl (x_lt ha0 (j := 0) (by decide)) (xk_0 ha0) (xg_0_6 ha0) dX4_laysFar_114 ?_
      refine j_iload_n 2 rfl dX4_laysFar_117 ?_
      obtain ⟨b11, h⟩ := h
      refine j_aaldJ (t := 11) (j := (l2).toNatClampNeg) rfl rfl rfl (x_lt ha0 (j := 7) (by decide)) (xk_7 ha0) b11 rfl (x_row ha0 (j_ix b11)).1 dX4_laysFar_118 ?_
      refine j_iload_n 3 rfl dX4_laysFar_119 ?_
      obtain ⟨b12, h⟩ := h
      refine j_ialdJ (j := (l3).toNatClampNeg) (x_rowlt ha0 (j_ix b11)) (x_row ha0 (j_ix b11)).2 b12 rfl dX4_laysFar_120 ?_
      refine j_aload_n 0 rfl dX4_laysFar_121 ?_
      refine j_getfr fl_X4_39_4 rfl (x_lt ha0 (j := 0) (by decide)) (xk_0 ha0) (xg_0_6 ha0) dX4_laysFar_122 ?_
      refine j_iload_n 2 rfl dX4_laysFar_125 ?_
      obtain ⟨b13, h⟩ := h
      refine j_aaldJ (t := 11) (j := (l2).toNatClampNeg) rfl rfl rfl (x_lt ha0 (j := 7) (by decide)) (xk_7 ha0) b13 rfl (x_row ha0 (j_ix b13)).1 dX4_laysFar_126 ?_
      refine j_iload_n 1 rfl dX4_laysFar_127 ?_
      obtain ⟨b14, h⟩ := h
      refine j_ialdJ (j := (l1).toNatClampNeg) (x_rowlt ha0 (j_ix b13)) (x_row ha0 (j_ix b13)).2 b14 rfl dX4_laysFar_128 ?_
      refine j_aload_n 0 rfl dX4_laysFar_129 ?_
      refine j_getfr fl_X4_39_4 rfl (x_lt ha0 (j := 0) (by decide)) (xk_0 ha0) (xg_0_6 ha0) dX4_laysFar_130 ?_
      refine j_iload_n 1 rfl dX4_laysFar_133 ?_
      obtain ⟨b15, h⟩ := h
      refine j_aaldJ (t := 11) (j := (l1).toNatClampNeg) rfl rfl rfl (x_lt ha0 (j := 7) (by decide)) (xk_7 ha0) b15 rfl (x_row ha0 (j_ix b15)).1 dX4_laysFar_134 ?_
      refine j_iload_n 3 rfl dX4_laysFar_135 ?_
      obtain ⟨b16, h⟩ := h
      refine j_ialdJ (j := (l3).toNatClampNeg) (x_rowlt ha0 (j_ix b15)) (x_row ha0 (j_ix b15)).2 b16 rfl dX4_laysFar_136 ?_
      refine j_iadd dX4_laysFar_137 ?_
      refine j_mmin q1176 q917 q153 q918 (Nat.le_of_ble_eq_true rfl) (by decide) dX4_laysFar_138 ?_
      obtain ⟨b17, h⟩ := h
      refine j_iastJ (j := (l3).toNatClampNeg) (x_rowlt ha0 (j_ix b10)) (x_row ha0 (j_ix b10)).2 b17 rfl dX4_laysFar_141 (fun A18 eA18 => ?_)
      replace h := h A18 eA18
      refine j_iinc (v := l3 + 1) 3 rfl rfl (by decide) rfl dX4_laysFar_142 ?_
      refine j_goto (tgt := 100) dX4_laysFar_145 (by decide) ?_
      refine j_ls [1, 2, 3, 0] rfl ?_
      exact ih l1 l2 (l3 + 1) A18 h
def fX4_laysFar_L92 (a0 : Nat) (n : Nat) (K : Nat → pKd) (G : pG) (k84 : Int32 → pA → Prop) (Q : pA → Prop) : Nat → Int32 → Int32 → pA → Prop
  | 0, _, _, _ => False
  | n9 + 1, l1, l2, A =>
    (if 7 ≤ l2 then k84 (l1 + 1) A else ∃ m19, fX4_laysFar_L100 a0 n K G (fun x0 x1 x2 => fX4_laysFar_L92 a0 n K G k84 Q n9 x0 x1 x2) Q m19 l1 l2 0 A)
theorem fX4_laysFar_L92_ok {Γ : jG} {n : Nat} {K : Nat → pKd} {G : pG} {Lg : pL} (hf : fOK n K G) (a0 : Nat) (ha0 : xOK n K G a0) (Q : pA → Prop) (P : jO → pS → Prop) (hP : P = (fun o u => ∃ (A' : pA), o = .inl none ∧ u = (n, K, A', Lg, G) ∧ Q A'))  (k84 : Int32 → pA → Prop) (ok84 : ∀ (l1 : Int32) (A : pA), k84 l1 A → J Γ RX4 cX4_laysFar 4 none "laysFar" [] 5 0 0 84 [(0, .ref a0), (1, .int l1)] [] (n, K, A, Lg, G) P) : ∀ (n9 : Nat) (l1 : Int32) (l2 : Int32) (A : pA), fX4_laysFar_L92 a0 n K G k84 Q n9 l1 l2 A → J Γ RX4 cX4_laysFar 4 none "laysFar" [] 5 0 0 92 [(0, .ref a0), (1, .int l1), (2, .int l2)] [] (n, K, A, Lg, G) P := by
  intro n9
  induction n9 with
  | zero => intro l1 l2 A h; exact h.elim
  | succ n9 ih =>
    intro l1 l2 A h
    unfold fX4_laysFar_L92 at h
    refine j_iload_n 2 rfl dX4_laysFar_92 ?_
    refine j_bipush (v := 7) dX4_laysFar_93 (by decide) ?_
    refine j_icmp_ge (tgt := 154) dX4_laysFar_95 (by decide) (fun c => ?_) (fun c => ?_)
    · rw [if_pos c] at h
      refine j_iinc (v := l1 + 1) 1 rfl rfl (by decide) rfl dX4_laysFar_154 ?_
      refine j_goto (tgt := 84) dX4_laysFar_157 (by decide) ?_
      refine j_ls [1, 0] rfl ?_
      exact ok84 (l1 + 1) A h
    · rw [if_neg c] at h
      refine j_iconst (v := 0) dX4_laysFar_98 (by decide) ?_
      refine j_istore_n (by decide) rfl dX4_laysFar_99 ?_
      refine j_ls [1, 2, 3, 0] rfl ?_
      obtain ⟨m19, h⟩ := h
      exact fX4_laysFar_L100_ok hf a0 ha0 Q P hP (fun x0 x1 x2 => fX4_laysFar_L92 a0 n K G k84 Q n9 x0 x1 x2) (fun x0 x1 x2 h9 => ih x0 x1 x2 h9) m19 l1 l2 0 A h
def fX4_laysFar_L84 (a0 : Nat) (n : Nat) (K : Nat → pKd) (G : pG)  (Q : pA → Prop) : Nat → Int32 → pA → Prop
  | 0, _, _ => False
  | n9 + 1, l1, A =>
    (if 7 ≤ l1 then Q A else ∃ m20, fX4_laysFar_L92 a0 n K G (fun x0 x1 => fX4_laysFar_L84 a0 n K G  Q n9 x0 x1) Q m20 l1 0 A)
theorem fX4_laysFar_L84_ok {Γ : jG} {n : Nat} {K : Nat → pKd} {G : pG} {Lg : pL} (hf : fOK n K G) (a0 : Nat) (ha0 : xOK n K G a0) (Q : pA → Prop) (P : jO → pS → Prop) (hP : P = (fun o u => ∃ (A' : pA), o = .inl none ∧ u = (n, K, A', Lg, G) ∧ Q A'))    : ∀ (n9 : Nat) (l1 : Int32) (A : pA), fX4_laysFar_L84 a0 n K G  Q n9 l1 A → J Γ RX4 cX4_laysFar 4 none "laysFar" [] 5 0 0 84 [(0, .ref a0), (1, .int l1)] [] (n, K, A, Lg, G) P := by
  intro n9
  induction n9 with
  | zero => intro l1 A h; exact h.elim
  | succ n9 ih =>
    intro l1 A h
    unfold fX4_laysFar_L84 at h
    refine j_iload_n 1 rfl dX4_laysFar_84 ?_
    refine j_bipush (v := 7) dX4_laysFar_85 (by decide) ?_
    refine j_icmp_ge (tgt := 160) dX4_laysFar_87 (by decide) (fun c => ?_) (fun c => ?_)
    · rw [if_pos c] at h
      refine j_vret rfl ?_ dX4_laysFar_160
      rw [hP]
      exact ⟨A, rfl, rfl, h⟩
    · rw [if_neg c] at h
      refine j_iconst (v := 0) dX4_laysFar_90 (by decide) ?_
      refine j_istore_n (by decide) rfl dX4_laysFar_91 ?_
      refine j_ls [1, 2, 0] rfl ?_
      obtain ⟨m20, h⟩ := h
      exact fX4_laysFar_L92_ok hf a0 ha0 Q P hP (fun x0 x1 => fX4_laysFar_L84 a0 n K G  Q n9 x0 x1) (fun x0 x1 h9 => ih x0 x1 h9) m20 l1 0 A h
def fX4_laysFar_L2 (a0 : Nat) (n : Nat) (K : Nat → pKd) (G : pG)  (Q : pA → Prop) : Nat → Int32 → pA → Prop
  | 0, _, _ => False
  | n9 + 1, l1, A =>
    (if 7 ≤ l1 then ∃ m21, fX4_laysFar_L84 a0 n K G  Q m21 0 A else ∃ m22, fX4_laysFar_L10 a0 n K G (fun x0 x1 => fX4_laysFar_L2 a0 n K G  Q n9 x0 x1) Q m22 l1 0 A)
theorem fX4_laysFar_L2_ok {Γ : jG} {n : Nat} {K : Nat → pKd} {G : pG} {Lg : pL} (hf : fOK n K G) (a0 : Nat) (ha0 : xOK n K G a0) (Q : pA → Prop) (P : jO → pS → Prop) (hP : P = (fun o u => ∃ (A' : pA), o = .inl none ∧ u = (n, K, A', Lg, G) ∧ Q A'))    : ∀ (n9 : Nat) (l1 : Int32) (A : pA), fX4_laysFar_L2 a0 n K G  Q n9 l1 A → J Γ RX4 cX4_laysFar 4 none "laysFar" [] 5 0 0 2 [(0, .ref a0), (1, .int l1)] [] (n, K, A, Lg, G) P := by
  intro n9
  induction n9 with
  | zero => intro l1 A h; exact h.elim
  | succ n9 ih =>
    intro l1 A h
    unfold fX4_laysFar_L2 at h
    refine j_iload_n 1 rfl dX4_laysFar_2 ?_
    refine j_bipush (v := 7) dX4_laysFar_3 (by decide) ?_
    refine j_icmp_ge (tgt := 82) dX4_laysFar_5 (by decide) (fun c => ?_) (fun c => ?_)
    · rw [if_pos c] at h
      refine j_iconst (v := 0) dX4_laysFar_82 (by decide) ?_
      refine j_istore_n (by decide) rfl dX4_laysFar_83 ?_
      refine j_ls [1, 0] rfl ?_
      obtain ⟨m21, h⟩ := h
      exact fX4_laysFar_L84_ok hf a0 ha0 Q P hP   m21 0 A h
    · rw [if_neg c] at h
      refine j_iconst (v := 0) dX4_laysFar_8 (by decide) ?_
      refine j_istore_n (by decide) rfl dX4_laysFar_9 ?_
      refine j_ls [1, 2, 0] rfl ?_
      obtain ⟨m22, h⟩ := h
      exact fX4_laysFar_L10_ok hf a0 ha0 Q P hP (fun x0 x1 => fX4_laysFar_L2 a0 n K G  Q n9 x0 x1) (fun x0 x1 h9 => ih x0 x1 h9) m22 l1 0 A h
def fX4_laysFar (a0 : Nat) (n : Nat) (K : Nat → pKd) (A : pA) (G : pG) (Q : pA → Prop) : Prop :=
    ∃ m23, fX4_laysFar_L2 a0 n K G  Q m23 0 A
theorem tX4_laysFar {Γ : jG} {n : Nat} {K : Nat → pKd} {G : pG} {A : pA} {Lg : pL} (hf : fOK n K G) (a0 : Nat) (ha0 : xOK n K G a0)  (Q : pA → Prop) (h : fX4_laysFar a0 n K A G Q) : jMet Γ yX4_laysFar cX4_laysFar 4 none [] 5 0 0 [.ref a0] (n, K, A, Lg, G) (fun o u => ∃ (A' : pA), o = .inl none ∧ u = (n, K, A', Lg, G) ∧ Q A') := by
  unfold fX4_laysFar at h
  obtain ⟨P, hP⟩ : ∃ P : jO → pS → Prop, P = (fun o u => ∃ (A' : pA), o = .inl none ∧ u = (n, K, A', Lg, G) ∧ Q A') := ⟨_, rfl⟩
  rw [← hP]
  refine jMet_of rfl rfl rfl (Nat.le_of_ble_eq_true rfl) ?_
  show J Γ RX4 cX4_laysFar 4 none "laysFar" [] 5 0 0 0 [(0, .ref a0)] [] (n, K, A, Lg, G) P
  refine j_iconst (v := 0) dX4_laysFar_0 (by decide) ?_
  refine j_istore_n (by decide) rfl dX4_laysFar_1 ?_
  refine j_ls [1, 0] rfl ?_
  obtain ⟨m23, h⟩ := h
  exact fX4_laysFar_L2_ok hf a0 ha0 Q P hP   m23 0 A h
theorem myX4_isHour : jY yX4_isHour cX4_isHour 2 (some .boolean) 1 := ⟨q1340, q128, by decide +kernel, by decide +kernel, by decide⟩
def fX4_isHour (a0 : Nat) (A : pA) (p1 : Int32) (Q : Int32 → Prop) : Prop :=
    (if p1 < (A a0 9) then Q 0 else (if (A a0 10) ≤ p1 then Q 0 else Q 1))
theorem tX4_isHour {Γ : jG} {n : Nat} {K : Nat → pKd} {G : pG} {A : pA} {Lg : pL} (hf : fOK n K G) (a0 : Nat) (ha0 : xOK n K G a0) (p1 : Int32) (Q : Int32 → Prop) (h : fX4_isHour a0 A p1 Q) : jMet Γ yX4_isHour cX4_isHour 2 (some .boolean) [] 1 0 0 [.ref a0, .int p1] (n, K, A, Lg, G) (fun o u => ∃ (r : Int32), o = .inl (some (.int r)) ∧ u = (n, K, A, Lg, G) ∧ Q r) := by
  unfold fX4_isHour at h
  obtain ⟨P, hP⟩ : ∃ P : jO → pS → Prop, P = (fun o u => ∃ (r : Int32), o = .inl (some (.int r)) ∧ u = (n, K, A, Lg, G) ∧ Q r) := ⟨_, rfl⟩
  rw [← hP]
  refine jMet_of rfl rfl rfl (Nat.le_of_ble_eq_true rfl) ?_
  show J Γ RX4 cX4_isHour 2 (some .boolean) "isHour" [] 1 0 0 0 [(0, .ref a0), (1, .int p1)] [] (n, K, A, Lg, G) P
  refine j_iload_n 1 rfl dX4_isHour_0 ?_
  refine j_aload_n 0 rfl dX4_isHour_1 ?_
  refine j_getfi fl_X4_42_4 rfl (x_lt ha0 (j := 0) (by decide)) (xk_0 ha0) dX4_isHour_2 ?_
  refine j_icmp_lt (tgt := 20) dX4_isHour_5 (by decide) (fun c => ?_) (fun c => ?_)
  · rw [if_pos c] at h
    refine j_iconst (v := 0) dX4_isHour_20 (by decide) ?_
    refine j_zret rfl (by decide) ?_ dX4_isHour_21
    rw [hP]
    exact ⟨0, rfl, rfl, h⟩
  · rw [if_neg c] at h
    refine j_iload_n 1 rfl dX4_isHour_8 ?_
    refine j_aload_n 0 rfl dX4_isHour_9 ?_
    refine j_getfi fl_X4_46_4 rfl (x_lt ha0 (j := 0) (by decide)) (xk_0 ha0) dX4_isHour_10 ?_
    refine j_icmp_ge (tgt := 20) dX4_isHour_13 (by decide) (fun c => ?_) (fun c => ?_)
    · rw [if_pos c] at h
      refine j_iconst (v := 0) dX4_isHour_20 (by decide) ?_
      refine j_zret rfl (by decide) ?_ dX4_isHour_21
      rw [hP]
      exact ⟨0, rfl, rfl, h⟩
    · rw [if_neg c] at h
      refine j_iconst (v := 1) dX4_isHour_16 (by decide) ?_
      refine j_goto (tgt := 21) dX4_isHour_17 (by decide) ?_
      refine j_zret rfl (by decide) ?_ dX4_isHour_21
      rw [hP]
      exact ⟨1, rfl, rfl, h⟩
theorem myX4_step : jY yX4_step cX4_step 5 (some .int) 2 := ⟨q1336, q128, by decide +kernel, by decide +kernel, by decide⟩
def fX4_step_J50 (a0 : Nat) (n : Nat) (K : Nat → pKd) (A : pA) (G : pG) (k5 : Int32 → Int32 → Int32 → Int32 → Prop) (Q : Int32 → Prop) (l1 : Int32) (l2 : Int32) (l3 : Int32) (l4 : Int32) : Prop :=
    k5 l1 l2 l3 (l4 + 1)
theorem fX4_step_J50_ok {Γ : jG} {n : Nat} {K : Nat → pKd} {G : pG} {A : pA} {Lg : pL} (hf : fOK n K G) (a0 : Nat) (ha0 : xOK n K G a0) (Q : Int32 → Prop) (P : jO → pS → Prop) (hP : P = (fun o u => ∃ (r : Int32), o = .inl (some (.int r)) ∧ u = (n, K, A, Lg, G) ∧ Q r)) (k5 : Int32 → Int32 → Int32 → Int32 → Prop) (ok5 : ∀ (l1 : Int32) (l2 : Int32) (l3 : Int32) (l4 : Int32), k5 l1 l2 l3 l4 → J Γ RX4 cX4_step 5 (some .int) "step" [] 5 0 0 5 [(0, .ref a0), (1, .int l1), (2, .int l2), (3, .int l3), (4, .int l4)] [] (n, K, A, Lg, G) P) (l1 : Int32) (l2 : Int32) (l3 : Int32) (l4 : Int32) (h : fX4_step_J50 a0 n K A G k5 Q l1 l2 l3 l4) : J Γ RX4 cX4_step 5 (some .int) "step" [] 5 0 0 50 [(0, .ref a0), (1, .int l1), (2, .int l2), (3, .int l3), (4, .int l4)] [] (n, K, A, Lg, G) P := by
  unfold fX4_step_J50 at h
  refine j_iinc (v := l4 + 1) 4 rfl rfl (by decide) rfl dX4_step_50 ?_
  refine j_goto (tgt := 5) dX4_step_53 (by decide) ?_
  refine j_ls [1, 2, 3, 4, 0] rfl ?_
  exact ok5 l1 l2 l3 (l4 + 1) h
def fX4_step_L5 (a0 : Nat) (n : Nat) (K : Nat → pKd) (A : pA) (G : pG)  (Q : Int32 → Prop) : Nat → Int32 → Int32 → Int32 → Int32 → Prop
  | 0, _, _, _, _ => False
  | n9 + 1, l1, l2, l3, l4 =>
    fJ5_size (a0 + 1) A (fun r1 => (if r1 ≤ l4 then Q l3 else fX4_areNext a0 n K A G l1 l4 (fun r2 => (if r2 = 0 then fX4_step_J50 a0 n K A G (fun x0 x1 x2 x3 => fX4_step_L5 a0 n K A G  Q n9 x0 x1 x2 x3) Q l1 l2 l3 l4 else (vp_in l4 7) ∧ ((vp_in l2 7) ∧ ((vp_in l3 7) ∧ ((vp_in l2 7) ∧ ((if (A (a0 + 8 + (l3).toNatClampNeg) (l2).toNatClampNeg) ≤ (A (a0 + 8 + (l4).toNatClampNeg) (l2).toNatClampNeg) then fX4_step_J50 a0 n K A G (fun x0 x1 x2 x3 => fX4_step_L5 a0 n K A G  Q n9 x0 x1 x2 x3) Q l1 l2 l3 l4 else fX4_step_J50 a0 n K A G (fun x0 x1 x2 x3 => fX4_step_L5 a0 n K A G  Q n9 x0 x1 x2 x3) Q l1 l2 l4 l4)))))))))
theorem fX4_step_L5_ok {Γ : jG} {n : Nat} {K : Nat → pKd} {G : pG} {A : pA} {Lg : pL} (hf : fOK n K G) (a0 : Nat) (ha0 : xOK n K G a0) (Q : Int32 → Prop) (P : jO → pS → Prop) (hP : P = (fun o u => ∃ (r : Int32), o = .inl (some (.int r)) ∧ u = (n, K, A, Lg, G) ∧ Q r))    : ∀ (n9 : Nat) (l1 : Int32) (l2 : Int32) (l3 : Int32) (l4 : Int32), fX4_step_L5 a0 n K A G  Q n9 l1 l2 l3 l4 → J Γ RX4 cX4_step 5 (some .int) "step" [] 5 0 0 5 [(0, .ref a0), (1, .int l1), (2, .int l2), (3, .int l3), (4, .int l4)] [] (n, K, A, Lg, G) P := by
  intro n9
  induction n9 with
  | zero => intro l1 l2 l3 l4 h; exact h.elim
  | succ n9 ih =>
    intro l1 l2 l3 l4 h
    unfold fX4_step_L5 at h
    refine j_iload 4 rfl dX4_step_5 ?_
    refine j_aload_n 0 rfl dX4_step_7 ?_
    refine j_getfr fl_X4_12_4 rfl (x_lt ha0 (j := 0) (by decide)) (xk_0 ha0) (xg_0_0 ha0) dX4_step_8 ?_
    refine j_callV (b := (a0 + 1)) (As := []) (st := [.int l4]) (C := RJ5) (kc' := 0) (ks' := 0) (tJ5_size hf (a0 + 1) (x_lt ha0 (j := 1) (by decide)) (xk_1 ha0) _ h) myJ5_size rfl q1019 q536 q537 (j_l2 hf.1 (x_lt ha0 (j := 1) (by decide))) (fun s9 H9 hK9 hR9 h69 => jIs_in hK9 hR9 h69 (x_lt ha0 (j := 1) (by decide)) (xk_1 ha0) rfl) rfl (Nat.le_of_ble_eq_true rfl) rfl (by decide) (Nat.le_refl 0) (Nat.le_refl 0) dX4_step_11 (fun v9 u9 hq => ?_) (fun k9 u9 hq => by obtain ⟨_, e9, _⟩ := hq; cases e9)
    obtain ⟨r1, e9, rfl, h⟩ := hq
    obtain rfl := Sum.inl.inj e9
    show J Γ RX4 cX4_step 5 (some .int) "step" [] 5 0 0 14 [(0, .ref a0), (1, .int l1), (2, .int l2), (3, .int l3), (4, .int l4)] [.int r1, .int l4] (n, K, A, Lg, G) P
    refine j_icmp_ge (tgt := 56) dX4_step_14 (by decide) (fun c => ?_) (fun c => ?_)
    · rw [if_pos c] at h
      refine j_iload_n 3 rfl dX4_step_56 ?_
      refine j_iret rfl ?_ dX4_step_57
      rw [hP]
      exact ⟨l3, rfl, rfl, h⟩
    · rw [if_neg c] at h
      refine j_aload_n 0 rfl dX4_step_17 ?_
      refine j_iload_n 1 rfl dX4_step_18 ?_
      refine j_iload 4 rfl dX4_step_19 ?_
      refine j_callV (b := a0) (As := [.int l1, .int l4]) (st := []) (C := RX4) (kc' := 0) (ks' := 0) (tX4_areNext hf a0 ha0 l1 l4 _ h) myX4_areNext rfl q1174 q1113 q1114 (j_l2 hf.1 (x_lt ha0 (j := 0) (by decide))) (fun s9 H9 hK9 hR9 h69 => jIs_in hK9 hR9 h69 (x_lt ha0 (j := 0) (by decide)) (xk_0 ha0) rfl) rfl (Nat.le_of_ble_eq_true rfl) rfl (by decide) (Nat.le_refl 0) (Nat.le_refl 0) dX4_step_21 (fun v9 u9 hq => ?_) (fun k9 u9 hq => by obtain ⟨_, e9, _⟩ := hq; cases e9)
      obtain ⟨r2, e9, rfl, h⟩ := hq
      obtain rfl := Sum.inl.inj e9
      show J Γ RX4 cX4_step 5 (some .int) "step" [] 5 0 0 24 [(0, .ref a0), (1, .int l1), (2, .int l2), (3, .int l3), (4, .int l4)] [.int r2] (n, K, A, Lg, G) P
      refine j_if_eq (tgt := 50) dX4_step_24 (by decide) (fun c => ?_) (fun c => ?_)
      · rw [if_pos c] at h
        exact fX4_step_J50_ok hf a0 ha0 Q P hP (fun x0 x1 x2 x3 => fX4_step_L5 a0 n K A G  Q n9 x0 x1 x2 x3) (fun x0 x1 x2 x3 h9 => ih x0 x1 x2 x3 h9) l1 l2 l3 l4 h
      · rw [if_neg c] at h
        refine j_aload_n 0 rfl dX4_step_27 ?_
        refine j_getfr fl_X4_39_4 rfl (x_lt ha0 (j := 0) (by decide)) (xk_0 ha0) (xg_0_6 ha0) dX4_step_28 ?_
        refine j_iload 4 rfl dX4_step_31 ?_
        obtain ⟨b3, h⟩ := h
        refine j_aaldJ (t := 11) (j := (l4).toNatClampNeg) rfl rfl rfl (x_lt ha0 (j := 7) (by decide)) (xk_7 ha0) b3 rfl (x_row ha0 (j_ix b3)).1 dX4_step_33 ?_
        refine j_iload_n 2 rfl dX4_step_34 ?_
        obtain ⟨b4, h⟩ := h
        refine j_ialdJ (j := (l2).toNatClampNeg) (x_rowlt ha0 (j_ix b3)) (x_row ha0 (j_ix b3)).2 b4 rfl dX4_step_35 ?_
        refine j_aload_n 0 rfl dX4_step_36 ?_
        refine j_getfr fl_X4_39_4 rfl (x_lt ha0 (j := 0) (by decide)) (xk_0 ha0) (xg_0_6 ha0) dX4_step_37 ?_
        refine j_iload_n 3 rfl dX4_step_40 ?_
        obtain ⟨b5, h⟩ := h
        refine j_aaldJ (t := 11) (j := (l3).toNatClampNeg) rfl rfl rfl (x_lt ha0 (j := 7) (by decide)) (xk_7 ha0) b5 rfl (x_row ha0 (j_ix b5)).1 dX4_step_41 ?_
        refine j_iload_n 2 rfl dX4_step_42 ?_
        obtain ⟨b6, h⟩ := h
        refine j_ialdJ (j := (l2).toNatClampNeg) (x_rowlt ha0 (j_ix b5)) (x_row ha0 (j_ix b5)).2 b6 rfl dX4_step_43 ?_
        refine j_icmp_ge (tgt := 50) dX4_step_44 (by decide) (fun c => ?_) (fun c => ?_)
        · rw [if_pos c] at h
          exact fX4_step_J50_ok hf a0 ha0 Q P hP (fun x0 x1 x2 x3 => fX4_step_L5 a0 n K A G  Q n9 x0 x1 x2 x3) (fun x0 x1 x2 x3 h9 => ih x0 x1 x2 x3 h9) l1 l2 l3 l4 h
        · rw [if_neg c] at h
          refine j_iload 4 rfl dX4_step_47 ?_
          refine j_istore_n (by decide) rfl dX4_step_49 ?_
          refine j_ls [1, 2, 3, 0, 4] rfl ?_
          exact fX4_step_J50_ok hf a0 ha0 Q P hP (fun x0 x1 x2 x3 => fX4_step_L5 a0 n K A G  Q n9 x0 x1 x2 x3) (fun x0 x1 x2 x3 h9 => ih x0 x1 x2 x3 h9) l1 l2 l4 l4 h
def fX4_step (a0 : Nat) (n : Nat) (K : Nat → pKd) (A : pA) (G : pG) (p1 : Int32) (p2 : Int32) (Q : Int32 → Prop) : Prop :=
    ∃ m7, fX4_step_L5 a0 n K A G  Q m7 p1 p2 p1 0
theorem tX4_step {Γ : jG} {n : Nat} {K : Nat → pKd} {G : pG} {A : pA} {Lg : pL} (hf : fOK n K G) (a0 : Nat) (ha0 : xOK n K G a0) (p1 : Int32) (p2 : Int32) (Q : Int32 → Prop) (h : fX4_step a0 n K A G p1 p2 Q) : jMet Γ yX4_step cX4_step 5 (some .int) [] 5 0 0 [.ref a0, .int p1, .int p2] (n, K, A, Lg, G) (fun o u => ∃ (r : Int32), o = .inl (some (.int r)) ∧ u = (n, K, A, Lg, G) ∧ Q r) := by
  unfold fX4_step at h
  obtain ⟨P, hP⟩ : ∃ P : jO → pS → Prop, P = (fun o u => ∃ (r : Int32), o = .inl (some (.int r)) ∧ u = (n, K, A, Lg, G) ∧ Q r) := ⟨_, rfl⟩
  rw [← hP]
  refine jMet_of rfl rfl rfl (Nat.le_of_ble_eq_true rfl) ?_
  show J Γ RX4 cX4_step 5 (some .int) "step" [] 5 0 0 0 [(0, .ref a0), (1, .int p1), (2, .int p2)] [] (n, K, A, Lg, G) P
  refine j_iload_n 1 rfl dX4_step_0 ?_
  refine j_istore_n (by decide) rfl dX4_step_1 ?_
  refine j_iconst (v := 0) dX4_step_2 (by decide) ?_
  refine j_istore (by decide) rfl dX4_step_3 ?_
  refine j_ls [2, 3, 4, 1, 0] rfl ?_
  obtain ⟨m7, h⟩ := h
  exact fX4_step_L5_ok hf a0 ha0 Q P hP   m7 p1 p2 p1 0 h
theorem myX5_minute : jY yX5_minute cX5_minute 2 (some .int) 1 := ⟨q1254, q132, by decide +kernel, by decide +kernel, by decide⟩
def fX5_minute (a0 : Nat) (a1 : Nat) (A : pA) (Q : Int32 → Prop) : Prop :=
    Q (((A a1 11) + (A a0 11)) - ((A a1 11) + (A a0 11)) / 1440 * 1440)
theorem tX5_minute {Γ : jG} {n : Nat} {K : Nat → pKd} {G : pG} {A : pA} {Lg : pL} (hf : fOK n K G) (a0 : Nat) (ha0 : isT a0) (a1 : Nat) (ha1 : xOK n K G a1)  (Q : Int32 → Prop) (h : fX5_minute a0 a1 A Q) : jMet Γ yX5_minute cX5_minute 2 (some .int) [] 1 0 0 [.ref a0, .ref a1] (n, K, A, Lg, G) (fun o u => ∃ (r : Int32), o = .inl (some (.int r)) ∧ u = (n, K, A, Lg, G) ∧ Q r) := by
  unfold fX5_minute at h
  obtain ⟨P, hP⟩ : ∃ P : jO → pS → Prop, P = (fun o u => ∃ (r : Int32), o = .inl (some (.int r)) ∧ u = (n, K, A, Lg, G) ∧ Q r) := ⟨_, rfl⟩
  rw [← hP]
  refine jMet_of rfl rfl rfl (Nat.le_of_ble_eq_true rfl) ?_
  show J Γ RX5 cX5_minute 2 (some .int) "minute" [] 1 0 0 0 [(0, .ref a0), (1, .ref a1)] [] (n, K, A, Lg, G) P
  refine j_aload_n 1 rfl dX5_minute_0 ?_
  refine j_getfi fl_X5_102_4 rfl (x_lt ha1 (j := 0) (by decide)) (xk_0 ha1) dX5_minute_1 ?_
  refine j_aload_n 0 rfl dX5_minute_4 ?_
  refine j_getfi fl_X5_89_5 rfl (t_lt hf ha0 (j := 0) (by decide)) (tk_0 hf ha0) dX5_minute_5 ?_
  refine j_iadd dX5_minute_8 ?_
  refine j_sipush (v := 1440) dX5_minute_9 (by decide) ?_
  refine j_irem (by decide) dX5_minute_12 ?_
  refine j_iret rfl ?_ dX5_minute_13
  rw [hP]
  exact ⟨((A a1 11) + (A a0 11)) - ((A a1 11) + (A a0 11)) / 1440 * 1440, rfl, rfl, h⟩
theorem myX5_isFetched : jY yX5_isFetched cX5_isFetched 2 (some .boolean) 1 := ⟨q1232, q132, by decide +kernel, by decide +kernel, by decide⟩
def fX5_isFetched (a0 : Nat) (A : pA) (p1 : Int32) (Q : Int32 → Prop) : Prop :=
    (if (((A a0 9) >>> (p1 &&& 31)) &&& 1) = 1 then Q 1 else Q 0)
theorem tX5_isFetched {Γ : jG} {n : Nat} {K : Nat → pKd} {G : pG} {A : pA} {Lg : pL} (hf : fOK n K G) (a0 : Nat) (ha0 : isT a0) (p1 : Int32) (Q : Int32 → Prop) (h : fX5_isFetched a0 A p1 Q) : jMet Γ yX5_isFetched cX5_isFetched 2 (some .boolean) [] 1 0 0 [.ref a0, .int p1] (n, K, A, Lg, G) (fun o u => ∃ (r : Int32), o = .inl (some (.int r)) ∧ u = (n, K, A, Lg, G) ∧ Q r) := by
  unfold fX5_isFetched at h
  obtain ⟨P, hP⟩ : ∃ P : jO → pS → Prop, P = (fun o u => ∃ (r : Int32), o = .inl (some (.int r)) ∧ u = (n, K, A, Lg, G) ∧ Q r) := ⟨_, rfl⟩
  rw [← hP]
  refine jMet_of rfl rfl rfl (Nat.le_of_ble_eq_true rfl) ?_
  show J Γ RX5 cX5_isFetched 2 (some .boolean) "isFetched" [] 1 0 0 0 [(0, .ref a0), (1, .int p1)] [] (n, K, A, Lg, G) P
  refine j_aload_n 0 rfl dX5_isFetched_0 ?_
  refine j_getfi fl_X5_83_5 rfl (t_lt hf ha0 (j := 0) (by decide)) (tk_0 hf ha0) dX5_isFetched_1 ?_
  refine j_iload_n 1 rfl dX5_isFetched_4 ?_
  refine j_ishr dX5_isFetched_5 ?_
  refine j_iconst (v := 1) dX5_isFetched_6 (by decide) ?_
  refine j_iand dX5_isFetched_7 ?_
  refine j_iconst (v := 1) dX5_isFetched_8 (by decide) ?_
  refine j_icmp_ne (tgt := 16) dX5_isFetched_9 (by decide) (fun c => ?_) (fun c => ?_)
  · rw [if_neg c] at h
    refine j_iconst (v := 0) dX5_isFetched_16 (by decide) ?_
    refine j_zret rfl (by decide) ?_ dX5_isFetched_17
    rw [hP]
    exact ⟨0, rfl, rfl, h⟩
  · rw [if_pos c] at h
    refine j_iconst (v := 1) dX5_isFetched_12 (by decide) ?_
    refine j_goto (tgt := 17) dX5_isFetched_13 (by decide) ?_
    refine j_zret rfl (by decide) ?_ dX5_isFetched_17
    rw [hP]
    exact ⟨1, rfl, rfl, h⟩
theorem myX5_begins : jY yX5_begins cX5_begins 4 none 1 := ⟨q534, q132, by decide +kernel, by decide +kernel, by decide⟩
def fX5_begins_L58 (a0 : Nat) (a1 : Nat) (n : Nat) (K : Nat → pKd) (G : pG) (k2 : Int32 → pA → Prop) (Q : pA → Prop) : Nat → Int32 → Int32 → pA → Prop
  | 0, _, _, _ => False
  | n9 + 1, l2, l3, A =>
    (if 4 ≤ l3 then k2 (l2 + 1) A else (vp_in l2 5) ∧ ((vp_in l3 4) ∧ (∀ A3 : pA, A3 = pup A (a0 + 9 + (l2).toNatClampNeg) (l3).toNatClampNeg 0 → (vp_in l2 5) ∧ ((vp_in l3 4) ∧ (∀ A6 : pA, A6 = pup A3 (a0 + 15 + (l2).toNatClampNeg) (l3).toNatClampNeg 0 → fX5_begins_L58 a0 a1 n K G k2 Q n9 l2 (l3 + 1) A6)))))
theorem fX5_begins_L58_ok {Γ : jG} {n : Nat} {K : Nat → pKd} {G : pG} {Lg : pL} (hf : fOK n K G) (a0 : Nat) (ha0 : isT a0) (a1 : Nat) (ha1 : xOK n K G a1) (Q : pA → Prop) (P : jO → pS → Prop) (hP : P = (fun o u => ∃ (A' : pA), o = .inl none ∧ u = (n, K, A', Lg, G) ∧ Q A'))  (k2 : Int32 → pA → Prop) (ok2 : ∀ (l2 : Int32) (A : pA), k2 l2 A → J Γ RX5 cX5_begins 4 none "begins" [] 4 0 0 2 [(0, .ref a0), (1, .ref a1), (2, .int l2)] [] (n, K, A, Lg, G) P) : ∀ (n9 : Nat) (l2 : Int32) (l3 : Int32) (A : pA), fX5_begins_L58 a0 a1 n K G k2 Q n9 l2 l3 A → J Γ RX5 cX5_begins 4 none "begins" [] 4 0 0 58 [(0, .ref a0), (1, .ref a1), (2, .int l2), (3, .int l3)] [] (n, K, A, Lg, G) P := by
  intro n9
  induction n9 with
  | zero => intro l2 l3 A h; exact h.elim
  | succ n9 ih =>
    intro l2 l3 A h
    unfold fX5_begins_L58 at h
    refine j_iload_n 3 rfl dX5_begins_58 ?_
    refine j_iconst (v := 4) dX5_begins_59 (by decide) ?_
    refine j_icmp_ge (tgt := 87) dX5_begins_60 (by decide) (fun c => ?_) (fun c => ?_)
    · rw [if_pos c] at h
      refine j_iinc (v := l2 + 1) 2 rfl rfl (by decide) rfl dX5_begins_87 ?_
      refine j_goto (tgt := 2) dX5_begins_90 (by decide) ?_
      refine j_ls [1, 2, 0] rfl ?_
      exact ok2 (l2 + 1) A h
    · rw [if_neg c] at h
      refine j_aload_n 0 rfl dX5_begins_63 ?_
      refine j_getfr fl_X5_35_5 rfl (t_lt hf ha0 (j := 0) (by decide)) (tk_0 hf ha0) (tg_0_7 hf ha0) dX5_begins_64 ?_
      refine j_iload_n 2 rfl dX5_begins_67 ?_
      obtain ⟨b1, h⟩ := h
      refine j_aaldJ (t := 11) (j := (l2).toNatClampNeg) rfl rfl rfl (t_lt hf ha0 (j := 8) (by decide)) (tk_8 hf ha0) b1 rfl (t_row8 hf ha0 (j_ix b1)).1 dX5_begins_68 ?_
      refine j_iload_n 3 rfl dX5_begins_69 ?_
      refine j_iconst (v := 0) dX5_begins_70 (by decide) ?_
      obtain ⟨b2, h⟩ := h
      refine j_iastJ (j := (l3).toNatClampNeg) (t_rowlt8 hf ha0 (j_ix b1)) (t_row8 hf ha0 (j_ix b1)).2 b2 rfl dX5_begins_71 (fun A3 eA3 => ?_)
      replace h := h A3 eA3
      refine j_aload_n 0 rfl dX5_begins_72 ?_
      refine j_getfr fl_X5_38_5 rfl (t_lt hf ha0 (j := 0) (by decide)) (tk_0 hf ha0) (tg_0_8 hf ha0) dX5_begins_73 ?_
      refine j_iload_n 2 rfl dX5_begins_76 ?_
      obtain ⟨b4, h⟩ := h
      refine j_aaldJ (t := 11) (j := (l2).toNatClampNeg) rfl rfl rfl (t_lt hf ha0 (j := 14) (by decide)) (tk_14 hf ha0) b4 rfl (t_row14 hf ha0 (j_ix b4)).1 dX5_begins_77 ?_
      refine j_iload_n 3 rfl dX5_begins_78 ?_
      refine j_iconst (v := 0) dX5_begins_79 (by decide) ?_
      obtain ⟨b5, h⟩ := h
      refine j_iastJ (j := (l3).toNatClampNeg) (t_rowlt14 hf ha0 (j_ix b4)) (t_row14 hf ha0 (j_ix b4)).2 b5 rfl dX5_begins_80 (fun A6 eA6 => ?_)
      replace h := h A6 eA6
      refine j_iinc (v := l3 + 1) 3 rfl rfl (by decide) rfl dX5_begins_81 ?_
      refine j_goto (tgt := 58) dX5_begins_84 (by decide) ?_
      refine j_ls [1, 2, 3, 0] rfl ?_
      exact ih l2 (l3 + 1) A6 h
def fX5_begins_J41 (a0 : Nat) (a1 : Nat) (n : Nat) (K : Nat → pKd) (G : pG) (k2 : Int32 → pA → Prop) (Q : pA → Prop) (l2 : Int32) (s0 : Int32) (s1 : Int32) (A : pA) : Prop :=
    (vp_in s1 5) ∧ (∀ A8 : pA, A8 = pup A (a0 + 1) (s1).toNatClampNeg s0 → (vp_in l2 5) ∧ (∀ A10 : pA, A10 = pup A8 (a0 + 2) (l2).toNatClampNeg 0 → (vp_in l2 5) ∧ (∀ A12 : pA, A12 = pup A10 (a0 + 3) (l2).toNatClampNeg 0 → ∃ m13, fX5_begins_L58 a0 a1 n K G k2 Q m13 l2 0 A12)))
theorem fX5_begins_J41_ok {Γ : jG} {n : Nat} {K : Nat → pKd} {G : pG} {Lg : pL} (hf : fOK n K G) (a0 : Nat) (ha0 : isT a0) (a1 : Nat) (ha1 : xOK n K G a1) (Q : pA → Prop) (P : jO → pS → Prop) (hP : P = (fun o u => ∃ (A' : pA), o = .inl none ∧ u = (n, K, A', Lg, G) ∧ Q A')) (k2 : Int32 → pA → Prop) (ok2 : ∀ (l2 : Int32) (A : pA), k2 l2 A → J Γ RX5 cX5_begins 4 none "begins" [] 4 0 0 2 [(0, .ref a0), (1, .ref a1), (2, .int l2)] [] (n, K, A, Lg, G) P) (l2 : Int32) (s0 : Int32) (s1 : Int32) (A : pA) (h : fX5_begins_J41 a0 a1 n K G k2 Q l2 s0 s1 A) : J Γ RX5 cX5_begins 4 none "begins" [] 4 0 0 41 [(0, .ref a0), (1, .ref a1), (2, .int l2)] [.int s0, .int s1, .ref (a0 + 1)] (n, K, A, Lg, G) P := by
  unfold fX5_begins_J41 at h
  obtain ⟨b7, h⟩ := h
  refine j_iastJ (j := (s1).toNatClampNeg) (t_lt hf ha0 (j := 1) (by decide)) (tk_1 hf ha0) b7 rfl dX5_begins_41 (fun A8 eA8 => ?_)
  replace h := h A8 eA8
  refine j_aload_n 0 rfl dX5_begins_42 ?_
  refine j_getfr fl_X5_15_5 rfl (t_lt hf ha0 (j := 0) (by decide)) (tk_0 hf ha0) (tg_0_1 hf ha0) dX5_begins_43 ?_
  refine j_iload_n 2 rfl dX5_begins_46 ?_
  refine j_iconst (v := 0) dX5_begins_47 (by decide) ?_
  obtain ⟨b9, h⟩ := h
  refine j_iastJ (j := (l2).toNatClampNeg) (t_lt hf ha0 (j := 2) (by decide)) (tk_2 hf ha0) b9 rfl dX5_begins_48 (fun A10 eA10 => ?_)
  replace h := h A10 eA10
  refine j_aload_n 0 rfl dX5_begins_49 ?_
  refine j_getfr fl_X5_18_5 rfl (t_lt hf ha0 (j := 0) (by decide)) (tk_0 hf ha0) (tg_0_2 hf ha0) dX5_begins_50 ?_
  refine j_iload_n 2 rfl dX5_begins_53 ?_
  refine j_iconst (v := 0) dX5_begins_54 (by decide) ?_
  obtain ⟨b11, h⟩ := h
  refine j_iastJ (j := (l2).toNatClampNeg) (t_lt hf ha0 (j := 3) (by decide)) (tk_3 hf ha0) b11 rfl dX5_begins_55 (fun A12 eA12 => ?_)
  replace h := h A12 eA12
  refine j_iconst (v := 0) dX5_begins_56 (by decide) ?_
  refine j_istore_n (by decide) rfl dX5_begins_57 ?_
  refine j_ls [1, 2, 3, 0] rfl ?_
  obtain ⟨m13, h⟩ := h
  exact fX5_begins_L58_ok hf a0 ha0 a1 ha1 Q P hP k2 ok2 m13 l2 0 A12 h
def fX5_begins_J177 (a0 : Nat) (a1 : Nat) (n : Nat) (K : Nat → pKd) (G : pG) (k95 : Int32 → pA → Prop) (Q : pA → Prop) (l2 : Int32) (s0 : Int32) (s1 : Int32) (A : pA) : Prop :=
    (vp_in s1 4) ∧ (∀ A15 : pA, A15 = pup A (a0 + 6) (s1).toNatClampNeg s0 → (vp_in l2 4) ∧ (∀ A17 : pA, A17 = pup A15 (a0 + 7) (l2).toNatClampNeg 0 → k95 (l2 + 1) A17))
theorem fX5_begins_J177_ok {Γ : jG} {n : Nat} {K : Nat → pKd} {G : pG} {Lg : pL} (hf : fOK n K G) (a0 : Nat) (ha0 : isT a0) (a1 : Nat) (ha1 : xOK n K G a1) (Q : pA → Prop) (P : jO → pS → Prop) (hP : P = (fun o u => ∃ (A' : pA), o = .inl none ∧ u = (n, K, A', Lg, G) ∧ Q A')) (k95 : Int32 → pA → Prop) (ok95 : ∀ (l2 : Int32) (A : pA), k95 l2 A → J Γ RX5 cX5_begins 4 none "begins" [] 4 0 0 95 [(0, .ref a0), (1, .ref a1), (2, .int l2)] [] (n, K, A, Lg, G) P) (l2 : Int32) (s0 : Int32) (s1 : Int32) (A : pA) (h : fX5_begins_J177 a0 a1 n K G k95 Q l2 s0 s1 A) : J Γ RX5 cX5_begins 4 none "begins" [] 4 0 0 177 [(0, .ref a0), (1, .ref a1), (2, .int l2)] [.int s0, .int s1, .ref (a0 + 6)] (n, K, A, Lg, G) P := by
  unfold fX5_begins_J177 at h
  obtain ⟨b14, h⟩ := h
  refine j_iastJ (j := (s1).toNatClampNeg) (t_lt hf ha0 (j := 6) (by decide)) (tk_6 hf ha0) b14 rfl dX5_begins_177 (fun A15 eA15 => ?_)
  replace h := h A15 eA15
  refine j_aload_n 0 rfl dX5_begins_178 ?_
  refine j_getfr fl_X5_30_5 rfl (t_lt hf ha0 (j := 0) (by decide)) (tk_0 hf ha0) (tg_0_6 hf ha0) dX5_begins_179 ?_
  refine j_iload_n 2 rfl dX5_begins_182 ?_
  refine j_iconst (v := 0) dX5_begins_183 (by decide) ?_
  obtain ⟨b16, h⟩ := h
  refine j_iastJ (j := (l2).toNatClampNeg) (t_lt hf ha0 (j := 7) (by decide)) (tk_7 hf ha0) b16 rfl dX5_begins_184 (fun A17 eA17 => ?_)
  replace h := h A17 eA17
  refine j_iinc (v := l2 + 1) 2 rfl rfl (by decide) rfl dX5_begins_185 ?_
  refine j_goto (tgt := 95) dX5_begins_188 (by decide) ?_
  refine j_ls [1, 2, 0] rfl ?_
  exact ok95 (l2 + 1) A17 h
def fX5_begins_J134 (a0 : Nat) (a1 : Nat) (n : Nat) (K : Nat → pKd) (G : pG) (k95 : Int32 → pA → Prop) (Q : pA → Prop) (l2 : Int32) (s0 : Int32) (s1 : Int32) (A : pA) : Prop :=
    (vp_in s1 4) ∧ (∀ A19 : pA, A19 = pup A (a0 + 4) (s1).toNatClampNeg s0 → (vp_in l2 4) ∧ (∀ A21 : pA, A21 = pup A19 (a0 + 5) (l2).toNatClampNeg (-2) → fJ5_size (a1 + 3) A21 (fun r22 => (if r22 ≤ l2 then fX5_begins_J177 a0 a1 n K G k95 Q l2 0 l2 A21 else fJ5_get (a1 + 3) n K A21 G l2 (fun r23 => (r23 < n) ∧ ((K r23 = .inl 16) ∧ (fX5_begins_J177 a0 a1 n K G k95 Q l2 (A21 r23 2) l2 A21)))))))
theorem fX5_begins_J134_ok {Γ : jG} {n : Nat} {K : Nat → pKd} {G : pG} {Lg : pL} (hf : fOK n K G) (a0 : Nat) (ha0 : isT a0) (a1 : Nat) (ha1 : xOK n K G a1) (Q : pA → Prop) (P : jO → pS → Prop) (hP : P = (fun o u => ∃ (A' : pA), o = .inl none ∧ u = (n, K, A', Lg, G) ∧ Q A')) (k95 : Int32 → pA → Prop) (ok95 : ∀ (l2 : Int32) (A : pA), k95 l2 A → J Γ RX5 cX5_begins 4 none "begins" [] 4 0 0 95 [(0, .ref a0), (1, .ref a1), (2, .int l2)] [] (n, K, A, Lg, G) P) (l2 : Int32) (s0 : Int32) (s1 : Int32) (A : pA) (h : fX5_begins_J134 a0 a1 n K G k95 Q l2 s0 s1 A) : J Γ RX5 cX5_begins 4 none "begins" [] 4 0 0 134 [(0, .ref a0), (1, .ref a1), (2, .int l2)] [.int s0, .int s1, .ref (a0 + 4)] (n, K, A, Lg, G) P := by
  unfold fX5_begins_J134 at h
  obtain ⟨b18, h⟩ := h
  refine j_iastJ (j := (s1).toNatClampNeg) (t_lt hf ha0 (j := 4) (by decide)) (tk_4 hf ha0) b18 rfl dX5_begins_134 (fun A19 eA19 => ?_)
  replace h := h A19 eA19
  refine j_aload_n 0 rfl dX5_begins_135 ?_
  refine j_getfr fl_X5_24_5 rfl (t_lt hf ha0 (j := 0) (by decide)) (tk_0 hf ha0) (tg_0_4 hf ha0) dX5_begins_136 ?_
  refine j_iload_n 2 rfl dX5_begins_139 ?_
  refine j_bipush (v := (-2)) dX5_begins_140 (by decide) ?_
  obtain ⟨b20, h⟩ := h
  refine j_iastJ (j := (l2).toNatClampNeg) (t_lt hf ha0 (j := 5) (by decide)) (tk_5 hf ha0) b20 rfl dX5_begins_142 (fun A21 eA21 => ?_)
  replace h := h A21 eA21
  refine j_aload_n 0 rfl dX5_begins_143 ?_
  refine j_getfr fl_X5_27_5 rfl (t_lt hf ha0 (j := 0) (by decide)) (tk_0 hf ha0) (tg_0_5 hf ha0) dX5_begins_144 ?_
  refine j_iload_n 2 rfl dX5_begins_147 ?_
  refine j_iload_n 2 rfl dX5_begins_148 ?_
  refine j_aload_n 1 rfl dX5_begins_149 ?_
  refine j_getfr fl_X5_73_4 rfl (x_lt ha1 (j := 0) (by decide)) (xk_0 ha1) (xg_0_2 ha1) dX5_begins_150 ?_
  refine j_callV (b := (a1 + 3)) (As := []) (st := [.int l2, .int l2, .ref (a0 + 6)]) (C := RJ5) (kc' := 0) (ks' := 0) (tJ5_size hf (a1 + 3) (x_lt ha1 (j := 3) (by decide)) (xk_3 ha1) _ h) myJ5_size rfl q535 q536 q537 (j_l2 hf.1 (x_lt ha1 (j := 3) (by decide))) (fun s9 H9 hK9 hR9 h69 => jIs_in hK9 hR9 h69 (x_lt ha1 (j := 3) (by decide)) (xk_3 ha1) rfl) rfl (Nat.le_of_ble_eq_true rfl) rfl (by decide) (Nat.le_refl 0) (Nat.le_refl 0) dX5_begins_153 (fun v9 u9 hq => ?_) (fun k9 u9 hq => by obtain ⟨_, e9, _⟩ := hq; cases e9)
  obtain ⟨r22, e9, rfl, h⟩ := hq
  obtain rfl := Sum.inl.inj e9
  show J Γ RX5 cX5_begins 4 none "begins" [] 4 0 0 156 [(0, .ref a0), (1, .ref a1), (2, .int l2)] [.int r22, .int l2, .int l2, .ref (a0 + 6)] (n, K, A21, Lg, G) P
  refine j_icmp_ge (tgt := 176) dX5_begins_156 (by decide) (fun c => ?_) (fun c => ?_)
  · rw [if_pos c] at h
    refine j_iconst (v := 0) dX5_begins_176 (by decide) ?_
    exact fX5_begins_J177_ok hf a0 ha0 a1 ha1 Q P hP k95 ok95 l2 0 l2 A21 h
  · rw [if_neg c] at h
    refine j_aload_n 1 rfl dX5_begins_159 ?_
    refine j_getfr fl_X5_73_4 rfl (x_lt ha1 (j := 0) (by decide)) (xk_0 ha1) (xg_0_2 ha1) dX5_begins_160 ?_
    refine j_iload_n 2 rfl dX5_begins_163 ?_
    refine j_callV (b := (a1 + 3)) (As := [.int l2]) (st := [.int l2, .ref (a0 + 6)]) (C := RJ5) (kc' := 0) (ks' := 0) (tJ5_get hf (a1 + 3) (x_lt ha1 (j := 3) (by decide)) (xk_3 ha1) l2 _ h) myJ5_get rfl q539 q540 q541 (j_l2 hf.1 (x_lt ha1 (j := 3) (by decide))) (fun s9 H9 hK9 hR9 h69 => jIs_in hK9 hR9 h69 (x_lt ha1 (j := 3) (by decide)) (xk_3 ha1) rfl) rfl (Nat.le_of_ble_eq_true rfl) rfl (by decide) (Nat.le_refl 0) (Nat.le_refl 0) dX5_begins_164 (fun v9 u9 hq => ?_) (fun k9 u9 hq => by obtain ⟨_, e9, _⟩ := hq; cases e9)
    obtain ⟨r23, e9, rfl, h⟩ := hq
    obtain rfl := Sum.inl.inj e9
    show J Γ RX5 cX5_begins 4 none "begins" [] 4 0 0 167 [(0, .ref a0), (1, .ref a1), (2, .int l2)] [.ref r23, .int l2, .ref (a0 + 6)] (n, K, A21, Lg, G) P
    obtain ⟨b24, h⟩ := h
    obtain ⟨b25, h⟩ := h
    refine j_cast (C := "DogsHour$Person") q554 (j_l2 hf.1 b24) (fun s9 H9 hK9 hR9 h69 => jIs_in hK9 hR9 h69 b24 b25 rfl) (Or.inl rfl) dX5_begins_167 ?_
    refine j_getfi fl_X5_81_16 rfl b24 b25 dX5_begins_170 ?_
    refine j_goto (tgt := 177) dX5_begins_173 (by decide) ?_
    exact fX5_begins_J177_ok hf a0 ha0 a1 ha1 Q P hP k95 ok95 l2 (A21 r23 2) l2 A21 h
def fX5_begins_L95 (a0 : Nat) (a1 : Nat) (n : Nat) (K : Nat → pKd) (G : pG)  (Q : pA → Prop) : Nat → Int32 → pA → Prop
  | 0, _, _ => False
  | n9 + 1, l2, A =>
    (if 4 ≤ l2 then ∀ A26 : pA, A26 = pup A a0 9 0 → ∀ A27 : pA, A27 = pup A26 a0 10 0 → ∀ A28 : pA, A28 = pup A27 a0 11 0 → Q A28 else fJ5_size (a1 + 3) A (fun r29 => (if r29 ≤ l2 then fX5_begins_J134 a0 a1 n K G (fun x0 x1 => fX5_begins_L95 a0 a1 n K G  Q n9 x0 x1) Q l2 0 l2 A else fJ5_get (a1 + 3) n K A G l2 (fun r30 => (r30 < n) ∧ ((K r30 = .inl 16) ∧ (fX5_begins_J134 a0 a1 n K G (fun x0 x1 => fX5_begins_L95 a0 a1 n K G  Q n9 x0 x1) Q l2 (A r30 1) l2 A))))))
theorem fX5_begins_L95_ok {Γ : jG} {n : Nat} {K : Nat → pKd} {G : pG} {Lg : pL} (hf : fOK n K G) (a0 : Nat) (ha0 : isT a0) (a1 : Nat) (ha1 : xOK n K G a1) (Q : pA → Prop) (P : jO → pS → Prop) (hP : P = (fun o u => ∃ (A' : pA), o = .inl none ∧ u = (n, K, A', Lg, G) ∧ Q A'))    : ∀ (n9 : Nat) (l2 : Int32) (A : pA), fX5_begins_L95 a0 a1 n K G  Q n9 l2 A → J Γ RX5 cX5_begins 4 none "begins" [] 4 0 0 95 [(0, .ref a0), (1, .ref a1), (2, .int l2)] [] (n, K, A, Lg, G) P := by
  intro n9
  induction n9 with
  | zero => intro l2 A h; exact h.elim
  | succ n9 ih =>
    intro l2 A h
    unfold fX5_begins_L95 at h
    refine j_iload_n 2 rfl dX5_begins_95 ?_
    refine j_iconst (v := 4) dX5_begins_96 (by decide) ?_
    refine j_icmp_ge (tgt := 191) dX5_begins_97 (by decide) (fun c => ?_) (fun c => ?_)
    · rw [if_pos c] at h
      refine j_aload_n 0 rfl dX5_begins_191 ?_
      refine j_iconst (v := 0) dX5_begins_192 (by decide) ?_
      refine j_putfiE (fp_X5_83_5 _) rfl rfl rfl (t_lt hf ha0 (j := 0) (by decide)) (tk_0 hf ha0) dX5_begins_193 (fun A26 eA26 => ?_)
      replace h := h A26 eA26
      refine j_aload_n 0 rfl dX5_begins_196 ?_
      refine j_iconst (v := 0) dX5_begins_197 (by decide) ?_
      refine j_putfiE (fp_X5_86_5 _) rfl rfl rfl (t_lt hf ha0 (j := 0) (by decide)) (tk_0 hf ha0) dX5_begins_198 (fun A27 eA27 => ?_)
      replace h := h A27 eA27
      refine j_aload_n 0 rfl dX5_begins_201 ?_
      refine j_iconst (v := 0) dX5_begins_202 (by decide) ?_
      refine j_putfiE (fp_X5_89_5 _) rfl rfl rfl (t_lt hf ha0 (j := 0) (by decide)) (tk_0 hf ha0) dX5_begins_203 (fun A28 eA28 => ?_)
      replace h := h A28 eA28
      refine j_vret rfl ?_ dX5_begins_206
      rw [hP]
      exact ⟨A28, rfl, rfl, h⟩
    · rw [if_neg c] at h
      refine j_aload_n 0 rfl dX5_begins_100 ?_
      refine j_getfr fl_X5_21_5 rfl (t_lt hf ha0 (j := 0) (by decide)) (tk_0 hf ha0) (tg_0_3 hf ha0) dX5_begins_101 ?_
      refine j_iload_n 2 rfl dX5_begins_104 ?_
      refine j_iload_n 2 rfl dX5_begins_105 ?_
      refine j_aload_n 1 rfl dX5_begins_106 ?_
      refine j_getfr fl_X5_73_4 rfl (x_lt ha1 (j := 0) (by decide)) (xk_0 ha1) (xg_0_2 ha1) dX5_begins_107 ?_
      refine j_callV (b := (a1 + 3)) (As := []) (st := [.int l2, .int l2, .ref (a0 + 4)]) (C := RJ5) (kc' := 0) (ks' := 0) (tJ5_size hf (a1 + 3) (x_lt ha1 (j := 3) (by decide)) (xk_3 ha1) _ h) myJ5_size rfl q535 q536 q537 (j_l2 hf.1 (x_lt ha1 (j := 3) (by decide))) (fun s9 H9 hK9 hR9 h69 => jIs_in hK9 hR9 h69 (x_lt ha1 (j := 3) (by decide)) (xk_3 ha1) rfl) rfl (Nat.le_of_ble_eq_true rfl) rfl (by decide) (Nat.le_refl 0) (Nat.le_refl 0) dX5_begins_110 (fun v9 u9 hq => ?_) (fun k9 u9 hq => by obtain ⟨_, e9, _⟩ := hq; cases e9)
      obtain ⟨r29, e9, rfl, h⟩ := hq
      obtain rfl := Sum.inl.inj e9
      show J Γ RX5 cX5_begins 4 none "begins" [] 4 0 0 113 [(0, .ref a0), (1, .ref a1), (2, .int l2)] [.int r29, .int l2, .int l2, .ref (a0 + 4)] (n, K, A, Lg, G) P
      refine j_icmp_ge (tgt := 133) dX5_begins_113 (by decide) (fun c => ?_) (fun c => ?_)
      · rw [if_pos c] at h
        refine j_iconst (v := 0) dX5_begins_133 (by decide) ?_
        exact fX5_begins_J134_ok hf a0 ha0 a1 ha1 Q P hP (fun x0 x1 => fX5_begins_L95 a0 a1 n K G  Q n9 x0 x1) (fun x0 x1 h9 => ih x0 x1 h9) l2 0 l2 A h
      · rw [if_neg c] at h
        refine j_aload_n 1 rfl dX5_begins_116 ?_
        refine j_getfr fl_X5_73_4 rfl (x_lt ha1 (j := 0) (by decide)) (xk_0 ha1) (xg_0_2 ha1) dX5_begins_117 ?_
        refine j_iload_n 2 rfl dX5_begins_120 ?_
        refine j_callV (b := (a1 + 3)) (As := [.int l2]) (st := [.int l2, .ref (a0 + 4)]) (C := RJ5) (kc' := 0) (ks' := 0) (tJ5_get hf (a1 + 3) (x_lt ha1 (j := 3) (by decide)) (xk_3 ha1) l2 _ h) myJ5_get rfl q539 q540 q541 (j_l2 hf.1 (x_lt ha1 (j := 3) (by decide))) (fun s9 H9 hK9 hR9 h69 => jIs_in hK9 hR9 h69 (x_lt ha1 (j := 3) (by decide)) (xk_3 ha1) rfl) rfl (Nat.le_of_ble_eq_true rfl) rfl (by decide) (Nat.le_refl 0) (Nat.le_refl 0) dX5_begins_121 (fun v9 u9 hq => ?_) (fun k9 u9 hq => by obtain ⟨_, e9, _⟩ := hq; cases e9)
        obtain ⟨r30, e9, rfl, h⟩ := hq
        obtain rfl := Sum.inl.inj e9
        show J Γ RX5 cX5_begins 4 none "begins" [] 4 0 0 124 [(0, .ref a0), (1, .ref a1), (2, .int l2)] [.ref r30, .int l2, .ref (a0 + 4)] (n, K, A, Lg, G) P
        obtain ⟨b31, h⟩ := h
        obtain ⟨b32, h⟩ := h
        refine j_cast (C := "DogsHour$Person") q554 (j_l2 hf.1 b31) (fun s9 H9 hK9 hR9 h69 => jIs_in hK9 hR9 h69 b31 b32 rfl) (Or.inl rfl) dX5_begins_124 ?_
        refine j_getfi fl_X5_78_16 rfl b31 b32 dX5_begins_127 ?_
        refine j_goto (tgt := 134) dX5_begins_130 (by decide) ?_
        exact fX5_begins_J134_ok hf a0 ha0 a1 ha1 Q P hP (fun x0 x1 => fX5_begins_L95 a0 a1 n K G  Q n9 x0 x1) (fun x0 x1 h9 => ih x0 x1 h9) l2 (A r30 1) l2 A h
def fX5_begins_L2 (a0 : Nat) (a1 : Nat) (n : Nat) (K : Nat → pKd) (G : pG)  (Q : pA → Prop) : Nat → Int32 → pA → Prop
  | 0, _, _ => False
  | n9 + 1, l2, A =>
    (if 5 ≤ l2 then ∃ m33, fX5_begins_L95 a0 a1 n K G  Q m33 0 A else fJ5_size (a1 + 2) A (fun r34 => (if r34 ≤ l2 then fX5_begins_J41 a0 a1 n K G (fun x0 x1 => fX5_begins_L2 a0 a1 n K G  Q n9 x0 x1) Q l2 0 l2 A else fJ5_get (a1 + 2) n K A G l2 (fun r35 => (r35 < n) ∧ ((K r35 = .inl 15) ∧ (fX5_begins_J41 a0 a1 n K G (fun x0 x1 => fX5_begins_L2 a0 a1 n K G  Q n9 x0 x1) Q l2 (A r35 1) l2 A))))))
theorem fX5_begins_L2_ok {Γ : jG} {n : Nat} {K : Nat → pKd} {G : pG} {Lg : pL} (hf : fOK n K G) (a0 : Nat) (ha0 : isT a0) (a1 : Nat) (ha1 : xOK n K G a1) (Q : pA → Prop) (P : jO → pS → Prop) (hP : P = (fun o u => ∃ (A' : pA), o = .inl none ∧ u = (n, K, A', Lg, G) ∧ Q A'))    : ∀ (n9 : Nat) (l2 : Int32) (A : pA), fX5_begins_L2 a0 a1 n K G  Q n9 l2 A → J Γ RX5 cX5_begins 4 none "begins" [] 4 0 0 2 [(0, .ref a0), (1, .ref a1), (2, .int l2)] [] (n, K, A, Lg, G) P := by
  intro n9
  induction n9 with
  | zero => intro l2 A h; exact h.elim
  | succ n9 ih =>
    intro l2 A h
    unfold fX5_begins_L2 at h
    refine j_iload_n 2 rfl dX5_begins_2 ?_
    refine j_iconst (v := 5) dX5_begins_3 (by decide) ?_
    refine j_icmp_ge (tgt := 93) dX5_begins_4 (by decide) (fun c => ?_) (fun c => ?_)
    · rw [if_pos c] at h
      refine j_iconst (v := 0) dX5_begins_93 (by decide) ?_
      refine j_istore_n (by decide) rfl dX5_begins_94 ?_
      refine j_ls [1, 2, 0] rfl ?_
      obtain ⟨m33, h⟩ := h
      exact fX5_begins_L95_ok hf a0 ha0 a1 ha1 Q P hP   m33 0 A h
    · rw [if_neg c] at h
      refine j_aload_n 0 rfl dX5_begins_7 ?_
      refine j_getfr fl_X5_9_5 rfl (t_lt hf ha0 (j := 0) (by decide)) (tk_0 hf ha0) (tg_0_0 hf ha0) dX5_begins_8 ?_
      refine j_iload_n 2 rfl dX5_begins_11 ?_
      refine j_iload_n 2 rfl dX5_begins_12 ?_
      refine j_aload_n 1 rfl dX5_begins_13 ?_
      refine j_getfr fl_X5_51_4 rfl (x_lt ha1 (j := 0) (by decide)) (xk_0 ha1) (xg_0_1 ha1) dX5_begins_14 ?_
      refine j_callV (b := (a1 + 2)) (As := []) (st := [.int l2, .int l2, .ref (a0 + 1)]) (C := RJ5) (kc' := 0) (ks' := 0) (tJ5_size hf (a1 + 2) (x_lt ha1 (j := 2) (by decide)) (xk_2 ha1) _ h) myJ5_size rfl q535 q536 q537 (j_l2 hf.1 (x_lt ha1 (j := 2) (by decide))) (fun s9 H9 hK9 hR9 h69 => jIs_in hK9 hR9 h69 (x_lt ha1 (j := 2) (by decide)) (xk_2 ha1) rfl) rfl (Nat.le_of_ble_eq_true rfl) rfl (by decide) (Nat.le_refl 0) (Nat.le_refl 0) dX5_begins_17 (fun v9 u9 hq => ?_) (fun k9 u9 hq => by obtain ⟨_, e9, _⟩ := hq; cases e9)
      obtain ⟨r34, e9, rfl, h⟩ := hq
      obtain rfl := Sum.inl.inj e9
      show J Γ RX5 cX5_begins 4 none "begins" [] 4 0 0 20 [(0, .ref a0), (1, .ref a1), (2, .int l2)] [.int r34, .int l2, .int l2, .ref (a0 + 1)] (n, K, A, Lg, G) P
      refine j_icmp_ge (tgt := 40) dX5_begins_20 (by decide) (fun c => ?_) (fun c => ?_)
      · rw [if_pos c] at h
        refine j_iconst (v := 0) dX5_begins_40 (by decide) ?_
        exact fX5_begins_J41_ok hf a0 ha0 a1 ha1 Q P hP (fun x0 x1 => fX5_begins_L2 a0 a1 n K G  Q n9 x0 x1) (fun x0 x1 h9 => ih x0 x1 h9) l2 0 l2 A h
      · rw [if_neg c] at h
        refine j_aload_n 1 rfl dX5_begins_23 ?_
        refine j_getfr fl_X5_51_4 rfl (x_lt ha1 (j := 0) (by decide)) (xk_0 ha1) (xg_0_1 ha1) dX5_begins_24 ?_
        refine j_iload_n 2 rfl dX5_begins_27 ?_
        refine j_callV (b := (a1 + 2)) (As := [.int l2]) (st := [.int l2, .ref (a0 + 1)]) (C := RJ5) (kc' := 0) (ks' := 0) (tJ5_get hf (a1 + 2) (x_lt ha1 (j := 2) (by decide)) (xk_2 ha1) l2 _ h) myJ5_get rfl q539 q540 q541 (j_l2 hf.1 (x_lt ha1 (j := 2) (by decide))) (fun s9 H9 hK9 hR9 h69 => jIs_in hK9 hR9 h69 (x_lt ha1 (j := 2) (by decide)) (xk_2 ha1) rfl) rfl (Nat.le_of_ble_eq_true rfl) rfl (by decide) (Nat.le_refl 0) (Nat.le_refl 0) dX5_begins_28 (fun v9 u9 hq => ?_) (fun k9 u9 hq => by obtain ⟨_, e9, _⟩ := hq; cases e9)
        obtain ⟨r35, e9, rfl, h⟩ := hq
        obtain rfl := Sum.inl.inj e9
        show J Γ RX5 cX5_begins 4 none "begins" [] 4 0 0 31 [(0, .ref a0), (1, .ref a1), (2, .int l2)] [.ref r35, .int l2, .ref (a0 + 1)] (n, K, A, Lg, G) P
        obtain ⟨b36, h⟩ := h
        obtain ⟨b37, h⟩ := h
        refine j_cast (C := "DogsHour$Dog") q553 (j_l2 hf.1 b36) (fun s9 H9 hK9 hR9 h69 => jIs_in hK9 hR9 h69 b36 b37 rfl) (Or.inl rfl) dX5_begins_31 ?_
        refine j_getfi fl_X5_69_15 rfl b36 b37 dX5_begins_34 ?_
        refine j_goto (tgt := 41) dX5_begins_37 (by decide) ?_
        exact fX5_begins_J41_ok hf a0 ha0 a1 ha1 Q P hP (fun x0 x1 => fX5_begins_L2 a0 a1 n K G  Q n9 x0 x1) (fun x0 x1 h9 => ih x0 x1 h9) l2 (A r35 1) l2 A h
def fX5_begins (a0 : Nat) (a1 : Nat) (n : Nat) (K : Nat → pKd) (A : pA) (G : pG) (Q : pA → Prop) : Prop :=
    ∃ m38, fX5_begins_L2 a0 a1 n K G  Q m38 0 A
theorem tX5_begins {Γ : jG} {n : Nat} {K : Nat → pKd} {G : pG} {A : pA} {Lg : pL} (hf : fOK n K G) (a0 : Nat) (ha0 : isT a0) (a1 : Nat) (ha1 : xOK n K G a1)  (Q : pA → Prop) (h : fX5_begins a0 a1 n K A G Q) : jMet Γ yX5_begins cX5_begins 4 none [] 4 0 0 [.ref a0, .ref a1] (n, K, A, Lg, G) (fun o u => ∃ (A' : pA), o = .inl none ∧ u = (n, K, A', Lg, G) ∧ Q A') := by
  unfold fX5_begins at h
  obtain ⟨P, hP⟩ : ∃ P : jO → pS → Prop, P = (fun o u => ∃ (A' : pA), o = .inl none ∧ u = (n, K, A', Lg, G) ∧ Q A') := ⟨_, rfl⟩
  rw [← hP]
  refine jMet_of rfl rfl rfl (Nat.le_of_ble_eq_true rfl) ?_
  show J Γ RX5 cX5_begins 4 none "begins" [] 4 0 0 0 [(0, .ref a0), (1, .ref a1)] [] (n, K, A, Lg, G) P
  refine j_iconst (v := 0) dX5_begins_0 (by decide) ?_
  refine j_istore_n (by decide) rfl dX5_begins_1 ?_
  refine j_ls [1, 2, 0] rfl ?_
  obtain ⟨m38, h⟩ := h
  exact fX5_begins_L2_ok hf a0 ha0 a1 ha1 Q P hP   m38 0 A h
theorem myX5_asks : jY yX5_asks cX5_asks 4 (some (.object "DogsHour$Asked")) 3 := ⟨q1249, q132, by decide +kernel, by decide +kernel, by decide⟩
def fX5_asks (a0 : Nat) (a1 : Nat) (n : Nat) (K : Nat → pKd) (A : pA) (G : pG) (p2 : Int32) (p3 : Int32) (Q : pA → Prop) : Prop :=
    (vp_in p2 5) ∧ ((vp_in p3 4) ∧ (∀ A3 : pA, A3 = pup A (a0 + 22) 0 (A (a0 + 9 + (p2).toNatClampNeg) (p3).toNatClampNeg) → (vp_in p2 5) ∧ ((vp_in p3 4) ∧ (∀ A6 : pA, A6 = pup A3 (a0 + 22) 1 (A3 (a0 + 15 + (p2).toNatClampNeg) (p3).toNatClampNeg) → (vp_in p2 5) ∧ ((vp_in (A6 (a0 + 1) (p2).toNatClampNeg) 7) ∧ ((vp_in p3 4) ∧ ((vp_in (A6 (a0 + 4) (p3).toNatClampNeg) 7) ∧ (∀ A11 : pA, A11 = pup A6 (a0 + 22) 2 (pmin 99 (A6 (a1 + 8 + (A6 (a0 + 1) (p2).toNatClampNeg).toNatClampNeg) (A6 (a0 + 4) (p3).toNatClampNeg).toNatClampNeg)) → (vp_in p3 4) ∧ (∀ A13 : pA, A13 = pup A11 (a0 + 22) 3 (A11 (a0 + 6) (p3).toNatClampNeg) → fJ5_get (a1 + 2) n K A13 G p2 (fun r14 => (r14 < n) ∧ ((K r14 = .inl 15) ∧ (∀ A17 : pA, A17 = pup A13 (a0 + 22) 4 (A13 r14 2) → fJ5_get (a1 + 2) n K A17 G p2 (fun r18 => (r18 < n) ∧ ((K r18 = .inl 15) ∧ (∀ A21 : pA, A21 = pup A17 (a0 + 22) 5 (A17 r18 3) → fX5_minute a0 a1 A21 (fun r22 => ∀ A23 : pA, A23 = pup A21 (a0 + 22) 6 r22 → ∀ A24 : pA, A24 = pup A23 (a0 + 22) 7 p2 → (vp_in p2 5) ∧ (∀ A26 : pA, A26 = pup A24 (a0 + 22) 8 (A24 (a0 + 2) (p2).toNatClampNeg) → Q A26)))))))))))))))))
theorem tX5_asks {Γ : jG} {n : Nat} {K : Nat → pKd} {G : pG} {A : pA} {Lg : pL} (hf : fOK n K G) (a0 : Nat) (ha0 : isT a0) (a1 : Nat) (ha1 : xOK n K G a1) (p2 : Int32) (p3 : Int32) (Q : pA → Prop) (h : fX5_asks a0 a1 n K A G p2 p3 Q) : jMet Γ yX5_asks cX5_asks 4 (some (.object "DogsHour$Asked")) [] 4 0 0 [.ref a0, .ref a1, .int p2, .int p3] (n, K, A, Lg, G) (fun o u => ∃ (A' : pA), o = .inl (some (.ref (a0 + 21))) ∧ u = (n, K, A', Lg, G) ∧ Q A') := by
  unfold fX5_asks at h
  obtain ⟨P, hP⟩ : ∃ P : jO → pS → Prop, P = (fun o u => ∃ (A' : pA), o = .inl (some (.ref (a0 + 21))) ∧ u = (n, K, A', Lg, G) ∧ Q A') := ⟨_, rfl⟩
  rw [← hP]
  refine jMet_of rfl rfl rfl (Nat.le_of_ble_eq_true rfl) ?_
  show J Γ RX5 cX5_asks 4 (some (.object "DogsHour$Asked")) "asks" [] 4 0 0 0 [(0, .ref a0), (1, .ref a1), (2, .int p2), (3, .int p3)] [] (n, K, A, Lg, G) P
  refine j_aload_n 0 rfl dX5_asks_0 ?_
  refine j_getfr fl_X5_47_5 rfl (t_lt hf ha0 (j := 0) (by decide)) (tk_0 hf ha0) (tg_0_13 hf ha0) dX5_asks_1 ?_
  refine j_getfr fl_X5_105_6 rfl (t_lt hf ha0 (j := 21) (by decide)) (tk_21 hf ha0) (tg_21_0 hf ha0) dX5_asks_4 ?_
  refine j_iconst (v := 0) dX5_asks_7 (by decide) ?_
  refine j_aload_n 0 rfl dX5_asks_8 ?_
  refine j_getfr fl_X5_35_5 rfl (t_lt hf ha0 (j := 0) (by decide)) (tk_0 hf ha0) (tg_0_7 hf ha0) dX5_asks_9 ?_
  refine j_iload_n 2 rfl dX5_asks_12 ?_
  obtain ⟨b1, h⟩ := h
  refine j_aaldJ (t := 11) (j := (p2).toNatClampNeg) rfl rfl rfl (t_lt hf ha0 (j := 8) (by decide)) (tk_8 hf ha0) b1 rfl (t_row8 hf ha0 (j_ix b1)).1 dX5_asks_13 ?_
  refine j_iload_n 3 rfl dX5_asks_14 ?_
  obtain ⟨b2, h⟩ := h
  refine j_ialdJ (j := (p3).toNatClampNeg) (t_rowlt8 hf ha0 (j_ix b1)) (t_row8 hf ha0 (j_ix b1)).2 b2 rfl dX5_asks_15 ?_
  refine j_iastJ (j := 0) (t_lt hf ha0 (j := 22) (by decide)) (tk_22 hf ha0) (by unfold vp_in; decide) rfl dX5_asks_16 (fun A3 eA3 => ?_)
  replace h := h A3 eA3
  refine j_aload_n 0 rfl dX5_asks_17 ?_
  refine j_getfr fl_X5_47_5 rfl (t_lt hf ha0 (j := 0) (by decide)) (tk_0 hf ha0) (tg_0_13 hf ha0) dX5_asks_18 ?_
  refine j_getfr fl_X5_105_6 rfl (t_lt hf ha0 (j := 21) (by decide)) (tk_21 hf ha0) (tg_21_0 hf ha0) dX5_asks_21 ?_
  refine j_iconst (v := 1) dX5_asks_24 (by decide) ?_
  refine j_aload_n 0 rfl dX5_asks_25 ?_
  refine j_getfr fl_X5_38_5 rfl (t_lt hf ha0 (j := 0) (by decide)) (tk_0 hf ha0) (tg_0_8 hf ha0) dX5_asks_26 ?_
  refine j_iload_n 2 rfl dX5_asks_29 ?_
  obtain ⟨b4, h⟩ := h
  refine j_aaldJ (t := 11) (j := (p2).toNatClampNeg) rfl rfl rfl (t_lt hf ha0 (j := 14) (by decide)) (tk_14 hf ha0) b4 rfl (t_row14 hf ha0 (j_ix b4)).1 dX5_asks_30 ?_
  refine j_iload_n 3 rfl dX5_asks_31 ?_
  obtain ⟨b5, h⟩ := h
  refine j_ialdJ (j := (p3).toNatClampNeg) (t_rowlt14 hf ha0 (j_ix b4)) (t_row14 hf ha0 (j_ix b4)).2 b5 rfl dX5_asks_32 ?_
  refine j_iastJ (j := 1) (t_lt hf ha0 (j := 22) (by decide)) (tk_22 hf ha0) (by unfold vp_in; decide) rfl dX5_asks_33 (fun A6 eA6 => ?_)
  replace h := h A6 eA6
  refine j_aload_n 0 rfl dX5_asks_34 ?_
  refine j_getfr fl_X5_47_5 rfl (t_lt hf ha0 (j := 0) (by decide)) (tk_0 hf ha0) (tg_0_13 hf ha0) dX5_asks_35 ?_
  refine j_getfr fl_X5_105_6 rfl (t_lt hf ha0 (j := 21) (by decide)) (tk_21 hf ha0) (tg_21_0 hf ha0) dX5_asks_38 ?_
  refine j_iconst (v := 2) dX5_asks_41 (by decide) ?_
  refine j_bipush (v := 99) dX5_asks_42 (by decide) ?_
  refine j_aload_n 1 rfl dX5_asks_44 ?_
  refine j_getfr fl_X5_108_4 rfl (x_lt ha1 (j := 0) (by decide)) (xk_0 ha1) (xg_0_6 ha1) dX5_asks_45 ?_
  refine j_aload_n 0 rfl dX5_asks_48 ?_
  refine j_getfr fl_X5_9_5 rfl (t_lt hf ha0 (j := 0) (by decide)) (tk_0 hf ha0) (tg_0_0 hf ha0) dX5_asks_49 ?_
  refine j_iload_n 2 rfl dX5_asks_52 ?_
  obtain ⟨b7, h⟩ := h
  refine j_ialdJ (j := (p2).toNatClampNeg) (t_lt hf ha0 (j := 1) (by decide)) (tk_1 hf ha0) b7 rfl dX5_asks_53 ?_
  obtain ⟨b8, h⟩ := h
  refine j_aaldJ (t := 11) (j := (A6 (a0 + 1) (p2).toNatClampNeg).toNatClampNeg) rfl rfl rfl (x_lt ha1 (j := 7) (by decide)) (xk_7 ha1) b8 rfl (x_row ha1 (j_ix b8)).1 dX5_asks_54 ?_
  refine j_aload_n 0 rfl dX5_asks_55 ?_
  refine j_getfr fl_X5_21_5 rfl (t_lt hf ha0 (j := 0) (by decide)) (tk_0 hf ha0) (tg_0_3 hf ha0) dX5_asks_56 ?_
  refine j_iload_n 3 rfl dX5_asks_59 ?_
  obtain ⟨b9, h⟩ := h
  refine j_ialdJ (j := (p3).toNatClampNeg) (t_lt hf ha0 (j := 4) (by decide)) (tk_4 hf ha0) b9 rfl dX5_asks_60 ?_
  obtain ⟨b10, h⟩ := h
  refine j_ialdJ (j := (A6 (a0 + 4) (p3).toNatClampNeg).toNatClampNeg) (x_rowlt ha1 (j_ix b8)) (x_row ha1 (j_ix b8)).2 b10 rfl dX5_asks_61 ?_
  refine j_mmin q1250 q917 q153 q918 (Nat.le_of_ble_eq_true rfl) (by decide) dX5_asks_62 ?_
  refine j_iastJ (j := 2) (t_lt hf ha0 (j := 22) (by decide)) (tk_22 hf ha0) (by unfold vp_in; decide) rfl dX5_asks_65 (fun A11 eA11 => ?_)
  replace h := h A11 eA11
  refine j_aload_n 0 rfl dX5_asks_66 ?_
  refine j_getfr fl_X5_47_5 rfl (t_lt hf ha0 (j := 0) (by decide)) (tk_0 hf ha0) (tg_0_13 hf ha0) dX5_asks_67 ?_
  refine j_getfr fl_X5_105_6 rfl (t_lt hf ha0 (j := 21) (by decide)) (tk_21 hf ha0) (tg_21_0 hf ha0) dX5_asks_70 ?_
  refine j_iconst (v := 3) dX5_asks_73 (by decide) ?_
  refine j_aload_n 0 rfl dX5_asks_74 ?_
  refine j_getfr fl_X5_27_5 rfl (t_lt hf ha0 (j := 0) (by decide)) (tk_0 hf ha0) (tg_0_5 hf ha0) dX5_asks_75 ?_
  refine j_iload_n 3 rfl dX5_asks_78 ?_
  obtain ⟨b12, h⟩ := h
  refine j_ialdJ (j := (p3).toNatClampNeg) (t_lt hf ha0 (j := 6) (by decide)) (tk_6 hf ha0) b12 rfl dX5_asks_79 ?_
  refine j_iastJ (j := 3) (t_lt hf ha0 (j := 22) (by decide)) (tk_22 hf ha0) (by unfold vp_in; decide) rfl dX5_asks_80 (fun A13 eA13 => ?_)
  replace h := h A13 eA13
  refine j_aload_n 0 rfl dX5_asks_81 ?_
  refine j_getfr fl_X5_47_5 rfl (t_lt hf ha0 (j := 0) (by decide)) (tk_0 hf ha0) (tg_0_13 hf ha0) dX5_asks_82 ?_
  refine j_getfr fl_X5_105_6 rfl (t_lt hf ha0 (j := 21) (by decide)) (tk_21 hf ha0) (tg_21_0 hf ha0) dX5_asks_85 ?_
  refine j_iconst (v := 4) dX5_asks_88 (by decide) ?_
  refine j_aload_n 1 rfl dX5_asks_89 ?_
  refine j_getfr fl_X5_51_4 rfl (x_lt ha1 (j := 0) (by decide)) (xk_0 ha1) (xg_0_1 ha1) dX5_asks_90 ?_
  refine j_iload_n 2 rfl dX5_asks_93 ?_
  refine j_callV (b := (a1 + 2)) (As := [.int p2]) (st := [.int 4, .ref (a0 + 22)]) (C := RJ5) (kc' := 0) (ks' := 0) (tJ5_get hf (a1 + 2) (x_lt ha1 (j := 2) (by decide)) (xk_2 ha1) p2 _ h) myJ5_get rfl q539 q540 q541 (j_l2 hf.1 (x_lt ha1 (j := 2) (by decide))) (fun s9 H9 hK9 hR9 h69 => jIs_in hK9 hR9 h69 (x_lt ha1 (j := 2) (by decide)) (xk_2 ha1) rfl) rfl (Nat.le_of_ble_eq_true rfl) rfl (by decide) (Nat.le_refl 0) (Nat.le_refl 0) dX5_asks_94 (fun v9 u9 hq => ?_) (fun k9 u9 hq => by obtain ⟨_, e9, _⟩ := hq; cases e9)
  obtain ⟨r14, e9, rfl, h⟩ := hq
  obtain rfl := Sum.inl.inj e9
  show J Γ RX5 cX5_asks 4 (some (.object "DogsHour$Asked")) "asks" [] 4 0 0 97 [(0, .ref a0), (1, .ref a1), (2, .int p2), (3, .int p3)] [.ref r14, .int 4, .ref (a0 + 22)] (n, K, A13, Lg, G) P
  obtain ⟨b15, h⟩ := h
  obtain ⟨b16, h⟩ := h
  refine j_cast (C := "DogsHour$Dog") q553 (j_l2 hf.1 b15) (fun s9 H9 hK9 hR9 h69 => jIs_in hK9 hR9 h69 b15 b16 rfl) (Or.inl rfl) dX5_asks_97 ?_
  refine j_getfi fl_X5_117_15 rfl b15 b16 dX5_asks_100 ?_
  refine j_iastJ (j := 4) (t_lt hf ha0 (j := 22) (by decide)) (tk_22 hf ha0) (by unfold vp_in; decide) rfl dX5_asks_103 (fun A17 eA17 => ?_)
  replace h := h A17 eA17
  refine j_aload_n 0 rfl dX5_asks_104 ?_
  refine j_getfr fl_X5_47_5 rfl (t_lt hf ha0 (j := 0) (by decide)) (tk_0 hf ha0) (tg_0_13 hf ha0) dX5_asks_105 ?_
  refine j_getfr fl_X5_105_6 rfl (t_lt hf ha0 (j := 21) (by decide)) (tk_21 hf ha0) (tg_21_0 hf ha0) dX5_asks_108 ?_
  refine j_iconst (v := 5) dX5_asks_111 (by decide) ?_
  refine j_aload_n 1 rfl dX5_asks_112 ?_
  refine j_getfr fl_X5_51_4 rfl (x_lt ha1 (j := 0) (by decide)) (xk_0 ha1) (xg_0_1 ha1) dX5_asks_113 ?_
  refine j_iload_n 2 rfl dX5_asks_116 ?_
  refine j_callV (b := (a1 + 2)) (As := [.int p2]) (st := [.int 5, .ref (a0 + 22)]) (C := RJ5) (kc' := 0) (ks' := 0) (tJ5_get hf (a1 + 2) (x_lt ha1 (j := 2) (by decide)) (xk_2 ha1) p2 _ h) myJ5_get rfl q539 q540 q541 (j_l2 hf.1 (x_lt ha1 (j := 2) (by decide))) (fun s9 H9 hK9 hR9 h69 => jIs_in hK9 hR9 h69 (x_lt ha1 (j := 2) (by decide)) (xk_2 ha1) rfl) rfl (Nat.le_of_ble_eq_true rfl) rfl (by decide) (Nat.le_refl 0) (Nat.le_refl 0) dX5_asks_117 (fun v9 u9 hq => ?_) (fun k9 u9 hq => by obtain ⟨_, e9, _⟩ := hq; cases e9)
  obtain ⟨r18, e9, rfl, h⟩ := hq
  obtain rfl := Sum.inl.inj e9
  show J Γ RX5 cX5_asks 4 (some (.object "DogsHour$Asked")) "asks" [] 4 0 0 120 [(0, .ref a0), (1, .ref a1), (2, .int p2), (3, .int p3)] [.ref r18, .int 5, .ref (a0 + 22)] (n, K, A17, Lg, G) P
  obtain ⟨b19, h⟩ := h
  obtain ⟨b20, h⟩ := h
  refine j_cast (C := "DogsHour$Dog") q553 (j_l2 hf.1 b19) (fun s9 H9 hK9 hR9 h69 => jIs_in hK9 hR9 h69 b19 b20 rfl) (Or.inl rfl) dX5_asks_120 ?_
  refine j_getfi fl_X5_120_15 rfl b19 b20 dX5_asks_123 ?_
  refine j_iastJ (j := 5) (t_lt hf ha0 (j := 22) (by decide)) (tk_22 hf ha0) (by unfold vp_in; decide) rfl dX5_asks_126 (fun A21 eA21 => ?_)
  replace h := h A21 eA21
  refine j_aload_n 0 rfl dX5_asks_127 ?_
  refine j_getfr fl_X5_47_5 rfl (t_lt hf ha0 (j := 0) (by decide)) (tk_0 hf ha0) (tg_0_13 hf ha0) dX5_asks_128 ?_
  refine j_getfr fl_X5_105_6 rfl (t_lt hf ha0 (j := 21) (by decide)) (tk_21 hf ha0) (tg_21_0 hf ha0) dX5_asks_131 ?_
  refine j_bipush (v := 6) dX5_asks_134 (by decide) ?_
  refine j_aload_n 0 rfl dX5_asks_136 ?_
  refine j_aload_n 1 rfl dX5_asks_137 ?_
  refine j_callV (b := a0) (As := [.ref a1]) (st := [.int 6, .ref (a0 + 22)]) (C := RX5) (kc' := 0) (ks' := 0) (tX5_minute hf a0 ha0 a1 ha1 _ h) myX5_minute rfl q1251 q1252 q1253 (j_l2 hf.1 (t_lt hf ha0 (j := 0) (by decide))) (fun s9 H9 hK9 hR9 h69 => jIs_in hK9 hR9 h69 (t_lt hf ha0 (j := 0) (by decide)) (tk_0 hf ha0) rfl) rfl (Nat.le_of_ble_eq_true rfl) rfl (by decide) (Nat.le_refl 0) (Nat.le_refl 0) dX5_asks_138 (fun v9 u9 hq => ?_) (fun k9 u9 hq => by obtain ⟨_, e9, _⟩ := hq; cases e9)
  obtain ⟨r22, e9, rfl, h⟩ := hq
  obtain rfl := Sum.inl.inj e9
  show J Γ RX5 cX5_asks 4 (some (.object "DogsHour$Asked")) "asks" [] 4 0 0 141 [(0, .ref a0), (1, .ref a1), (2, .int p2), (3, .int p3)] [.int r22, .int 6, .ref (a0 + 22)] (n, K, A21, Lg, G) P
  refine j_iastJ (j := 6) (t_lt hf ha0 (j := 22) (by decide)) (tk_22 hf ha0) (by unfold vp_in; decide) rfl dX5_asks_141 (fun A23 eA23 => ?_)
  replace h := h A23 eA23
  refine j_aload_n 0 rfl dX5_asks_142 ?_
  refine j_getfr fl_X5_47_5 rfl (t_lt hf ha0 (j := 0) (by decide)) (tk_0 hf ha0) (tg_0_13 hf ha0) dX5_asks_143 ?_
  refine j_getfr fl_X5_105_6 rfl (t_lt hf ha0 (j := 21) (by decide)) (tk_21 hf ha0) (tg_21_0 hf ha0) dX5_asks_146 ?_
  refine j_bipush (v := 7) dX5_asks_149 (by decide) ?_
  refine j_iload_n 2 rfl dX5_asks_151 ?_
  refine j_iastJ (j := 7) (t_lt hf ha0 (j := 22) (by decide)) (tk_22 hf ha0) (by unfold vp_in; decide) rfl dX5_asks_152 (fun A24 eA24 => ?_)
  replace h := h A24 eA24
  refine j_aload_n 0 rfl dX5_asks_153 ?_
  refine j_getfr fl_X5_47_5 rfl (t_lt hf ha0 (j := 0) (by decide)) (tk_0 hf ha0) (tg_0_13 hf ha0) dX5_asks_154 ?_
  refine j_getfr fl_X5_105_6 rfl (t_lt hf ha0 (j := 21) (by decide)) (tk_21 hf ha0) (tg_21_0 hf ha0) dX5_asks_157 ?_
  refine j_bipush (v := 8) dX5_asks_160 (by decide) ?_
  refine j_aload_n 0 rfl dX5_asks_162 ?_
  refine j_getfr fl_X5_15_5 rfl (t_lt hf ha0 (j := 0) (by decide)) (tk_0 hf ha0) (tg_0_1 hf ha0) dX5_asks_163 ?_
  refine j_iload_n 2 rfl dX5_asks_166 ?_
  obtain ⟨b25, h⟩ := h
  refine j_ialdJ (j := (p2).toNatClampNeg) (t_lt hf ha0 (j := 2) (by decide)) (tk_2 hf ha0) b25 rfl dX5_asks_167 ?_
  refine j_iastJ (j := 8) (t_lt hf ha0 (j := 22) (by decide)) (tk_22 hf ha0) (by unfold vp_in; decide) rfl dX5_asks_168 (fun A26 eA26 => ?_)
  replace h := h A26 eA26
  refine j_aload_n 0 rfl dX5_asks_169 ?_
  refine j_getfr fl_X5_47_5 rfl (t_lt hf ha0 (j := 0) (by decide)) (tk_0 hf ha0) (tg_0_13 hf ha0) dX5_asks_170 ?_
  refine j_aret rfl (by first | exact Or.inl ⟨_, rfl⟩ | exact Or.inr ⟨_, rfl⟩) (Or.inr ⟨_, rfl⟩) ?_ dX5_asks_173
  rw [hP]
  exact ⟨A26, rfl, rfl, h⟩
theorem myX5_rests : jY yX5_rests cX5_rests 3 none 1 := ⟨q1365, q132, by decide +kernel, by decide +kernel, by decide⟩
def fX5_rests_L2 (a0 : Nat) (a1 : Nat) (n : Nat) (K : Nat → pKd) (G : pG)  (Q : pA → Prop) : Nat → Int32 → pA → Prop
  | 0, _, _ => False
  | n9 + 1, l2, A =>
    fJ5_size (a1 + 2) A (fun r1 => (if r1 ≤ l2 then ∀ A2 : pA, A2 = pup A a0 9 0 → Q A2 else fJ5_get (a1 + 2) n K A G l2 (fun r3 => (r3 < n) ∧ ((K r3 = .inl 15) ∧ ((vp_in l2 5) ∧ (∀ A7 : pA, A7 = pup A (a0 + 1) (l2).toNatClampNeg (A r3 1) → (vp_in l2 5) ∧ (∀ A9 : pA, A9 = pup A7 (a0 + 2) (l2).toNatClampNeg 0 → fX5_rests_L2 a0 a1 n K G  Q n9 (l2 + 1) A9)))))))
theorem fX5_rests_L2_ok {Γ : jG} {n : Nat} {K : Nat → pKd} {G : pG} {Lg : pL} (hf : fOK n K G) (a0 : Nat) (ha0 : isT a0) (a1 : Nat) (ha1 : xOK n K G a1) (Q : pA → Prop) (P : jO → pS → Prop) (hP : P = (fun o u => ∃ (A' : pA), o = .inl none ∧ u = (n, K, A', Lg, G) ∧ Q A'))    : ∀ (n9 : Nat) (l2 : Int32) (A : pA), fX5_rests_L2 a0 a1 n K G  Q n9 l2 A → J Γ RX5 cX5_rests 3 none "rests" [] 4 0 0 2 [(0, .ref a0), (1, .ref a1), (2, .int l2)] [] (n, K, A, Lg, G) P := by
  intro n9
  induction n9 with
  | zero => intro l2 A h; exact h.elim
  | succ n9 ih =>
    intro l2 A h
    unfold fX5_rests_L2 at h
    refine j_iload_n 2 rfl dX5_rests_2 ?_
    refine j_aload_n 1 rfl dX5_rests_3 ?_
    refine j_getfr fl_X5_51_4 rfl (x_lt ha1 (j := 0) (by decide)) (xk_0 ha1) (xg_0_1 ha1) dX5_rests_4 ?_
    refine j_callV (b := (a1 + 2)) (As := []) (st := [.int l2]) (C := RJ5) (kc' := 0) (ks' := 0) (tJ5_size hf (a1 + 2) (x_lt ha1 (j := 2) (by decide)) (xk_2 ha1) _ h) myJ5_size rfl q535 q536 q537 (j_l2 hf.1 (x_lt ha1 (j := 2) (by decide))) (fun s9 H9 hK9 hR9 h69 => jIs_in hK9 hR9 h69 (x_lt ha1 (j := 2) (by decide)) (xk_2 ha1) rfl) rfl (Nat.le_of_ble_eq_true rfl) rfl (by decide) (Nat.le_refl 0) (Nat.le_refl 0) dX5_rests_7 (fun v9 u9 hq => ?_) (fun k9 u9 hq => by obtain ⟨_, e9, _⟩ := hq; cases e9)
    obtain ⟨r1, e9, rfl, h⟩ := hq
    obtain rfl := Sum.inl.inj e9
    show J Γ RX5 cX5_rests 3 none "rests" [] 4 0 0 10 [(0, .ref a0), (1, .ref a1), (2, .int l2)] [.int r1, .int l2] (n, K, A, Lg, G) P
    refine j_icmp_ge (tgt := 46) dX5_rests_10 (by decide) (fun c => ?_) (fun c => ?_)
    · rw [if_pos c] at h
      refine j_aload_n 0 rfl dX5_rests_46 ?_
      refine j_iconst (v := 0) dX5_rests_47 (by decide) ?_
      refine j_putfiE (fp_X5_83_5 _) rfl rfl rfl (t_lt hf ha0 (j := 0) (by decide)) (tk_0 hf ha0) dX5_rests_48 (fun A2 eA2 => ?_)
      replace h := h A2 eA2
      refine j_vret rfl ?_ dX5_rests_51
      rw [hP]
      exact ⟨A2, rfl, rfl, h⟩
    · rw [if_neg c] at h
      refine j_aload_n 0 rfl dX5_rests_13 ?_
      refine j_getfr fl_X5_9_5 rfl (t_lt hf ha0 (j := 0) (by decide)) (tk_0 hf ha0) (tg_0_0 hf ha0) dX5_rests_14 ?_
      refine j_iload_n 2 rfl dX5_rests_17 ?_
      refine j_aload_n 1 rfl dX5_rests_18 ?_
      refine j_getfr fl_X5_51_4 rfl (x_lt ha1 (j := 0) (by decide)) (xk_0 ha1) (xg_0_1 ha1) dX5_rests_19 ?_
      refine j_iload_n 2 rfl dX5_rests_22 ?_
      refine j_callV (b := (a1 + 2)) (As := [.int l2]) (st := [.int l2, .ref (a0 + 1)]) (C := RJ5) (kc' := 0) (ks' := 0) (tJ5_get hf (a1 + 2) (x_lt ha1 (j := 2) (by decide)) (xk_2 ha1) l2 _ h) myJ5_get rfl q539 q540 q541 (j_l2 hf.1 (x_lt ha1 (j := 2) (by decide))) (fun s9 H9 hK9 hR9 h69 => jIs_in hK9 hR9 h69 (x_lt ha1 (j := 2) (by decide)) (xk_2 ha1) rfl) rfl (Nat.le_of_ble_eq_true rfl) rfl (by decide) (Nat.le_refl 0) (Nat.le_refl 0) dX5_rests_23 (fun v9 u9 hq => ?_) (fun k9 u9 hq => by obtain ⟨_, e9, _⟩ := hq; cases e9)
      obtain ⟨r3, e9, rfl, h⟩ := hq
      obtain rfl := Sum.inl.inj e9
      show J Γ RX5 cX5_rests 3 none "rests" [] 4 0 0 26 [(0, .ref a0), (1, .ref a1), (2, .int l2)] [.ref r3, .int l2, .ref (a0 + 1)] (n, K, A, Lg, G) P
      obtain ⟨b4, h⟩ := h
      obtain ⟨b5, h⟩ := h
      refine j_cast (C := "DogsHour$Dog") q553 (j_l2 hf.1 b4) (fun s9 H9 hK9 hR9 h69 => jIs_in hK9 hR9 h69 b4 b5 rfl) (Or.inl rfl) dX5_rests_26 ?_
      refine j_getfi fl_X5_69_15 rfl b4 b5 dX5_rests_29 ?_
      obtain ⟨b6, h⟩ := h
      refine j_iastJ (j := (l2).toNatClampNeg) (t_lt hf ha0 (j := 1) (by decide)) (tk_1 hf ha0) b6 rfl dX5_rests_32 (fun A7 eA7 => ?_)
      replace h := h A7 eA7
      refine j_aload_n 0 rfl dX5_rests_33 ?_
      refine j_getfr fl_X5_15_5 rfl (t_lt hf ha0 (j := 0) (by decide)) (tk_0 hf ha0) (tg_0_1 hf ha0) dX5_rests_34 ?_
      refine j_iload_n 2 rfl dX5_rests_37 ?_
      refine j_iconst (v := 0) dX5_rests_38 (by decide) ?_
      obtain ⟨b8, h⟩ := h
      refine j_iastJ (j := (l2).toNatClampNeg) (t_lt hf ha0 (j := 2) (by decide)) (tk_2 hf ha0) b8 rfl dX5_rests_39 (fun A9 eA9 => ?_)
      replace h := h A9 eA9
      refine j_iinc (v := l2 + 1) 2 rfl rfl (by decide) rfl dX5_rests_40 ?_
      refine j_goto (tgt := 2) dX5_rests_43 (by decide) ?_
      refine j_ls [1, 2, 0] rfl ?_
      exact ih (l2 + 1) A9 h
def fX5_rests (a0 : Nat) (a1 : Nat) (n : Nat) (K : Nat → pKd) (A : pA) (G : pG) (Q : pA → Prop) : Prop :=
    ∃ m10, fX5_rests_L2 a0 a1 n K G  Q m10 0 A
theorem tX5_rests {Γ : jG} {n : Nat} {K : Nat → pKd} {G : pG} {A : pA} {Lg : pL} (hf : fOK n K G) (a0 : Nat) (ha0 : isT a0) (a1 : Nat) (ha1 : xOK n K G a1)  (Q : pA → Prop) (h : fX5_rests a0 a1 n K A G Q) : jMet Γ yX5_rests cX5_rests 3 none [] 4 0 0 [.ref a0, .ref a1] (n, K, A, Lg, G) (fun o u => ∃ (A' : pA), o = .inl none ∧ u = (n, K, A', Lg, G) ∧ Q A') := by
  unfold fX5_rests at h
  obtain ⟨P, hP⟩ : ∃ P : jO → pS → Prop, P = (fun o u => ∃ (A' : pA), o = .inl none ∧ u = (n, K, A', Lg, G) ∧ Q A') := ⟨_, rfl⟩
  rw [← hP]
  refine jMet_of rfl rfl rfl (Nat.le_of_ble_eq_true rfl) ?_
  show J Γ RX5 cX5_rests 3 none "rests" [] 4 0 0 0 [(0, .ref a0), (1, .ref a1)] [] (n, K, A, Lg, G) P
  refine j_iconst (v := 0) dX5_rests_0 (by decide) ?_
  refine j_istore_n (by decide) rfl dX5_rests_1 ?_
  refine j_ls [1, 2, 0] rfl ?_
  obtain ⟨m10, h⟩ := h
  exact fX5_rests_L2_ok hf a0 ha0 a1 ha1 Q P hP   m10 0 A h
theorem myX5_walks : jY yX5_walks cX5_walks 4 none 2 := ⟨q1332, q132, by decide +kernel, by decide +kernel, by decide⟩
def fX5_walks_J93 (a0 : Nat) (a1 : Nat) (n : Nat) (K : Nat → pKd) (G : pG) (k48 : Int32 → Int32 → pA → Prop) (Q : pA → Prop) (l2 : Int32) (l3 : Int32) (A : pA) : Prop :=
    k48 l2 (l3 + 1) A
theorem fX5_walks_J93_ok {Γ : jG} {n : Nat} {K : Nat → pKd} {G : pG} {Lg : pL} (hf : fOK n K G) (a0 : Nat) (ha0 : isT a0) (a1 : Nat) (ha1 : xOK n K G a1) (Q : pA → Prop) (P : jO → pS → Prop) (hP : P = (fun o u => ∃ (A' : pA), o = .inl none ∧ u = (n, K, A', Lg, G) ∧ Q A')) (k48 : Int32 → Int32 → pA → Prop) (ok48 : ∀ (l2 : Int32) (l3 : Int32) (A : pA), k48 l2 l3 A → J Γ RX5 cX5_walks 4 none "walks" [] 6 0 0 48 [(0, .ref a0), (1, .ref a1), (2, .int l2), (3, .int l3)] [] (n, K, A, Lg, G) P) (l2 : Int32) (l3 : Int32) (A : pA) (h : fX5_walks_J93 a0 a1 n K G k48 Q l2 l3 A) : J Γ RX5 cX5_walks 4 none "walks" [] 6 0 0 93 [(0, .ref a0), (1, .ref a1), (2, .int l2), (3, .int l3)] [] (n, K, A, Lg, G) P := by
  unfold fX5_walks_J93 at h
  refine j_iinc (v := l3 + 1) 3 rfl rfl (by decide) rfl dX5_walks_93 ?_
  refine j_goto (tgt := 48) dX5_walks_96 (by decide) ?_
  refine j_ls [1, 2, 3, 0] rfl ?_
  exact ok48 l2 (l3 + 1) A h
def fX5_walks_L48 (a0 : Nat) (a1 : Nat) (n : Nat) (K : Nat → pKd) (G : pG)  (Q : pA → Prop) : Nat → Int32 → Int32 → pA → Prop
  | 0, _, _, _ => False
  | n9 + 1, l2, l3, A =>
    (if (A a1 8) ≤ l3 then Q A else (vp_in l3 8) ∧ ((if (A (a1 + 4) (l3).toNatClampNeg) = l2 then (vp_in l3 8) ∧ ((vp_in l2 4) ∧ ((if (A (a1 + 5) (l3).toNatClampNeg) = (A (a0 + 4) (l2).toNatClampNeg) then ∀ A4 : pA, A4 = pup A a0 10 ((A a0 10) ||| ((1 : Int32) <<< (l3 &&& 31))) → fX5_walks_J93 a0 a1 n K G (fun x0 x1 x2 => fX5_walks_L48 a0 a1 n K G  Q n9 x0 x1 x2) Q l2 l3 A4 else fX5_walks_J93 a0 a1 n K G (fun x0 x1 x2 => fX5_walks_L48 a0 a1 n K G  Q n9 x0 x1 x2) Q l2 l3 A))) else fX5_walks_J93 a0 a1 n K G (fun x0 x1 x2 => fX5_walks_L48 a0 a1 n K G  Q n9 x0 x1 x2) Q l2 l3 A)))
theorem fX5_walks_L48_ok {Γ : jG} {n : Nat} {K : Nat → pKd} {G : pG} {Lg : pL} (hf : fOK n K G) (a0 : Nat) (ha0 : isT a0) (a1 : Nat) (ha1 : xOK n K G a1) (Q : pA → Prop) (P : jO → pS → Prop) (hP : P = (fun o u => ∃ (A' : pA), o = .inl none ∧ u = (n, K, A', Lg, G) ∧ Q A'))    : ∀ (n9 : Nat) (l2 : Int32) (l3 : Int32) (A : pA), fX5_walks_L48 a0 a1 n K G  Q n9 l2 l3 A → J Γ RX5 cX5_walks 4 none "walks" [] 6 0 0 48 [(0, .ref a0), (1, .ref a1), (2, .int l2), (3, .int l3)] [] (n, K, A, Lg, G) P := by
  intro n9
  induction n9 with
  | zero => intro l2 l3 A h; exact h.elim
  | succ n9 ih =>
    intro l2 l3 A h
    unfold fX5_walks_L48 at h
    refine j_iload_n 3 rfl dX5_walks_48 ?_
    refine j_aload_n 1 rfl dX5_walks_49 ?_
    refine j_getfi fl_X5_157_4 rfl (x_lt ha1 (j := 0) (by decide)) (xk_0 ha1) dX5_walks_50 ?_
    refine j_icmp_ge (tgt := 99) dX5_walks_53 (by decide) (fun c => ?_) (fun c => ?_)
    · rw [if_pos c] at h
      refine j_vret rfl ?_ dX5_walks_99
      rw [hP]
      exact ⟨A, rfl, rfl, h⟩
    · rw [if_neg c] at h
      refine j_aload_n 1 rfl dX5_walks_56 ?_
      refine j_getfr fl_X5_160_4 rfl (x_lt ha1 (j := 0) (by decide)) (xk_0 ha1) (xg_0_3 ha1) dX5_walks_57 ?_
      refine j_iload_n 3 rfl dX5_walks_60 ?_
      obtain ⟨b1, h⟩ := h
      refine j_ialdJ (j := (l3).toNatClampNeg) (x_lt ha1 (j := 4) (by decide)) (xk_4 ha1) b1 rfl dX5_walks_61 ?_
      refine j_iload_n 2 rfl dX5_walks_62 ?_
      refine j_icmp_ne (tgt := 93) dX5_walks_63 (by decide) (fun c => ?_) (fun c => ?_)
      · rw [if_neg c] at h
        exact fX5_walks_J93_ok hf a0 ha0 a1 ha1 Q P hP (fun x0 x1 x2 => fX5_walks_L48 a0 a1 n K G  Q n9 x0 x1 x2) (fun x0 x1 x2 h9 => ih x0 x1 x2 h9) l2 l3 A h
      · rw [if_pos c] at h
        refine j_aload_n 1 rfl dX5_walks_66 ?_
        refine j_getfr fl_X5_163_4 rfl (x_lt ha1 (j := 0) (by decide)) (xk_0 ha1) (xg_0_4 ha1) dX5_walks_67 ?_
        refine j_iload_n 3 rfl dX5_walks_70 ?_
        obtain ⟨b2, h⟩ := h
        refine j_ialdJ (j := (l3).toNatClampNeg) (x_lt ha1 (j := 5) (by decide)) (xk_5 ha1) b2 rfl dX5_walks_71 ?_
        refine j_aload_n 0 rfl dX5_walks_72 ?_
        refine j_getfr fl_X5_21_5 rfl (t_lt hf ha0 (j := 0) (by decide)) (tk_0 hf ha0) (tg_0_3 hf ha0) dX5_walks_73 ?_
        refine j_iload_n 2 rfl dX5_walks_76 ?_
        obtain ⟨b3, h⟩ := h
        refine j_ialdJ (j := (l2).toNatClampNeg) (t_lt hf ha0 (j := 4) (by decide)) (tk_4 hf ha0) b3 rfl dX5_walks_77 ?_
        refine j_icmp_ne (tgt := 93) dX5_walks_78 (by decide) (fun c => ?_) (fun c => ?_)
        · rw [if_neg c] at h
          exact fX5_walks_J93_ok hf a0 ha0 a1 ha1 Q P hP (fun x0 x1 x2 => fX5_walks_L48 a0 a1 n K G  Q n9 x0 x1 x2) (fun x0 x1 x2 h9 => ih x0 x1 x2 h9) l2 l3 A h
        · rw [if_pos c] at h
          refine j_aload_n 0 rfl dX5_walks_81 ?_
          refine j_dup rfl dX5_walks_82 ?_
          refine j_getfi fl_X5_86_5 rfl (t_lt hf ha0 (j := 0) (by decide)) (tk_0 hf ha0) dX5_walks_83 ?_
          refine j_iconst (v := 1) dX5_walks_86 (by decide) ?_
          refine j_iload_n 3 rfl dX5_walks_87 ?_
          refine j_ishl dX5_walks_88 ?_
          refine j_ior dX5_walks_89 ?_
          refine j_putfiE (fp_X5_86_5 _) rfl rfl rfl (t_lt hf ha0 (j := 0) (by decide)) (tk_0 hf ha0) dX5_walks_90 (fun A4 eA4 => ?_)
          replace h := h A4 eA4
          exact fX5_walks_J93_ok hf a0 ha0 a1 ha1 Q P hP (fun x0 x1 x2 => fX5_walks_L48 a0 a1 n K G  Q n9 x0 x1 x2) (fun x0 x1 x2 h9 => ih x0 x1 x2 h9) l2 l3 A4 h
def fX5_walks_J46 (a0 : Nat) (a1 : Nat) (n : Nat) (K : Nat → pKd) (G : pG)  (Q : pA → Prop) (l2 : Int32) (A : pA) : Prop :=
    ∃ m5, fX5_walks_L48 a0 a1 n K G  Q m5 l2 0 A
theorem fX5_walks_J46_ok {Γ : jG} {n : Nat} {K : Nat → pKd} {G : pG} {Lg : pL} (hf : fOK n K G) (a0 : Nat) (ha0 : isT a0) (a1 : Nat) (ha1 : xOK n K G a1) (Q : pA → Prop) (P : jO → pS → Prop) (hP : P = (fun o u => ∃ (A' : pA), o = .inl none ∧ u = (n, K, A', Lg, G) ∧ Q A'))   (l2 : Int32) (A : pA) (h : fX5_walks_J46 a0 a1 n K G  Q l2 A) : J Γ RX5 cX5_walks 4 none "walks" [] 6 0 0 46 [(0, .ref a0), (1, .ref a1), (2, .int l2)] [] (n, K, A, Lg, G) P := by
  unfold fX5_walks_J46 at h
  refine j_iconst (v := 0) dX5_walks_46 (by decide) ?_
  refine j_istore_n (by decide) rfl dX5_walks_47 ?_
  refine j_ls [1, 2, 3, 0] rfl ?_
  obtain ⟨m5, h⟩ := h
  exact fX5_walks_L48_ok hf a0 ha0 a1 ha1 Q P hP   m5 l2 0 A h
def fX5_walks (a0 : Nat) (a1 : Nat) (n : Nat) (K : Nat → pKd) (A : pA) (G : pG) (p2 : Int32) (Q : pA → Prop) : Prop :=
    (vp_in p2 4) ∧ ((if (A (a0 + 5) (p2).toNatClampNeg) < 0 then fX5_walks_J46 a0 a1 n K G  Q p2 A else (vp_in p2 4) ∧ ((vp_in p2 4) ∧ ((if (A (a0 + 5) (p2).toNatClampNeg) = (A (a0 + 4) (p2).toNatClampNeg) then fX5_walks_J46 a0 a1 n K G  Q p2 A else (vp_in p2 4) ∧ ((vp_in p2 4) ∧ (fX4_step a1 n K A G (A (a0 + 4) (p2).toNatClampNeg) (A (a0 + 5) (p2).toNatClampNeg) (fun r11 => (vp_in p2 4) ∧ (∀ A13 : pA, A13 = pup A (a0 + 4) (p2).toNatClampNeg r11 → fX5_walks_J46 a0 a1 n K G  Q p2 A13)))))))))
theorem tX5_walks {Γ : jG} {n : Nat} {K : Nat → pKd} {G : pG} {A : pA} {Lg : pL} (hf : fOK n K G) (a0 : Nat) (ha0 : isT a0) (a1 : Nat) (ha1 : xOK n K G a1) (p2 : Int32) (Q : pA → Prop) (h : fX5_walks a0 a1 n K A G p2 Q) : jMet Γ yX5_walks cX5_walks 4 none [] 6 0 0 [.ref a0, .ref a1, .int p2] (n, K, A, Lg, G) (fun o u => ∃ (A' : pA), o = .inl none ∧ u = (n, K, A', Lg, G) ∧ Q A') := by
  unfold fX5_walks at h
  obtain ⟨P, hP⟩ : ∃ P : jO → pS → Prop, P = (fun o u => ∃ (A' : pA), o = .inl none ∧ u = (n, K, A', Lg, G) ∧ Q A') := ⟨_, rfl⟩
  rw [← hP]
  refine jMet_of rfl rfl rfl (Nat.le_of_ble_eq_true rfl) ?_
  show J Γ RX5 cX5_walks 4 none "walks" [] 6 0 0 0 [(0, .ref a0), (1, .ref a1), (2, .int p2)] [] (n, K, A, Lg, G) P
  refine j_aload_n 0 rfl dX5_walks_0 ?_
  refine j_getfr fl_X5_24_5 rfl (t_lt hf ha0 (j := 0) (by decide)) (tk_0 hf ha0) (tg_0_4 hf ha0) dX5_walks_1 ?_
  refine j_iload_n 2 rfl dX5_walks_4 ?_
  obtain ⟨b6, h⟩ := h
  refine j_ialdJ (j := (p2).toNatClampNeg) (t_lt hf ha0 (j := 5) (by decide)) (tk_5 hf ha0) b6 rfl dX5_walks_5 ?_
  refine j_if_lt (tgt := 46) dX5_walks_6 (by decide) (fun c => ?_) (fun c => ?_)
  · rw [if_pos c] at h
    exact fX5_walks_J46_ok hf a0 ha0 a1 ha1 Q P hP   p2 A h
  · rw [if_neg c] at h
    refine j_aload_n 0 rfl dX5_walks_9 ?_
    refine j_getfr fl_X5_24_5 rfl (t_lt hf ha0 (j := 0) (by decide)) (tk_0 hf ha0) (tg_0_4 hf ha0) dX5_walks_10 ?_
    refine j_iload_n 2 rfl dX5_walks_13 ?_
    obtain ⟨b7, h⟩ := h
    refine j_ialdJ (j := (p2).toNatClampNeg) (t_lt hf ha0 (j := 5) (by decide)) (tk_5 hf ha0) b7 rfl dX5_walks_14 ?_
    refine j_aload_n 0 rfl dX5_walks_15 ?_
    refine j_getfr fl_X5_21_5 rfl (t_lt hf ha0 (j := 0) (by decide)) (tk_0 hf ha0) (tg_0_3 hf ha0) dX5_walks_16 ?_
    refine j_iload_n 2 rfl dX5_walks_19 ?_
    obtain ⟨b8, h⟩ := h
    refine j_ialdJ (j := (p2).toNatClampNeg) (t_lt hf ha0 (j := 4) (by decide)) (tk_4 hf ha0) b8 rfl dX5_walks_20 ?_
    refine j_icmp_eq (tgt := 46) dX5_walks_21 (by decide) (fun c => ?_) (fun c => ?_)
    · rw [if_pos c] at h
      exact fX5_walks_J46_ok hf a0 ha0 a1 ha1 Q P hP   p2 A h
    · rw [if_neg c] at h
      refine j_aload_n 0 rfl dX5_walks_24 ?_
      refine j_getfr fl_X5_21_5 rfl (t_lt hf ha0 (j := 0) (by decide)) (tk_0 hf ha0) (tg_0_3 hf ha0) dX5_walks_25 ?_
      refine j_iload_n 2 rfl dX5_walks_28 ?_
      refine j_aload_n 1 rfl dX5_walks_29 ?_
      refine j_aload_n 0 rfl dX5_walks_30 ?_
      refine j_getfr fl_X5_21_5 rfl (t_lt hf ha0 (j := 0) (by decide)) (tk_0 hf ha0) (tg_0_3 hf ha0) dX5_walks_31 ?_
      refine j_iload_n 2 rfl dX5_walks_34 ?_
      obtain ⟨b9, h⟩ := h
      refine j_ialdJ (j := (p2).toNatClampNeg) (t_lt hf ha0 (j := 4) (by decide)) (tk_4 hf ha0) b9 rfl dX5_walks_35 ?_
      refine j_aload_n 0 rfl dX5_walks_36 ?_
      refine j_getfr fl_X5_24_5 rfl (t_lt hf ha0 (j := 0) (by decide)) (tk_0 hf ha0) (tg_0_4 hf ha0) dX5_walks_37 ?_
      refine j_iload_n 2 rfl dX5_walks_40 ?_
      obtain ⟨b10, h⟩ := h
      refine j_ialdJ (j := (p2).toNatClampNeg) (t_lt hf ha0 (j := 5) (by decide)) (tk_5 hf ha0) b10 rfl dX5_walks_41 ?_
      refine j_callV (b := a1) (As := [.int (A (a0 + 4) (p2).toNatClampNeg), .int (A (a0 + 5) (p2).toNatClampNeg)]) (st := [.int p2, .ref (a0 + 4)]) (C := RX4) (kc' := 0) (ks' := 0) (tX4_step hf a1 ha1 (A (a0 + 4) (p2).toNatClampNeg) (A (a0 + 5) (p2).toNatClampNeg) _ h) myX4_step rfl q1333 q1334 q1335 (j_l2 hf.1 (x_lt ha1 (j := 0) (by decide))) (fun s9 H9 hK9 hR9 h69 => jIs_in hK9 hR9 h69 (x_lt ha1 (j := 0) (by decide)) (xk_0 ha1) rfl) rfl (Nat.le_of_ble_eq_true rfl) rfl (by decide) (Nat.le_refl 0) (Nat.le_refl 0) dX5_walks_42 (fun v9 u9 hq => ?_) (fun k9 u9 hq => by obtain ⟨_, e9, _⟩ := hq; cases e9)
      obtain ⟨r11, e9, rfl, h⟩ := hq
      obtain rfl := Sum.inl.inj e9
      show J Γ RX5 cX5_walks 4 none "walks" [] 6 0 0 45 [(0, .ref a0), (1, .ref a1), (2, .int p2)] [.int r11, .int p2, .ref (a0 + 4)] (n, K, A, Lg, G) P
      obtain ⟨b12, h⟩ := h
      refine j_iastJ (j := (p2).toNatClampNeg) (t_lt hf ha0 (j := 4) (by decide)) (tk_4 hf ha0) b12 rfl dX5_walks_45 (fun A13 eA13 => ?_)
      replace h := h A13 eA13
      exact fX5_walks_J46_ok hf a0 ha0 a1 ha1 Q P hP   p2 A13 h
theorem myX0_places : jY yX0_places cX0_places 1 (some .int) 0 := ⟨q1192, q121, by decide +kernel, by decide +kernel, by decide⟩
def fX0_places (tx : Nat) (A : pA) (Q : Int32 → Prop) : Prop :=
    fJ5_size (tx + 1) A (fun r1 => Q r1)
theorem tX0_places {Γ : jG} {n : Nat} {K : Nat → pKd} {G : pG} {A : pA} {Lg : pL} (hf : fOK n K G) (tx : Nat) (ht : G 0 3 = .ref tx) (hx : xOK n K G tx)  (Q : Int32 → Prop) (h : fX0_places tx A Q) : jMet Γ yX0_places cX0_places 1 (some .int) [] 2 0 0 [.ref 0] (n, K, A, Lg, G) (fun o u => ∃ (r : Int32), o = .inl (some (.int r)) ∧ u = (n, K, A, Lg, G) ∧ Q r) := by
  unfold fX0_places at h
  obtain ⟨P, hP⟩ : ∃ P : jO → pS → Prop, P = (fun o u => ∃ (r : Int32), o = .inl (some (.int r)) ∧ u = (n, K, A, Lg, G) ∧ Q r) := ⟨_, rfl⟩
  rw [← hP]
  refine jMet_of rfl rfl rfl (Nat.le_of_ble_eq_true rfl) ?_
  show J Γ RX0 cX0_places 1 (some .int) "places" [] 2 0 0 0 [(0, .ref 0)] [] (n, K, A, Lg, G) P
  refine j_aload_n 0 rfl dX0_places_0 ?_
  refine j_getfr fl_X0_44_0 rfl (f_lt hf (by decide)) (fk_0 hf) ht dX0_places_1 ?_
  refine j_getfr fl_X0_129_4 rfl (x_lt hx (j := 0) (by decide)) (xk_0 hx) (xg_0_0 hx) dX0_places_4 ?_
  refine j_callV (b := (tx + 1)) (As := []) (st := []) (C := RJ5) (kc' := 0) (ks' := 0) (tJ5_size hf (tx + 1) (x_lt hx (j := 1) (by decide)) (xk_1 hx) _ h) myJ5_size rfl q1193 q536 q537 (j_l2 hf.1 (x_lt hx (j := 1) (by decide))) (fun s9 H9 hK9 hR9 h69 => jIs_in hK9 hR9 h69 (x_lt hx (j := 1) (by decide)) (xk_1 hx) rfl) rfl (Nat.le_of_ble_eq_true rfl) rfl (by decide) (Nat.le_refl 0) (Nat.le_refl 0) dX0_places_7 (fun v9 u9 hq => ?_) (fun k9 u9 hq => by obtain ⟨_, e9, _⟩ := hq; cases e9)
  obtain ⟨r1, e9, rfl, h⟩ := hq
  obtain rfl := Sum.inl.inj e9
  show J Γ RX0 cX0_places 1 (some .int) "places" [] 2 0 0 10 [(0, .ref 0)] [.int r1] (n, K, A, Lg, G) P
  refine j_iret rfl ?_ dX0_places_10
  rw [hP]
  exact ⟨r1, rfl, rfl, h⟩
theorem myX0_dogs : jY yX0_dogs cX0_dogs 1 (some .int) 0 := ⟨q1202, q121, by decide +kernel, by decide +kernel, by decide⟩
def fX0_dogs (tx : Nat) (A : pA) (Q : Int32 → Prop) : Prop :=
    fJ5_size (tx + 2) A (fun r1 => Q r1)
theorem tX0_dogs {Γ : jG} {n : Nat} {K : Nat → pKd} {G : pG} {A : pA} {Lg : pL} (hf : fOK n K G) (tx : Nat) (ht : G 0 3 = .ref tx) (hx : xOK n K G tx)  (Q : Int32 → Prop) (h : fX0_dogs tx A Q) : jMet Γ yX0_dogs cX0_dogs 1 (some .int) [] 2 0 0 [.ref 0] (n, K, A, Lg, G) (fun o u => ∃ (r : Int32), o = .inl (some (.int r)) ∧ u = (n, K, A, Lg, G) ∧ Q r) := by
  unfold fX0_dogs at h
  obtain ⟨P, hP⟩ : ∃ P : jO → pS → Prop, P = (fun o u => ∃ (r : Int32), o = .inl (some (.int r)) ∧ u = (n, K, A, Lg, G) ∧ Q r) := ⟨_, rfl⟩
  rw [← hP]
  refine jMet_of rfl rfl rfl (Nat.le_of_ble_eq_true rfl) ?_
  show J Γ RX0 cX0_dogs 1 (some .int) "dogs" [] 2 0 0 0 [(0, .ref 0)] [] (n, K, A, Lg, G) P
  refine j_aload_n 0 rfl dX0_dogs_0 ?_
  refine j_getfr fl_X0_44_0 rfl (f_lt hf (by decide)) (fk_0 hf) ht dX0_dogs_1 ?_
  refine j_getfr fl_X0_139_4 rfl (x_lt hx (j := 0) (by decide)) (xk_0 hx) (xg_0_1 hx) dX0_dogs_4 ?_
  refine j_callV (b := (tx + 2)) (As := []) (st := []) (C := RJ5) (kc' := 0) (ks' := 0) (tJ5_size hf (tx + 2) (x_lt hx (j := 2) (by decide)) (xk_2 hx) _ h) myJ5_size rfl q1193 q536 q537 (j_l2 hf.1 (x_lt hx (j := 2) (by decide))) (fun s9 H9 hK9 hR9 h69 => jIs_in hK9 hR9 h69 (x_lt hx (j := 2) (by decide)) (xk_2 hx) rfl) rfl (Nat.le_of_ble_eq_true rfl) rfl (by decide) (Nat.le_refl 0) (Nat.le_refl 0) dX0_dogs_7 (fun v9 u9 hq => ?_) (fun k9 u9 hq => by obtain ⟨_, e9, _⟩ := hq; cases e9)
  obtain ⟨r1, e9, rfl, h⟩ := hq
  obtain rfl := Sum.inl.inj e9
  show J Γ RX0 cX0_dogs 1 (some .int) "dogs" [] 2 0 0 10 [(0, .ref 0)] [.int r1] (n, K, A, Lg, G) P
  refine j_iret rfl ?_ dX0_dogs_10
  rw [hP]
  exact ⟨r1, rfl, rfl, h⟩
theorem myX0_people : jY yX0_people cX0_people 1 (some .int) 0 := ⟨q1206, q121, by decide +kernel, by decide +kernel, by decide⟩
def fX0_people (tx : Nat) (A : pA) (Q : Int32 → Prop) : Prop :=
    fJ5_size (tx + 3) A (fun r1 => Q r1)
theorem tX0_people {Γ : jG} {n : Nat} {K : Nat → pKd} {G : pG} {A : pA} {Lg : pL} (hf : fOK n K G) (tx : Nat) (ht : G 0 3 = .ref tx) (hx : xOK n K G tx)  (Q : Int32 → Prop) (h : fX0_people tx A Q) : jMet Γ yX0_people cX0_people 1 (some .int) [] 2 0 0 [.ref 0] (n, K, A, Lg, G) (fun o u => ∃ (r : Int32), o = .inl (some (.int r)) ∧ u = (n, K, A, Lg, G) ∧ Q r) := by
  unfold fX0_people at h
  obtain ⟨P, hP⟩ : ∃ P : jO → pS → Prop, P = (fun o u => ∃ (r : Int32), o = .inl (some (.int r)) ∧ u = (n, K, A, Lg, G) ∧ Q r) := ⟨_, rfl⟩
  rw [← hP]
  refine jMet_of rfl rfl rfl (Nat.le_of_ble_eq_true rfl) ?_
  show J Γ RX0 cX0_people 1 (some .int) "people" [] 2 0 0 0 [(0, .ref 0)] [] (n, K, A, Lg, G) P
  refine j_aload_n 0 rfl dX0_people_0 ?_
  refine j_getfr fl_X0_44_0 rfl (f_lt hf (by decide)) (fk_0 hf) ht dX0_people_1 ?_
  refine j_getfr fl_X0_142_4 rfl (x_lt hx (j := 0) (by decide)) (xk_0 hx) (xg_0_2 hx) dX0_people_4 ?_
  refine j_callV (b := (tx + 3)) (As := []) (st := []) (C := RJ5) (kc' := 0) (ks' := 0) (tJ5_size hf (tx + 3) (x_lt hx (j := 3) (by decide)) (xk_3 hx) _ h) myJ5_size rfl q1193 q536 q537 (j_l2 hf.1 (x_lt hx (j := 3) (by decide))) (fun s9 H9 hK9 hR9 h69 => jIs_in hK9 hR9 h69 (x_lt hx (j := 3) (by decide)) (xk_3 hx) rfl) rfl (Nat.le_of_ble_eq_true rfl) rfl (by decide) (Nat.le_refl 0) (Nat.le_refl 0) dX0_people_7 (fun v9 u9 hq => ?_) (fun k9 u9 hq => by obtain ⟨_, e9, _⟩ := hq; cases e9)
  obtain ⟨r1, e9, rfl, h⟩ := hq
  obtain rfl := Sum.inl.inj e9
  show J Γ RX0 cX0_people 1 (some .int) "people" [] 2 0 0 10 [(0, .ref 0)] [.int r1] (n, K, A, Lg, G) P
  refine j_iret rfl ?_ dX0_people_10
  rw [hP]
  exact ⟨r1, rfl, rfl, h⟩
theorem myX0_isPlace : jY yX0_isPlace cX0_isPlace 2 (some .boolean) 1 := ⟨q1188, q121, by decide +kernel, by decide +kernel, by decide⟩
def fX0_isPlace (tx : Nat) (A : pA) (p1 : Int32) (Q : Int32 → Prop) : Prop :=
    fX0_places tx A (fun r1 => fX0_isIn A p1 0 (r1 - 1) (fun r2 => (narrow .boolean (.int r2) = .int r2) ∧ (Q r2)))
theorem tX0_isPlace {Γ : jG} {n : Nat} {K : Nat → pKd} {G : pG} {A : pA} {Lg : pL} (hf : fOK n K G) (tx : Nat) (ht : G 0 3 = .ref tx) (hx : xOK n K G tx) (p1 : Int32) (Q : Int32 → Prop) (h : fX0_isPlace tx A p1 Q) : jMet Γ yX0_isPlace cX0_isPlace 2 (some .boolean) [] 3 0 0 [.ref 0, .int p1] (n, K, A, Lg, G) (fun o u => ∃ (r : Int32), o = .inl (some (.int r)) ∧ u = (n, K, A, Lg, G) ∧ Q r) := by
  unfold fX0_isPlace at h
  obtain ⟨P, hP⟩ : ∃ P : jO → pS → Prop, P = (fun o u => ∃ (r : Int32), o = .inl (some (.int r)) ∧ u = (n, K, A, Lg, G) ∧ Q r) := ⟨_, rfl⟩
  rw [← hP]
  refine jMet_of rfl rfl rfl (Nat.le_of_ble_eq_true rfl) ?_
  show J Γ RX0 cX0_isPlace 2 (some .boolean) "isPlace" [] 3 0 0 0 [(0, .ref 0), (1, .int p1)] [] (n, K, A, Lg, G) P
  refine j_iload_n 1 rfl dX0_isPlace_0 ?_
  refine j_iconst (v := 0) dX0_isPlace_1 (by decide) ?_
  refine j_aload_n 0 rfl dX0_isPlace_2 ?_
  refine j_callV (b := 0) (As := []) (st := [.int 0, .int p1]) (C := RX0) (kc' := 0) (ks' := 0) (tX0_places hf tx ht hx _ h) myX0_places rfl q1189 q1191 qs33 (by decide) (fun s9 H9 hK9 hR9 h69 => jIs_in hK9 hR9 h69 (f_lt hf (by decide)) (fk_0 hf) rfl) rfl (Nat.le_of_ble_eq_true rfl) rfl (by decide) (Nat.le_refl 0) (Nat.le_refl 0) dX0_isPlace_3 (fun v9 u9 hq => ?_) (fun k9 u9 hq => by obtain ⟨_, e9, _⟩ := hq; cases e9)
  obtain ⟨r1, e9, rfl, h⟩ := hq
  obtain rfl := Sum.inl.inj e9
  show J Γ RX0 cX0_isPlace 2 (some .boolean) "isPlace" [] 3 0 0 6 [(0, .ref 0), (1, .int p1)] [.int r1, .int 0, .int p1] (n, K, A, Lg, G) P
  refine j_iconst (v := 1) dX0_isPlace_6 (by decide) ?_
  refine j_isub dX0_isPlace_7 ?_
  refine j_callS (As := [.int p1, .int 0, .int (r1 - 1)]) (st := []) (kc' := 0) (ks' := 0) (tX0_isIn hf p1 0 (r1 - 1) _ h) myX0_isIn q1194 q1195 rfl (Nat.le_of_ble_eq_true rfl) rfl (by decide) (Nat.le_refl 0) (Nat.le_refl 0) dX0_isPlace_8 (fun v9 u9 hq => ?_) (fun k9 u9 hq => by obtain ⟨_, e9, _⟩ := hq; cases e9)
  obtain ⟨r2, e9, rfl, h⟩ := hq
  obtain rfl := Sum.inl.inj e9
  show J Γ RX0 cX0_isPlace 2 (some .boolean) "isPlace" [] 3 0 0 11 [(0, .ref 0), (1, .int p1)] [.int r2] (n, K, A, Lg, G) P
  obtain ⟨b3, h⟩ := h
  refine j_zret rfl b3 ?_ dX0_isPlace_11
  rw [hP]
  exact ⟨r2, rfl, rfl, h⟩
theorem myX0_isDog : jY yX0_isDog cX0_isDog 2 (some .boolean) 1 := ⟨q1218, q121, by decide +kernel, by decide +kernel, by decide⟩
def fX0_isDog (tx : Nat) (A : pA) (p1 : Int32) (Q : Int32 → Prop) : Prop :=
    fX0_dogs tx A (fun r1 => fX0_isIn A p1 0 (r1 - 1) (fun r2 => (narrow .boolean (.int r2) = .int r2) ∧ (Q r2)))
theorem tX0_isDog {Γ : jG} {n : Nat} {K : Nat → pKd} {G : pG} {A : pA} {Lg : pL} (hf : fOK n K G) (tx : Nat) (ht : G 0 3 = .ref tx) (hx : xOK n K G tx) (p1 : Int32) (Q : Int32 → Prop) (h : fX0_isDog tx A p1 Q) : jMet Γ yX0_isDog cX0_isDog 2 (some .boolean) [] 3 0 0 [.ref 0, .int p1] (n, K, A, Lg, G) (fun o u => ∃ (r : Int32), o = .inl (some (.int r)) ∧ u = (n, K, A, Lg, G) ∧ Q r) := by
  unfold fX0_isDog at h
  obtain ⟨P, hP⟩ : ∃ P : jO → pS → Prop, P = (fun o u => ∃ (r : Int32), o = .inl (some (.int r)) ∧ u = (n, K, A, Lg, G) ∧ Q r) := ⟨_, rfl⟩
  rw [← hP]
  refine jMet_of rfl rfl rfl (Nat.le_of_ble_eq_true rfl) ?_
  show J Γ RX0 cX0_isDog 2 (some .boolean) "isDog" [] 3 0 0 0 [(0, .ref 0), (1, .int p1)] [] (n, K, A, Lg, G) P
  refine j_iload_n 1 rfl dX0_isDog_0 ?_
  refine j_iconst (v := 0) dX0_isDog_1 (by decide) ?_
  refine j_aload_n 0 rfl dX0_isDog_2 ?_
  refine j_callV (b := 0) (As := []) (st := [.int 0, .int p1]) (C := RX0) (kc' := 0) (ks' := 0) (tX0_dogs hf tx ht hx _ h) myX0_dogs rfl q1199 q1201 qs34 (by decide) (fun s9 H9 hK9 hR9 h69 => jIs_in hK9 hR9 h69 (f_lt hf (by decide)) (fk_0 hf) rfl) rfl (Nat.le_of_ble_eq_true rfl) rfl (by decide) (Nat.le_refl 0) (Nat.le_refl 0) dX0_isDog_3 (fun v9 u9 hq => ?_) (fun k9 u9 hq => by obtain ⟨_, e9, _⟩ := hq; cases e9)
  obtain ⟨r1, e9, rfl, h⟩ := hq
  obtain rfl := Sum.inl.inj e9
  show J Γ RX0 cX0_isDog 2 (some .boolean) "isDog" [] 3 0 0 6 [(0, .ref 0), (1, .int p1)] [.int r1, .int 0, .int p1] (n, K, A, Lg, G) P
  refine j_iconst (v := 1) dX0_isDog_6 (by decide) ?_
  refine j_isub dX0_isDog_7 ?_
  refine j_callS (As := [.int p1, .int 0, .int (r1 - 1)]) (st := []) (kc' := 0) (ks' := 0) (tX0_isIn hf p1 0 (r1 - 1) _ h) myX0_isIn q1194 q1195 rfl (Nat.le_of_ble_eq_true rfl) rfl (by decide) (Nat.le_refl 0) (Nat.le_refl 0) dX0_isDog_8 (fun v9 u9 hq => ?_) (fun k9 u9 hq => by obtain ⟨_, e9, _⟩ := hq; cases e9)
  obtain ⟨r2, e9, rfl, h⟩ := hq
  obtain rfl := Sum.inl.inj e9
  show J Γ RX0 cX0_isDog 2 (some .boolean) "isDog" [] 3 0 0 11 [(0, .ref 0), (1, .int p1)] [.int r2] (n, K, A, Lg, G) P
  obtain ⟨b3, h⟩ := h
  refine j_zret rfl b3 ?_ dX0_isDog_11
  rw [hP]
  exact ⟨r2, rfl, rfl, h⟩
