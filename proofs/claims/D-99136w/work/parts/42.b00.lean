set_option maxRecDepth 100000
set_option maxHeartbeats 4000000
theorem myJ11_init : jY yJ11_init cJ11_init 2 none  1 := ⟨q857, q150, by decide +kernel, by decide +kernel, by decide⟩
def fJ11_init (a0 : Nat) (n : Nat) (K : Nat → pKd) (A : pA) (Lg : pL) (G : pG) (kc : Nat) (ks : Nat) (p1 : Int32) (Q : Nat → (Nat → pKd) → pA → pL → pG → Prop) : Prop :=
    (n ≤ 1000000) ∧ ((a0 < n) ∧ (((¬ p1 < 0) ∧ (((p1).toNatClampNeg * 1 ≤ 536870912) ∧ ((1 ≤ kc) ∧ (((p1).toNatClampNeg ≤ ks) ∧ (∀ (K5 : Nat → pKd) (A6 : pA) (L7 : pL) (G8 : pG), K5 = pkup K n (.inr (1, (p1).toNatClampNeg)) → A6 = prow A n (fun _ => 0) → L7 = prow Lg n (fun _ => 0) → G8 = prow G n (fun _ => .null) → (a0 < (n + 1)) ∧ ((K5 a0 = .inl 19) ∧ (∀ G11 : pG, G11 = pup G8 a0 0 (.ref n) → ∀ A12 : pA, A12 = pup A6 a0 1 0 → Q (n + 1) K5 A12 L7 G11)))))))))
theorem tJ11_init {Γ : jG} {n : Nat} {K : Nat → pKd} {G : pG} {A : pA} {Lg : pL} {kc ks : Nat} (a0 : Nat) (p1 : Int32) (Q : Nat → (Nat → pKd) → pA → pL → pG → Prop) (h : fJ11_init a0 n K A Lg G kc ks p1 Q) : jMet Γ yJ11_init cJ11_init 2 none [] 1 kc ks [.ref a0, .int p1] (n, K, A, Lg, G) (fun o u => ∃ (n' : Nat) (K' : Nat → pKd) (A' : pA) (Lg' : pL) (G' : pG), o = .inl none ∧ u = (n', K', A', Lg', G') ∧ Q n' K' A' Lg' G') := by
  unfold fJ11_init at h
  obtain ⟨P, hP⟩ : ∃ P : jO → pS → Prop, P = (fun o u => ∃ (n' : Nat) (K' : Nat → pKd) (A' : pA) (Lg' : pL) (G' : pG), o = .inl none ∧ u = (n', K', A', Lg', G') ∧ Q n' K' A' Lg' G') := ⟨_, rfl⟩
  rw [← hP]
  refine jMet_of rfl rfl rfl (Nat.le_of_ble_eq_true rfl) ?_
  show J Γ RJ11 cJ11_init 2 none "<init>" [] 1 kc ks 0 [(0, .ref a0), (1, .int p1)] [] (n, K, A, Lg, G) P
  refine j_aload_n 0 rfl dJ11_init_0 ?_
  obtain ⟨hn6, h⟩ := h
  obtain ⟨la0, h⟩ := h
  refine j_objInit (b := a0) (st := []) q858 q165 q166 (j_l2 hn6 la0) (Nat.le_of_ble_eq_true rfl) (by decide) dJ11_init_1 ?_
  refine j_gets (i := 0) rfl q859 dJ11_init_4 ?_
  refine j_if_eq (x := (1 : Int32)) (tgt := 25) dJ11_init_7 (by decide) (fun c => ?_) (fun c => ?_)
  · exact absurd c (by decide)
  · skip
    refine j_aload_n 0 rfl dJ11_init_10 ?_
    refine j_iload_n 1 rfl dJ11_init_11 ?_
    obtain ⟨b1, h⟩ := h
    obtain ⟨b2, h⟩ := h
    obtain ⟨b3, h⟩ := h
    obtain ⟨b4, h⟩ := h
    refine j_newaE (t := 1) (N := (p1).toNatClampNeg) rfl rfl q240 (fun _ _ h9 => h9) rfl b1 rfl b2 b3 b4 dJ11_init_12 (fun K5 A6 L7 G8 eK5 eA6 eL7 eG8 => ?_)
    replace h := h K5 A6 L7 G8 eK5 eA6 eL7 eG8
    have b9 : n < (n + 1) := (by omega)
    have b10 : K5 n = .inr (1, (p1).toNatClampNeg) := (by rw [eK5]; exact pkup_self)
    obtain ⟨la0, h⟩ := h
    obtain ⟨ha0, h⟩ := h
    refine j_putfrE (fp_i_J11_15_19 _) rfl (Or.inr ⟨_, rfl⟩) (Or.inr ⟨_, rfl⟩) la0 ha0 dJ11_init_14 (fun G11 eG11 => ?_)
    replace h := h G11 eG11
    refine j_aload_n 0 rfl dJ11_init_17 ?_
    refine j_iconst (v := 0) dJ11_init_18 (by decide) ?_
    refine j_putfiE (fp_i_J11_22_19 _) rfl (by decide) (by decide) la0 ha0 dJ11_init_19 (fun A12 eA12 => ?_)
    replace h := h A12 eA12
    refine j_goto (tgt := 38) dJ11_init_22 (by decide) ?_
    refine j_vret rfl ?_ dJ11_init_38
    rw [hP]
    exact ⟨n + 1, K5, A12, L7, G11, rfl, rfl, h⟩
theorem myJ12_init : jY yJ12_init cJ12_init 1 none  0 := ⟨q854, q151, by decide +kernel, by decide +kernel, by decide⟩
def fJ12_init (a0 : Nat) (n : Nat) (K : Nat → pKd) (A : pA) (Lg : pL) (G : pG) (kc : Nat) (ks : Nat) (Q : Nat → (Nat → pKd) → pA → pL → pG → Prop) : Prop :=
    ∃ kY1 sY2 : Nat, kY1 ≤ kc ∧ sY2 ≤ ks ∧ ((n ≤ 1000000) ∧ ((a0 < n) ∧ ((K a0 = .inl 19) ∧ (fJ11_init a0 n K A Lg G kY1 sY2 16 (fun n3 K4 A5 Lg6 G7 => Q n3 K4 A5 Lg6 G7)))))
theorem tJ12_init {Γ : jG} {n : Nat} {K : Nat → pKd} {G : pG} {A : pA} {Lg : pL} {kc ks : Nat} (a0 : Nat)  (Q : Nat → (Nat → pKd) → pA → pL → pG → Prop) (h : fJ12_init a0 n K A Lg G kc ks Q) : jMet Γ yJ12_init cJ12_init 1 none [] 2 kc ks [.ref a0] (n, K, A, Lg, G) (fun o u => ∃ (n' : Nat) (K' : Nat → pKd) (A' : pA) (Lg' : pL) (G' : pG), o = .inl none ∧ u = (n', K', A', Lg', G') ∧ Q n' K' A' Lg' G') := by
  unfold fJ12_init at h
  obtain ⟨P, hP⟩ : ∃ P : jO → pS → Prop, P = (fun o u => ∃ (n' : Nat) (K' : Nat → pKd) (A' : pA) (Lg' : pL) (G' : pG), o = .inl none ∧ u = (n', K', A', Lg', G') ∧ Q n' K' A' Lg' G') := ⟨_, rfl⟩
  rw [← hP]
  refine jMet_of rfl rfl rfl (Nat.le_of_ble_eq_true rfl) ?_
  show J Γ RJ12 cJ12_init 1 none "<init>" [] 2 kc ks 0 [(0, .ref a0)] [] (n, K, A, Lg, G) P
  refine j_aload_n 0 rfl dJ12_init_0 ?_
  refine j_bipush (v := 16) dJ12_init_1 (by decide) ?_
  obtain ⟨kY1, sY2, kY1h, sY2h, h⟩ := h
  obtain ⟨hn6, h⟩ := h
  obtain ⟨la0, h⟩ := h
  obtain ⟨ha0, h⟩ := h
  refine j_callI (b := a0) (As := [.int 16]) (st := []) (kc' := kc - kY1) (ks' := ks - sY2) (tJ11_init  a0 16 _ h) myJ11_init rfl q855 q856 (j_l2 hn6 la0) rfl (Nat.le_of_ble_eq_true rfl) rfl (by decide) (by omega) (by omega) dJ12_init_3 (fun v9 u9 hq => ?_) (fun k9 u9 hq => by obtain ⟨_, _, _, _, _, e9, _⟩ := hq; cases e9)
  obtain ⟨n3, K4, A5, Lg6, G7, e9, rfl, h⟩ := hq
  obtain rfl := Sum.inl.inj e9
  show J Γ RJ12 cJ12_init 1 none "<init>" [] 2 (kc - kY1) (ks - sY2) 6 [(0, .ref a0)] [] (n3, K4, A5, Lg6, G7) P
  refine j_vret rfl ?_ dJ12_init_6
  rw [hP]
  exact ⟨n3, K4, A5, Lg6, G7, rfl, rfl, h⟩
theorem myJ11_isLatin1 : jY yJ11_isLatin1 cJ11_isLatin1 1 (some .boolean)  0 := ⟨q926, q150, by decide +kernel, by decide +kernel, by decide⟩
def fJ11_isLatin1 (a0 : Nat) (n : Nat) (K : Nat → pKd) (A : pA) (Lg : pL) (G : pG) (kc : Nat) (ks : Nat) (Q : Int32 → Nat → (Nat → pKd) → pA → pL → pG → Prop) : Prop :=
    ((a0 < n) ∧ ((K a0 = .inl 19) ∧ ((if (A a0 1) = 0 then Q 1 n K A Lg G else Q 0 n K A Lg G))))
theorem tJ11_isLatin1 {Γ : jG} {n : Nat} {K : Nat → pKd} {G : pG} {A : pA} {Lg : pL} {kc ks : Nat} (a0 : Nat)  (Q : Int32 → Nat → (Nat → pKd) → pA → pL → pG → Prop) (h : fJ11_isLatin1 a0 n K A Lg G kc ks Q) : jMet Γ yJ11_isLatin1 cJ11_isLatin1 1 (some .boolean) [] 1 kc ks [.ref a0] (n, K, A, Lg, G) (fun o u => ∃ (r : Int32) (n' : Nat) (K' : Nat → pKd) (A' : pA) (Lg' : pL) (G' : pG), o = .inl (some (.int r)) ∧ u = (n', K', A', Lg', G') ∧ Q r n' K' A' Lg' G') := by
  unfold fJ11_isLatin1 at h
  obtain ⟨P, hP⟩ : ∃ P : jO → pS → Prop, P = (fun o u => ∃ (r : Int32) (n' : Nat) (K' : Nat → pKd) (A' : pA) (Lg' : pL) (G' : pG), o = .inl (some (.int r)) ∧ u = (n', K', A', Lg', G') ∧ Q r n' K' A' Lg' G') := ⟨_, rfl⟩
  rw [← hP]
  refine jMet_of rfl rfl rfl (Nat.le_of_ble_eq_true rfl) ?_
  show J Γ RJ11 cJ11_isLatin1 1 (some .boolean) "isLatin1" [] 1 kc ks 0 [(0, .ref a0)] [] (n, K, A, Lg, G) P
  refine j_gets (i := 0) rfl q859 dJ11_isLatin1_0 ?_
  refine j_if_eq (x := (1 : Int32)) (tgt := 17) dJ11_isLatin1_3 (by decide) (fun c => ?_) (fun c => ?_)
  · exact absurd c (by decide)
  · skip
    refine j_aload_n 0 rfl dJ11_isLatin1_6 ?_
    obtain ⟨la0, h⟩ := h
    obtain ⟨ha0, h⟩ := h
    refine j_getfi fl_J11_22_19 rfl la0 ha0 dJ11_isLatin1_7 ?_
    refine j_if_ne (tgt := 17) dJ11_isLatin1_10 (by decide) (fun c => ?_) (fun c => ?_)
    · rw [if_neg c] at h
      refine j_iconst (v := 0) dJ11_isLatin1_17 (by decide) ?_
      refine j_zret rfl (by decide) ?_ dJ11_isLatin1_18
      rw [hP]
      exact ⟨0, n, K, A, Lg, G, rfl, rfl, h⟩
    · rw [if_pos c] at h
      refine j_iconst (v := 1) dJ11_isLatin1_13 (by decide) ?_
      refine j_goto (tgt := 18) dJ11_isLatin1_14 (by decide) ?_
      refine j_zret rfl (by decide) ?_ dJ11_isLatin1_18
      rw [hP]
      exact ⟨1, n, K, A, Lg, G, rfl, rfl, h⟩
theorem myJ11_getValue : jY yJ11_getValue cJ11_getValue 1 (some (.array .byte))  0 := ⟨q972, q150, by decide +kernel, by decide +kernel, by decide⟩
def fJ11_getValue (a0 : Nat) (n : Nat) (K : Nat → pKd) (A : pA) (Lg : pL) (G : pG) (kc : Nat) (ks : Nat) (Q : Nat → Nat → (Nat → pKd) → pA → pL → pG → Prop) : Prop :=
    ∃ e1 : Nat, G a0 0 = .ref e1 ∧ ((a0 < n) ∧ ((K a0 = .inl 19) ∧ (Q e1 n K A Lg G)))
theorem tJ11_getValue {Γ : jG} {n : Nat} {K : Nat → pKd} {G : pG} {A : pA} {Lg : pL} {kc ks : Nat} (a0 : Nat)  (Q : Nat → Nat → (Nat → pKd) → pA → pL → pG → Prop) (h : fJ11_getValue a0 n K A Lg G kc ks Q) : jMet Γ yJ11_getValue cJ11_getValue 1 (some (.array .byte)) [] 1 kc ks [.ref a0] (n, K, A, Lg, G) (fun o u => ∃ (r : Nat) (n' : Nat) (K' : Nat → pKd) (A' : pA) (Lg' : pL) (G' : pG), o = .inl (some (.ref r)) ∧ u = (n', K', A', Lg', G') ∧ Q r n' K' A' Lg' G') := by
  unfold fJ11_getValue at h
  obtain ⟨P, hP⟩ : ∃ P : jO → pS → Prop, P = (fun o u => ∃ (r : Nat) (n' : Nat) (K' : Nat → pKd) (A' : pA) (Lg' : pL) (G' : pG), o = .inl (some (.ref r)) ∧ u = (n', K', A', Lg', G') ∧ Q r n' K' A' Lg' G') := ⟨_, rfl⟩
  rw [← hP]
  refine jMet_of rfl rfl rfl (Nat.le_of_ble_eq_true rfl) ?_
  show J Γ RJ11 cJ11_getValue 1 (some (.array .byte)) "getValue" [] 1 kc ks 0 [(0, .ref a0)] [] (n, K, A, Lg, G) P
  refine j_aload_n 0 rfl dJ11_getValue_0 ?_
  obtain ⟨e1, e1h, h⟩ := h
  obtain ⟨la0, h⟩ := h
  obtain ⟨ha0, h⟩ := h
  refine j_getfr fl_J11_15_19 rfl la0 ha0 e1h dJ11_getValue_1 ?_
  refine j_aret rfl (by first | exact Or.inl ⟨_, rfl⟩ | exact Or.inr ⟨_, rfl⟩) (Or.inr ⟨_, rfl⟩) ?_ dJ11_getValue_4
  rw [hP]
  exact ⟨e1, n, K, A, Lg, G, rfl, rfl, h⟩
theorem myJ11_length : jY yJ11_length cJ11_length 1 (some .int)  0 := ⟨q980, q150, by decide +kernel, by decide +kernel, by decide⟩
def fJ11_length (a0 : Nat) (n : Nat) (K : Nat → pKd) (A : pA) (Lg : pL) (G : pG) (kc : Nat) (ks : Nat) (Q : Int32 → Nat → (Nat → pKd) → pA → pL → pG → Prop) : Prop :=
    (a0 < n) ∧ ((K a0 = .inl 19) ∧ (Q (A a0 3) n K A Lg G))
theorem tJ11_length {Γ : jG} {n : Nat} {K : Nat → pKd} {G : pG} {A : pA} {Lg : pL} {kc ks : Nat} (a0 : Nat)  (Q : Int32 → Nat → (Nat → pKd) → pA → pL → pG → Prop) (h : fJ11_length a0 n K A Lg G kc ks Q) : jMet Γ yJ11_length cJ11_length 1 (some .int) [] 1 kc ks [.ref a0] (n, K, A, Lg, G) (fun o u => ∃ (r : Int32) (n' : Nat) (K' : Nat → pKd) (A' : pA) (Lg' : pL) (G' : pG), o = .inl (some (.int r)) ∧ u = (n', K', A', Lg', G') ∧ Q r n' K' A' Lg' G') := by
  unfold fJ11_length at h
  obtain ⟨P, hP⟩ : ∃ P : jO → pS → Prop, P = (fun o u => ∃ (r : Int32) (n' : Nat) (K' : Nat → pKd) (A' : pA) (Lg' : pL) (G' : pG), o = .inl (some (.int r)) ∧ u = (n', K', A', Lg', G') ∧ Q r n' K' A' Lg' G') := ⟨_, rfl⟩
  rw [← hP]
  refine jMet_of rfl rfl rfl (Nat.le_of_ble_eq_true rfl) ?_
  show J Γ RJ11 cJ11_length 1 (some .int) "length" [] 1 kc ks 0 [(0, .ref a0)] [] (n, K, A, Lg, G) P
  refine j_aload_n 0 rfl dJ11_length_0 ?_
  obtain ⟨la0, h⟩ := h
  obtain ⟨ha0, h⟩ := h
  refine j_getfi fl_J11_79_19 rfl la0 ha0 dJ11_length_1 ?_
  refine j_iret rfl ?_ dJ11_length_4
  rw [hP]
  exact ⟨A a0 3, n, K, A, Lg, G, rfl, rfl, h⟩
theorem myJ12_length : jY yJ12_length cJ12_length 1 (some .int)  0 := ⟨q978, q151, by decide +kernel, by decide +kernel, by decide⟩
def fJ12_length (a0 : Nat) (n : Nat) (K : Nat → pKd) (A : pA) (Lg : pL) (G : pG) (kc : Nat) (ks : Nat) (Q : Int32 → Nat → (Nat → pKd) → pA → pL → pG → Prop) : Prop :=
    ∃ kY1 sY2 : Nat, kY1 ≤ kc ∧ sY2 ≤ ks ∧ ((n ≤ 1000000) ∧ ((a0 < n) ∧ ((K a0 = .inl 19) ∧ (fJ11_length a0 n K A Lg G kY1 sY2 (fun r3 n4 K5 A6 Lg7 G8 => Q r3 n4 K5 A6 Lg7 G8)))))
theorem tJ12_length {Γ : jG} {n : Nat} {K : Nat → pKd} {G : pG} {A : pA} {Lg : pL} {kc ks : Nat} (a0 : Nat)  (Q : Int32 → Nat → (Nat → pKd) → pA → pL → pG → Prop) (h : fJ12_length a0 n K A Lg G kc ks Q) : jMet Γ yJ12_length cJ12_length 1 (some .int) [] 2 kc ks [.ref a0] (n, K, A, Lg, G) (fun o u => ∃ (r : Int32) (n' : Nat) (K' : Nat → pKd) (A' : pA) (Lg' : pL) (G' : pG), o = .inl (some (.int r)) ∧ u = (n', K', A', Lg', G') ∧ Q r n' K' A' Lg' G') := by
  unfold fJ12_length at h
  obtain ⟨P, hP⟩ : ∃ P : jO → pS → Prop, P = (fun o u => ∃ (r : Int32) (n' : Nat) (K' : Nat → pKd) (A' : pA) (Lg' : pL) (G' : pG), o = .inl (some (.int r)) ∧ u = (n', K', A', Lg', G') ∧ Q r n' K' A' Lg' G') := ⟨_, rfl⟩
  rw [← hP]
  refine jMet_of rfl rfl rfl (Nat.le_of_ble_eq_true rfl) ?_
  show J Γ RJ12 cJ12_length 1 (some .int) "length" [] 2 kc ks 0 [(0, .ref a0)] [] (n, K, A, Lg, G) P
  refine j_aload_n 0 rfl dJ12_length_0 ?_
  obtain ⟨kY1, sY2, kY1h, sY2h, h⟩ := h
  obtain ⟨hn6, h⟩ := h
  obtain ⟨la0, h⟩ := h
  obtain ⟨ha0, h⟩ := h
  refine j_callSU (b := a0) (As := []) (st := []) (C := "java/lang/StringBuilder") (kc' := kc - kY1) (ks' := ks - sY2) (tJ11_length  a0 _ h) myJ11_length q979 q975 q879 q974 (by decide) (j_l2 hn6 la0) (fun s9 H9 hK9 hR9 h69 => jIs_in hK9 hR9 h69 la0 ha0 rfl) rfl (Nat.le_of_ble_eq_true rfl) rfl (by decide) (by omega) (by omega) dJ12_length_1 (fun v9 u9 hq => ?_) (fun k9 u9 hq => by obtain ⟨_, _, _, _, _, _, e9, _⟩ := hq; cases e9)
  obtain ⟨r3, n4, K5, A6, Lg7, G8, e9, rfl, h⟩ := hq
  obtain rfl := Sum.inl.inj e9
  show J Γ RJ12 cJ12_length 1 (some .int) "length" [] 2 (kc - kY1) (ks - sY2) 4 [(0, .ref a0)] [.int r3] (n4, K5, A6, Lg7, G8) P
  refine j_iret rfl ?_ dJ12_length_4
  rw [hP]
  exact ⟨r3, n4, K5, A6, Lg7, G8, rfl, rfl, h⟩
theorem myJ9_canEncode : jY yJ9_canEncode cJ9_canEncode 1 (some .boolean)  1 := ⟨q929, q141, by decide +kernel, by decide +kernel, by decide⟩
def fJ9_canEncode (n : Nat) (K : Nat → pKd) (A : pA) (Lg : pL) (G : pG) (kc : Nat) (ks : Nat) (p0 : Int32) (Q : Int32 → Nat → (Nat → pKd) → pA → pL → pG → Prop) : Prop :=
    (if 255 < p0 then Q 0 n K A Lg G else Q 1 n K A Lg G)
theorem tJ9_canEncode {Γ : jG} {n : Nat} {K : Nat → pKd} {G : pG} {A : pA} {Lg : pL} {kc ks : Nat} (p0 : Int32) (Q : Int32 → Nat → (Nat → pKd) → pA → pL → pG → Prop) (h : fJ9_canEncode n K A Lg G kc ks p0 Q) : jMet Γ yJ9_canEncode cJ9_canEncode 1 (some .boolean) [] 1 kc ks [.int p0] (n, K, A, Lg, G) (fun o u => ∃ (r : Int32) (n' : Nat) (K' : Nat → pKd) (A' : pA) (Lg' : pL) (G' : pG), o = .inl (some (.int r)) ∧ u = (n', K', A', Lg', G') ∧ Q r n' K' A' Lg' G') := by
  unfold fJ9_canEncode at h
  obtain ⟨P, hP⟩ : ∃ P : jO → pS → Prop, P = (fun o u => ∃ (r : Int32) (n' : Nat) (K' : Nat → pKd) (A' : pA) (Lg' : pL) (G' : pG), o = .inl (some (.int r)) ∧ u = (n', K', A', Lg', G') ∧ Q r n' K' A' Lg' G') := ⟨_, rfl⟩
  rw [← hP]
  refine jMet_of rfl rfl rfl (Nat.le_of_ble_eq_true rfl) ?_
  show J Γ RJ9 cJ9_canEncode 1 (some .boolean) "canEncode" [] 1 kc ks 0 [(0, .int p0)] [] (n, K, A, Lg, G) P
  refine j_iload_n 0 rfl dJ9_canEncode_0 ?_
  refine j_sipush (v := 255) dJ9_canEncode_1 (by decide) ?_
  refine j_icmp_gt (tgt := 11) dJ9_canEncode_4 (by decide) (fun c => ?_) (fun c => ?_)
  · rw [if_pos c] at h
    refine j_iconst (v := 0) dJ9_canEncode_11 (by decide) ?_
    refine j_zret rfl (by decide) ?_ dJ9_canEncode_12
    rw [hP]
    exact ⟨0, n, K, A, Lg, G, rfl, rfl, h⟩
  · rw [if_neg c] at h
    refine j_iconst (v := 1) dJ9_canEncode_7 (by decide) ?_
    refine j_goto (tgt := 12) dJ9_canEncode_8 (by decide) ?_
    refine j_zret rfl (by decide) ?_ dJ9_canEncode_12
    rw [hP]
    exact ⟨1, n, K, A, Lg, G, rfl, rfl, h⟩
theorem myJ11_ensureCapacityInternal : jY yJ11_ensureCapacityInternal cJ11_ensureCapacityInternal 3 none  1 := ⟨q890, q150, by decide +kernel, by decide +kernel, by decide⟩
def fJ11_ensureCapacityInternal (a0 : Nat) (n : Nat) (K : Nat → pKd) (A : pA) (Lg : pL) (G : pG) (kc : Nat) (ks : Nat) (p1 : Int32) (Q : Nat → (Nat → pKd) → pA → pL → pG → Prop) : Prop :=
    ∃ e1 : Nat, G a0 0 = .ref e1 ∧ ((a0 < n) ∧ ((K a0 = .inl 19) ∧ (∃ z3 : Nat, K e1 = .inr (1, z3) ∧ ((e1 < n) ∧ ((if (p1 - ((Int32.ofNat z3) >>> ((A a0 1) &&& 31))) ≤ 0 then Q n K A Lg G else False))))))
theorem tJ11_ensureCapacityInternal {Γ : jG} {n : Nat} {K : Nat → pKd} {G : pG} {A : pA} {Lg : pL} {kc ks : Nat} (a0 : Nat) (p1 : Int32) (Q : Nat → (Nat → pKd) → pA → pL → pG → Prop) (h : fJ11_ensureCapacityInternal a0 n K A Lg G kc ks p1 Q) : jMet Γ yJ11_ensureCapacityInternal cJ11_ensureCapacityInternal 3 none [] 1 kc ks [.ref a0, .int p1] (n, K, A, Lg, G) (fun o u => ∃ (n' : Nat) (K' : Nat → pKd) (A' : pA) (Lg' : pL) (G' : pG), o = .inl none ∧ u = (n', K', A', Lg', G') ∧ Q n' K' A' Lg' G') := by
  unfold fJ11_ensureCapacityInternal at h
  obtain ⟨P, hP⟩ : ∃ P : jO → pS → Prop, P = (fun o u => ∃ (n' : Nat) (K' : Nat → pKd) (A' : pA) (Lg' : pL) (G' : pG), o = .inl none ∧ u = (n', K', A', Lg', G') ∧ Q n' K' A' Lg' G') := ⟨_, rfl⟩
  rw [← hP]
  refine jMet_of rfl rfl rfl (Nat.le_of_ble_eq_true rfl) ?_
  show J Γ RJ11 cJ11_ensureCapacityInternal 3 none "ensureCapacityInternal" [] 1 kc ks 0 [(0, .ref a0), (1, .int p1)] [] (n, K, A, Lg, G) P
  refine j_aload_n 0 rfl dJ11_ensureCapacityInternal_0 ?_
  obtain ⟨e1, e1h, h⟩ := h
  obtain ⟨la0, h⟩ := h
  obtain ⟨ha0, h⟩ := h
  refine j_getfr fl_J11_15_19 rfl la0 ha0 e1h dJ11_ensureCapacityInternal_1 ?_
  obtain ⟨z3, b4, h⟩ := h
  obtain ⟨b2, h⟩ := h
  refine j_alen (t := 1) rfl b2 b4 dJ11_ensureCapacityInternal_4 ?_
  refine j_aload_n 0 rfl dJ11_ensureCapacityInternal_5 ?_
  refine j_getfi fl_J11_22_19 rfl la0 ha0 dJ11_ensureCapacityInternal_6 ?_
  refine j_ishr dJ11_ensureCapacityInternal_9 ?_
  refine j_istore_n (by decide) rfl dJ11_ensureCapacityInternal_10 ?_
  refine j_iload_n 2 rfl dJ11_ensureCapacityInternal_11 ?_
  refine j_iload_n 0 rfl dJ11_ensureCapacityInternal_12 ?_
  refine j_isub dJ11_ensureCapacityInternal_13 ?_
  refine j_if_le (tgt := 38) dJ11_ensureCapacityInternal_14 (by decide) (fun c => ?_) (fun c => ?_)
  · rw [if_pos c] at h
    refine j_vret rfl ?_ dJ11_ensureCapacityInternal_38
    rw [hP]
    exact ⟨n, K, A, Lg, G, rfl, rfl, h⟩
  · rw [if_neg c] at h
    exact h.elim
theorem myJ11_append : jY yJ11_append cJ11_append 2 (some (.object "java/lang/AbstractStringBuilder"))  1 := ⟨q886, q150, by decide +kernel, by decide +kernel, by decide⟩
def fJ11_append_J75 (a0 : Nat)  (Q : Nat → Nat → (Nat → pKd) → pA → pL → pG → Prop) (n : Nat) (K : Nat → pKd) (A : pA) (Lg : pL) (G : pG) (kc : Nat) (ks : Nat) : Prop :=
    Q a0 n K A Lg G
theorem fJ11_append_J75_ok {Γ : jG} (a0 : Nat) (Q : Nat → Nat → (Nat → pKd) → pA → pL → pG → Prop) (P : jO → pS → Prop) (hP : P = (fun o u => ∃ (r : Nat) (n' : Nat) (K' : Nat → pKd) (A' : pA) (Lg' : pL) (G' : pG), o = .inl (some (.ref r)) ∧ u = (n', K', A', Lg', G') ∧ Q r n' K' A' Lg' G'))   (n : Nat) (K : Nat → pKd) (A : pA) (Lg : pL) (G : pG) (kc : Nat) (ks : Nat) (h : fJ11_append_J75 a0  Q n K A Lg G kc ks) : J Γ RJ11 cJ11_append 2 (some (.object "java/lang/AbstractStringBuilder")) "append" [] 2 kc ks 75 [(0, .ref a0)] [] (n, K, A, Lg, G) P := by
  unfold fJ11_append_J75 at h
  refine j_aload_n 0 rfl dJ11_append_75 ?_
  refine j_aret rfl (by first | exact Or.inl ⟨_, rfl⟩ | exact Or.inr ⟨_, rfl⟩) (Or.inr ⟨_, rfl⟩) ?_ dJ11_append_76
  rw [hP]
  exact ⟨a0, n, K, A, Lg, G, rfl, rfl, h⟩
def fJ11_append_J56 (a0 : Nat)  (Q : Nat → Nat → (Nat → pKd) → pA → pL → pG → Prop) (l1 : Int32) (n : Nat) (K : Nat → pKd) (A : pA) (Lg : pL) (G : pG) (kc : Nat) (ks : Nat) : Prop :=
    False
theorem fJ11_append_J56_ok {Γ : jG} (a0 : Nat) (Q : Nat → Nat → (Nat → pKd) → pA → pL → pG → Prop) (P : jO → pS → Prop) (hP : P = (fun o u => ∃ (r : Nat) (n' : Nat) (K' : Nat → pKd) (A' : pA) (Lg' : pL) (G' : pG), o = .inl (some (.ref r)) ∧ u = (n', K', A', Lg', G') ∧ Q r n' K' A' Lg' G'))   (l1 : Int32) (n : Nat) (K : Nat → pKd) (A : pA) (Lg : pL) (G : pG) (kc : Nat) (ks : Nat) (h : fJ11_append_J56 a0  Q l1 n K A Lg G kc ks) : J Γ RJ11 cJ11_append 2 (some (.object "java/lang/AbstractStringBuilder")) "append" [] 2 kc ks 56 [(0, .ref a0), (1, .int l1)] [] (n, K, A, Lg, G) P := by
  unfold fJ11_append_J56 at h
  exact h.elim
def fJ11_append_J45 (a0 : Nat)  (Q : Nat → Nat → (Nat → pKd) → pA → pL → pG → Prop) (l1 : Int32) (n : Nat) (K : Nat → pKd) (A : pA) (Lg : pL) (G : pG) (kc : Nat) (ks : Nat) : Prop :=
    ∃ kY3 sY4 : Nat, kY3 ≤ kc ∧ sY4 ≤ ks ∧ ((n ≤ 1000000) ∧ ((a0 < n) ∧ ((K a0 = .inl 19) ∧ (fJ11_isLatin1 a0 n K A Lg G kY3 sY4 (fun r5 n6 K7 A8 Lg9 G10 => (if r5 = 0 then fJ11_append_J56 a0  Q l1 n6 K7 A8 Lg9 G10 (kc - kY3) (ks - sY4) else False))))))
theorem fJ11_append_J45_ok {Γ : jG} (a0 : Nat) (Q : Nat → Nat → (Nat → pKd) → pA → pL → pG → Prop) (P : jO → pS → Prop) (hP : P = (fun o u => ∃ (r : Nat) (n' : Nat) (K' : Nat → pKd) (A' : pA) (Lg' : pL) (G' : pG), o = .inl (some (.ref r)) ∧ u = (n', K', A', Lg', G') ∧ Q r n' K' A' Lg' G'))   (l1 : Int32) (n : Nat) (K : Nat → pKd) (A : pA) (Lg : pL) (G : pG) (kc : Nat) (ks : Nat) (h : fJ11_append_J45 a0  Q l1 n K A Lg G kc ks) : J Γ RJ11 cJ11_append 2 (some (.object "java/lang/AbstractStringBuilder")) "append" [] 2 kc ks 45 [(0, .ref a0), (1, .int l1)] [] (n, K, A, Lg, G) P := by
  unfold fJ11_append_J45 at h
  refine j_aload_n 0 rfl dJ11_append_45 ?_
  obtain ⟨kY3, sY4, kY3h, sY4h, h⟩ := h
  obtain ⟨hn6, h⟩ := h
  obtain ⟨la0, h⟩ := h
  obtain ⟨ha0, h⟩ := h
  refine j_callVU (b := a0) (As := []) (st := []) (C := "java/lang/StringBuilder") (owner := "java/lang/AbstractStringBuilder") (kc' := kc - kY3) (ks' := ks - sY4) (tJ11_isLatin1  a0 _ h) myJ11_isLatin1 q922 q924 (Or.inr ⟨q923, _, _, _, q926⟩) (by decide) q925 q923 rfl (j_l2 hn6 la0) (fun s9 H9 hK9 hR9 h69 => jIs_in hK9 hR9 h69 la0 ha0 rfl) rfl (Nat.le_of_ble_eq_true rfl) rfl (by decide) (by omega) (by omega) dJ11_append_46 (fun v9 u9 hq => ?_) (fun k9 u9 hq => by obtain ⟨_, _, _, _, _, _, e9, _⟩ := hq; cases e9)
  obtain ⟨r5, n6, K7, A8, Lg9, G10, e9, rfl, h⟩ := hq
  obtain rfl := Sum.inl.inj e9
  show J Γ RJ11 cJ11_append 2 (some (.object "java/lang/AbstractStringBuilder")) "append" [] 2 (kc - kY3) (ks - sY4) 49 [(0, .ref a0), (1, .int l1)] [.int r5] (n6, K7, A8, Lg9, G10) P
  refine j_if_eq (tgt := 56) dJ11_append_49 (by decide) (fun c => ?_) (fun c => ?_)
  · rw [if_pos c] at h
    exact fJ11_append_J56_ok  a0 Q P hP   l1 n6 K7 A8 Lg9 G10 (kc - kY3) (ks - sY4) h
  · rw [if_neg c] at h
    exact h.elim
def fJ11_append (a0 : Nat) (n : Nat) (K : Nat → pKd) (A : pA) (Lg : pL) (G : pG) (kc : Nat) (ks : Nat) (p1 : Int32) (Q : Nat → Nat → (Nat → pKd) → pA → pL → pG → Prop) : Prop :=
    (a0 < n) ∧ ((K a0 = .inl 19) ∧ (∃ kY11 sY12 : Nat, kY11 ≤ kc ∧ sY12 ≤ ks ∧ ((n ≤ 1000000) ∧ (fJ11_ensureCapacityInternal a0 n K A Lg G kY11 sY12 ((A a0 3) + 1) (fun n13 K14 A15 Lg16 G17 => ∃ kY18 sY19 : Nat, kY18 ≤ kc - kY11 ∧ sY19 ≤ ks - sY12 ∧ ((n13 ≤ 1000000) ∧ ((a0 < n13) ∧ ((K14 a0 = .inl 19) ∧ (fJ11_isLatin1 a0 n13 K14 A15 Lg16 G17 kY18 sY19 (fun r20 n21 K22 A23 Lg24 G25 => (if r20 = 0 then fJ11_append_J45 a0  Q p1 n21 K22 A23 Lg24 G25 (kc - kY11 - kY18) (ks - sY12 - sY19) else ∃ kY26 sY27 : Nat, kY26 ≤ kc - kY11 - kY18 ∧ sY27 ≤ ks - sY12 - sY19 ∧ (fJ9_canEncode n21 K22 A23 Lg24 G25 kY26 sY27 p1 (fun r28 n29 K30 A31 Lg32 G33 => (if r28 = 0 then fJ11_append_J45 a0  Q p1 n29 K30 A31 Lg32 G33 (kc - kY11 - kY18 - kY26) (ks - sY12 - sY19 - sY27) else ∃ e34 : Nat, G33 a0 0 = .ref e34 ∧ ((a0 < n29) ∧ ((K30 a0 = .inl 19) ∧ (∀ A35 : pA, A35 = pup A31 a0 3 ((A31 a0 3) + 1) → ∃ z37 : Nat, K30 e34 = .inr (1, z37) ∧ ((vp_in (A31 a0 3) z37) ∧ ((e34 < n29) ∧ (∀ A40 : pA, A40 = pup A35 e34 (A31 a0 3).toNatClampNeg (vp_nar .byte ((p1 : Int32).toInt8.toInt32)) → fJ11_append_J75 a0  Q n29 K30 A40 Lg32 G33 (kc - kY11 - kY18 - kY26) (ks - sY12 - sY19 - sY27)))))))))))))))))))))
theorem tJ11_append {Γ : jG} {n : Nat} {K : Nat → pKd} {G : pG} {A : pA} {Lg : pL} {kc ks : Nat} (a0 : Nat) (p1 : Int32) (Q : Nat → Nat → (Nat → pKd) → pA → pL → pG → Prop) (h : fJ11_append a0 n K A Lg G kc ks p1 Q) : jMet Γ yJ11_append cJ11_append 2 (some (.object "java/lang/AbstractStringBuilder")) [] 2 kc ks [.ref a0, .int p1] (n, K, A, Lg, G) (fun o u => ∃ (r : Nat) (n' : Nat) (K' : Nat → pKd) (A' : pA) (Lg' : pL) (G' : pG), o = .inl (some (.ref r)) ∧ u = (n', K', A', Lg', G') ∧ Q r n' K' A' Lg' G') := by
  unfold fJ11_append at h
  obtain ⟨P, hP⟩ : ∃ P : jO → pS → Prop, P = (fun o u => ∃ (r : Nat) (n' : Nat) (K' : Nat → pKd) (A' : pA) (Lg' : pL) (G' : pG), o = .inl (some (.ref r)) ∧ u = (n', K', A', Lg', G') ∧ Q r n' K' A' Lg' G') := ⟨_, rfl⟩
  rw [← hP]
  refine jMet_of rfl rfl rfl (Nat.le_of_ble_eq_true rfl) ?_
  show J Γ RJ11 cJ11_append 2 (some (.object "java/lang/AbstractStringBuilder")) "append" [] 2 kc ks 0 [(0, .ref a0), (1, .int p1)] [] (n, K, A, Lg, G) P
  refine j_aload_n 0 rfl dJ11_append_0 ?_
  refine j_aload_n 0 rfl dJ11_append_1 ?_
  obtain ⟨la0, h⟩ := h
  obtain ⟨ha0, h⟩ := h
  refine j_getfi fl_J11_79_19 rfl la0 ha0 dJ11_append_2 ?_
  refine j_iconst (v := 1) dJ11_append_5 (by decide) ?_
  refine j_iadd dJ11_append_6 ?_
  obtain ⟨kY11, sY12, kY11h, sY12h, h⟩ := h
  obtain ⟨hn6, h⟩ := h
  refine j_callVP (b := a0) (As := [.int ((A a0 3) + 1)]) (st := []) (C := "java/lang/StringBuilder") (kc' := kc - kY11) (ks' := ks - sY12) (tJ11_ensureCapacityInternal  a0 ((A a0 3) + 1) _ h) myJ11_ensureCapacityInternal q887 q889 q925 rfl rfl (j_l2 hn6 la0) (fun s9 H9 hK9 hR9 h69 => jIs_in hK9 hR9 h69 la0 ha0 rfl) rfl (Nat.le_of_ble_eq_true rfl) rfl (by decide) (by omega) (by omega) dJ11_append_7 (fun v9 u9 hq => ?_) (fun k9 u9 hq => by obtain ⟨_, _, _, _, _, e9, _⟩ := hq; cases e9)
  obtain ⟨n13, K14, A15, Lg16, G17, e9, rfl, h⟩ := hq
  obtain rfl := Sum.inl.inj e9
  show J Γ RJ11 cJ11_append 2 (some (.object "java/lang/AbstractStringBuilder")) "append" [] 2 (kc - kY11) (ks - sY12) 10 [(0, .ref a0), (1, .int p1)] [] (n13, K14, A15, Lg16, G17) P
  refine j_aload_n 0 rfl dJ11_append_10 ?_
  obtain ⟨kY18, sY19, kY18h, sY19h, h⟩ := h
  obtain ⟨hn6, h⟩ := h
  obtain ⟨la0, h⟩ := h
  obtain ⟨ha0, h⟩ := h
  refine j_callVU (b := a0) (As := []) (st := []) (C := "java/lang/StringBuilder") (owner := "java/lang/AbstractStringBuilder") (kc' := kc - kY11 - kY18) (ks' := ks - sY12 - sY19) (tJ11_isLatin1  a0 _ h) myJ11_isLatin1 q922 q924 (Or.inr ⟨q923, _, _, _, q926⟩) (by decide) q925 q923 rfl (j_l2 hn6 la0) (fun s9 H9 hK9 hR9 h69 => jIs_in hK9 hR9 h69 la0 ha0 rfl) rfl (Nat.le_of_ble_eq_true rfl) rfl (by decide) (by omega) (by omega) dJ11_append_11 (fun v9 u9 hq => ?_) (fun k9 u9 hq => by obtain ⟨_, _, _, _, _, _, e9, _⟩ := hq; cases e9)
  obtain ⟨r20, n21, K22, A23, Lg24, G25, e9, rfl, h⟩ := hq
  obtain rfl := Sum.inl.inj e9
  show J Γ RJ11 cJ11_append 2 (some (.object "java/lang/AbstractStringBuilder")) "append" [] 2 (kc - kY11 - kY18) (ks - sY12 - sY19) 14 [(0, .ref a0), (1, .int p1)] [.int r20] (n21, K22, A23, Lg24, G25) P
  refine j_if_eq (tgt := 45) dJ11_append_14 (by decide) (fun c => ?_) (fun c => ?_)
  · rw [if_pos c] at h
    exact fJ11_append_J45_ok  a0 Q P hP   p1 n21 K22 A23 Lg24 G25 (kc - kY11 - kY18) (ks - sY12 - sY19) h
  · rw [if_neg c] at h
    refine j_iload_n 1 rfl dJ11_append_17 ?_
    obtain ⟨kY26, sY27, kY26h, sY27h, h⟩ := h
    refine j_callS (As := [.int p1]) (st := []) (kc' := kc - kY11 - kY18 - kY26) (ks' := ks - sY12 - sY19 - sY27) (tJ9_canEncode  p1 _ h) myJ9_canEncode q927 q928 rfl (Nat.le_of_ble_eq_true rfl) rfl (by decide) (by omega) (by omega) dJ11_append_18 (fun v9 u9 hq => ?_) (fun k9 u9 hq => by obtain ⟨_, _, _, _, _, _, e9, _⟩ := hq; cases e9)
    obtain ⟨r28, n29, K30, A31, Lg32, G33, e9, rfl, h⟩ := hq
    obtain rfl := Sum.inl.inj e9
    show J Γ RJ11 cJ11_append 2 (some (.object "java/lang/AbstractStringBuilder")) "append" [] 2 (kc - kY11 - kY18 - kY26) (ks - sY12 - sY19 - sY27) 21 [(0, .ref a0), (1, .int p1)] [.int r28] (n29, K30, A31, Lg32, G33) P
    refine j_if_eq (tgt := 45) dJ11_append_21 (by decide) (fun c => ?_) (fun c => ?_)
    · rw [if_pos c] at h
      exact fJ11_append_J45_ok  a0 Q P hP   p1 n29 K30 A31 Lg32 G33 (kc - kY11 - kY18 - kY26) (ks - sY12 - sY19 - sY27) h
    · rw [if_neg c] at h
      refine j_aload_n 0 rfl dJ11_append_24 ?_
      obtain ⟨e34, e34h, h⟩ := h
      obtain ⟨la0, h⟩ := h
      obtain ⟨ha0, h⟩ := h
      refine j_getfr fl_J11_15_19 rfl la0 ha0 e34h dJ11_append_25 ?_
      refine j_aload_n 0 rfl dJ11_append_28 ?_
      refine j_dup rfl dJ11_append_29 ?_
      refine j_getfi fl_J11_79_19 rfl la0 ha0 dJ11_append_30 ?_
      refine j_dup_x1 rfl rfl dJ11_append_33 ?_
      refine j_iconst (v := 1) dJ11_append_34 (by decide) ?_
      refine j_iadd dJ11_append_35 ?_
      refine j_putfiE (fp_J11_79_19 _) rfl rfl rfl la0 ha0 dJ11_append_36 (fun A35 eA35 => ?_)
      replace h := h A35 eA35
      refine j_iload_n 1 rfl dJ11_append_39 ?_
      refine j_i2b dJ11_append_40 ?_
      obtain ⟨z37, b38, h⟩ := h
      obtain ⟨b39, h⟩ := h
      obtain ⟨b36, h⟩ := h
      refine j_bastJ (j := (A31 a0 3).toNatClampNeg) b36 b38 b39 rfl dJ11_append_41 (fun A40 eA40 => ?_)
      replace h := h A40 eA40
      refine j_goto (tgt := 75) dJ11_append_42 (by decide) ?_
      refine j_ls [0] rfl ?_
      exact fJ11_append_J75_ok  a0 Q P hP   n29 K30 A40 Lg32 G33 (kc - kY11 - kY18 - kY26) (ks - sY12 - sY19 - sY27) h
theorem myJ12_append : jY yJ12_append cJ12_append 2 (some (.object "java/lang/StringBuilder"))  1 := ⟨q883, q151, by decide +kernel, by decide +kernel, by decide⟩
def fJ12_append (a0 : Nat) (n : Nat) (K : Nat → pKd) (A : pA) (Lg : pL) (G : pG) (kc : Nat) (ks : Nat) (p1 : Int32) (Q : Nat → Nat → (Nat → pKd) → pA → pL → pG → Prop) : Prop :=
    ∃ kY1 sY2 : Nat, kY1 ≤ kc ∧ sY2 ≤ ks ∧ ((n ≤ 1000000) ∧ ((a0 < n) ∧ ((K a0 = .inl 19) ∧ (fJ11_append a0 n K A Lg G kY1 sY2 p1 (fun r3 n4 K5 A6 Lg7 G8 => Q a0 n4 K5 A6 Lg7 G8)))))
theorem tJ12_append {Γ : jG} {n : Nat} {K : Nat → pKd} {G : pG} {A : pA} {Lg : pL} {kc ks : Nat} (a0 : Nat) (p1 : Int32) (Q : Nat → Nat → (Nat → pKd) → pA → pL → pG → Prop) (h : fJ12_append a0 n K A Lg G kc ks p1 Q) : jMet Γ yJ12_append cJ12_append 2 (some (.object "java/lang/StringBuilder")) [] 3 kc ks [.ref a0, .int p1] (n, K, A, Lg, G) (fun o u => ∃ (r : Nat) (n' : Nat) (K' : Nat → pKd) (A' : pA) (Lg' : pL) (G' : pG), o = .inl (some (.ref r)) ∧ u = (n', K', A', Lg', G') ∧ Q r n' K' A' Lg' G') := by
  unfold fJ12_append at h
  obtain ⟨P, hP⟩ : ∃ P : jO → pS → Prop, P = (fun o u => ∃ (r : Nat) (n' : Nat) (K' : Nat → pKd) (A' : pA) (Lg' : pL) (G' : pG), o = .inl (some (.ref r)) ∧ u = (n', K', A', Lg', G') ∧ Q r n' K' A' Lg' G') := ⟨_, rfl⟩
  rw [← hP]
  refine jMet_of rfl rfl rfl (Nat.le_of_ble_eq_true rfl) ?_
  show J Γ RJ12 cJ12_append 2 (some (.object "java/lang/StringBuilder")) "append" [] 3 kc ks 0 [(0, .ref a0), (1, .int p1)] [] (n, K, A, Lg, G) P
  refine j_aload_n 0 rfl dJ12_append_0 ?_
  refine j_iload_n 1 rfl dJ12_append_1 ?_
  obtain ⟨kY1, sY2, kY1h, sY2h, h⟩ := h
  obtain ⟨hn6, h⟩ := h
  obtain ⟨la0, h⟩ := h
  obtain ⟨ha0, h⟩ := h
  refine j_callSU (b := a0) (As := [.int p1]) (st := []) (C := "java/lang/StringBuilder") (kc' := kc - kY1) (ks' := ks - sY2) (tJ11_append  a0 p1 _ h) myJ11_append q884 q2163 q879 q885 (by decide) (j_l2 hn6 la0) (fun s9 H9 hK9 hR9 h69 => jIs_in hK9 hR9 h69 la0 ha0 rfl) rfl (Nat.le_of_ble_eq_true rfl) rfl (by decide) (by omega) (by omega) dJ12_append_2 (fun v9 u9 hq => ?_) (fun k9 u9 hq => by obtain ⟨_, _, _, _, _, _, e9, _⟩ := hq; cases e9)
  obtain ⟨r3, n4, K5, A6, Lg7, G8, e9, rfl, h⟩ := hq
  obtain rfl := Sum.inl.inj e9
  show J Γ RJ12 cJ12_append 2 (some (.object "java/lang/StringBuilder")) "append" [] 3 (kc - kY1) (ks - sY2) 5 [(0, .ref a0), (1, .int p1)] [.ref r3] (n4, K5, A6, Lg7, G8) P
  refine j_pop rfl dJ12_append_5 ?_
  refine j_aload_n 0 rfl dJ12_append_6 ?_
  refine j_aret rfl (by first | exact Or.inl ⟨_, rfl⟩ | exact Or.inr ⟨_, rfl⟩) (Or.inr ⟨_, rfl⟩) ?_ dJ12_append_7
  rw [hP]
  exact ⟨a0, n4, K5, A6, Lg7, G8, rfl, rfl, h⟩
theorem myJ15_checkLength : jY yJ15_checkLength cJ15_checkLength 2 none  2 := ⟨q990, q154, by decide +kernel, by decide +kernel, by decide⟩
def fJ15_checkLength (n : Nat) (K : Nat → pKd) (A : pA) (Lg : pL) (G : pG) (kc : Nat) (ks : Nat) (p0 : Int32) (p1 : Int32) (X : Nat → (Nat → pKd) → pA → pL → pG → Prop) (Q : Nat → (Nat → pKd) → pA → pL → pG → Prop) : Prop :=
    (if p0 ≤ p1 then Q n K A Lg G else False)
theorem tJ15_checkLength {Γ : jG} {n : Nat} {K : Nat → pKd} {G : pG} {A : pA} {Lg : pL} {kc ks : Nat} (p0 : Int32) (p1 : Int32) (X : Nat → (Nat → pKd) → pA → pL → pG → Prop) (Q : Nat → (Nat → pKd) → pA → pL → pG → Prop) (h : fJ15_checkLength n K A Lg G kc ks p0 p1 X Q) : jMet Γ yJ15_checkLength cJ15_checkLength 2 none [] 1 kc ks [.int p0, .int p1] (n, K, A, Lg, G) (fun o u => (∃ (n' : Nat) (K' : Nat → pKd) (A' : pA) (Lg' : pL) (G' : pG), o = .inl none ∧ u = (n', K', A', Lg', G') ∧ Q n' K' A' Lg' G') ∨ (∃ (n' : Nat) (K' : Nat → pKd) (A' : pA) (Lg' : pL) (G' : pG), o = .inr 1 ∧ u = (n', K', A', Lg', G') ∧ X n' K' A' Lg' G')) := by
  unfold fJ15_checkLength at h
  obtain ⟨P, hP⟩ : ∃ P : jO → pS → Prop, P = (fun o u => (∃ (n' : Nat) (K' : Nat → pKd) (A' : pA) (Lg' : pL) (G' : pG), o = .inl none ∧ u = (n', K', A', Lg', G') ∧ Q n' K' A' Lg' G') ∨ (∃ (n' : Nat) (K' : Nat → pKd) (A' : pA) (Lg' : pL) (G' : pG), o = .inr 1 ∧ u = (n', K', A', Lg', G') ∧ X n' K' A' Lg' G')) := ⟨_, rfl⟩
  rw [← hP]
  refine jMet_of rfl rfl rfl (Nat.le_of_ble_eq_true rfl) ?_
  show J Γ RJ15 cJ15_checkLength 2 none "checkLength" [] 1 kc ks 0 [(0, .int p0), (1, .int p1)] [] (n, K, A, Lg, G) P
  refine j_iload_n 1 rfl dJ15_checkLength_0 ?_
  refine j_iload_n 0 rfl dJ15_checkLength_1 ?_
  refine j_icmp_ge (tgt := 37) dJ15_checkLength_2 (by decide) (fun c => ?_) (fun c => ?_)
  · rw [if_pos c] at h
    refine j_vret rfl ?_ dJ15_checkLength_37
    rw [hP]
    exact Or.inl ⟨n, K, A, Lg, G, rfl, rfl, h⟩
  · rw [if_neg c] at h
    exact h.elim
theorem myJ15_copyOfRangeByte : jY yJ15_copyOfRangeByte cJ15_copyOfRangeByte 5 (some (.array .byte))  3 := ⟨q987, q154, by decide +kernel, by decide +kernel, by decide⟩
def fJ15_copyOfRangeByte (a0 : Nat) (z0 : Nat) (n : Nat) (K : Nat → pKd) (A : pA) (Lg : pL) (G : pG) (kc : Nat) (ks : Nat) (p1 : Int32) (p2 : Int32) (X : Nat → (Nat → pKd) → pA → pL → pG → Prop) (Q : Nat → Nat → (Nat → pKd) → pA → pL → pG → Prop) : Prop :=
    ∃ kY1 sY2 : Nat, kY1 ≤ kc ∧ sY2 ≤ ks ∧ (fJ15_checkLength n K A Lg G kY1 sY2 p1 p2 X (fun n3 K4 A5 Lg6 G7 => (¬ (p2 - p1) < 0) ∧ (((p2 - p1).toNatClampNeg * 1 ≤ 536870912) ∧ ((1 ≤ kc - kY1) ∧ (((p2 - p1).toNatClampNeg ≤ ks - sY2) ∧ (∀ (K12 : Nat → pKd) (A13 : pA) (L14 : pL) (G15 : pG), K12 = pkup K4 n3 (.inr (1, (p2 - p1).toNatClampNeg)) → A13 = prow A5 n3 (fun _ => 0) → L14 = prow Lg6 n3 (fun _ => 0) → G15 = prow G7 n3 (fun _ => .null) → (a0 < (n3 + 1)) ∧ ((K12 a0 = .inr (1, z0)) ∧ ((¬ p1 < 0) ∧ ((¬ (pmin ((Int32.ofNat z0) - p1) (p2 - p1)) < 0) ∧ (((p1 : Int32).toNatClampNeg + ((pmin ((Int32.ofNat z0) - p1) (p2 - p1)) : Int32).toNatClampNeg ≤ z0) ∧ (((0 : Int32).toNatClampNeg + ((pmin ((Int32.ofNat z0) - p1) (p2 - p1)) : Int32).toNatClampNeg ≤ (p2 - p1).toNatClampNeg) ∧ ((∀ i9, i9 < ((pmin ((Int32.ofNat z0) - p1) (p2 - p1)) : Int32).toNatClampNeg → fits .byte (.int (A13 a0 ((p1 : Int32).toNatClampNeg + i9))) = true) ∧ (∀ A23 : pA, A23 = prow A13 n3 (va_cpy (A13 a0) (A13 n3) (p1 : Int32).toNatClampNeg (0 : Int32).toNatClampNeg ((pmin ((Int32.ofNat z0) - p1) (p2 - p1)) : Int32).toNatClampNeg) → Q n3 (n3 + 1) K12 A23 L14 G15)))))))))))))
theorem tJ15_copyOfRangeByte {Γ : jG} {n : Nat} {K : Nat → pKd} {G : pG} {A : pA} {Lg : pL} {kc ks : Nat} (a0 : Nat) (z0 : Nat) (p1 : Int32) (p2 : Int32) (X : Nat → (Nat → pKd) → pA → pL → pG → Prop) (Q : Nat → Nat → (Nat → pKd) → pA → pL → pG → Prop) (h : fJ15_copyOfRangeByte a0 z0 n K A Lg G kc ks p1 p2 X Q) : jMet Γ yJ15_copyOfRangeByte cJ15_copyOfRangeByte 5 (some (.array .byte)) [] 2 kc ks [.ref a0, .int p1, .int p2] (n, K, A, Lg, G) (fun o u => (∃ (r : Nat) (n' : Nat) (K' : Nat → pKd) (A' : pA) (Lg' : pL) (G' : pG), o = .inl (some (.ref r)) ∧ u = (n', K', A', Lg', G') ∧ Q r n' K' A' Lg' G') ∨ (∃ (n' : Nat) (K' : Nat → pKd) (A' : pA) (Lg' : pL) (G' : pG), o = .inr 1 ∧ u = (n', K', A', Lg', G') ∧ X n' K' A' Lg' G')) := by
  unfold fJ15_copyOfRangeByte at h
  obtain ⟨P, hP⟩ : ∃ P : jO → pS → Prop, P = (fun o u => (∃ (r : Nat) (n' : Nat) (K' : Nat → pKd) (A' : pA) (Lg' : pL) (G' : pG), o = .inl (some (.ref r)) ∧ u = (n', K', A', Lg', G') ∧ Q r n' K' A' Lg' G') ∨ (∃ (n' : Nat) (K' : Nat → pKd) (A' : pA) (Lg' : pL) (G' : pG), o = .inr 1 ∧ u = (n', K', A', Lg', G') ∧ X n' K' A' Lg' G')) := ⟨_, rfl⟩
  rw [← hP]
  refine jMet_of rfl rfl rfl (Nat.le_of_ble_eq_true rfl) ?_
  show J Γ RJ15 cJ15_copyOfRangeByte 5 (some (.array .byte)) "copyOfRangeByte" [] 2 kc ks 0 [(0, .ref a0), (1, .int p1), (2, .int p2)] [] (n, K, A, Lg, G) P
  refine j_iload_n 1 rfl dJ15_copyOfRangeByte_0 ?_
  refine j_iload_n 2 rfl dJ15_copyOfRangeByte_1 ?_
  obtain ⟨kY1, sY2, kY1h, sY2h, h⟩ := h
  refine j_callS (As := [.int p1, .int p2]) (st := []) (kc' := kc - kY1) (ks' := ks - sY2) (tJ15_checkLength  p1 p2 X _ h) myJ15_checkLength q988 q989 rfl (Nat.le_of_ble_eq_true rfl) rfl (by decide) (by omega) (by omega) dJ15_copyOfRangeByte_2 (fun v9 u9 hq => ?_) (fun k9 u9 hq => by rcases hq with ⟨_, _, _, _, _, e9, _⟩ | ⟨n9, K9, A9, L9, G9, e9, e8, hX⟩; exact nomatch e9; rw [hP]; exact Or.inr ⟨n9, K9, A9, L9, G9, e9, e8, hX⟩)
  rcases hq with hq | ⟨n9, K9, A9, L9, G9, e9, e8, hX⟩
  rotate_left
  · exact nomatch e9
  obtain ⟨n3, K4, A5, Lg6, G7, e9, rfl, h⟩ := hq
  obtain rfl := Sum.inl.inj e9
  show J Γ RJ15 cJ15_copyOfRangeByte 5 (some (.array .byte)) "copyOfRangeByte" [] 2 (kc - kY1) (ks - sY2) 5 [(0, .ref a0), (1, .int p1), (2, .int p2)] [] (n3, K4, A5, Lg6, G7) P
  refine j_iload_n 2 rfl dJ15_copyOfRangeByte_5 ?_
  refine j_iload_n 1 rfl dJ15_copyOfRangeByte_6 ?_
  refine j_isub dJ15_copyOfRangeByte_7 ?_
  refine j_istore_n (by decide) rfl dJ15_copyOfRangeByte_8 ?_
  refine j_iload_n 0 rfl dJ15_copyOfRangeByte_9 ?_
  obtain ⟨b8, h⟩ := h
  obtain ⟨b9, h⟩ := h
  obtain ⟨b10, h⟩ := h
  obtain ⟨b11, h⟩ := h
  refine j_newaE (t := 1) (N := (p2 - p1).toNatClampNeg) rfl rfl q240 (fun _ _ h9 => h9) rfl b8 rfl b9 b10 b11 dJ15_copyOfRangeByte_10 (fun K12 A13 L14 G15 eK12 eA13 eL14 eG15 => ?_)
  replace h := h K12 A13 L14 G15 eK12 eA13 eL14 eG15
  have b16 : n3 < (n3 + 1) := (by omega)
  have b17 : K12 n3 = .inr (1, (p2 - p1).toNatClampNeg) := (by rw [eK12]; exact pkup_self)
  refine j_astore (by decide) rfl dJ15_copyOfRangeByte_12 ?_
  refine j_aload_n 2 rfl dJ15_copyOfRangeByte_14 ?_
  refine j_iload_n 3 rfl dJ15_copyOfRangeByte_15 ?_
  refine j_aload 0 rfl dJ15_copyOfRangeByte_16 ?_
  refine j_iconst (v := 0) dJ15_copyOfRangeByte_18 (by decide) ?_
  refine j_aload_n 2 rfl dJ15_copyOfRangeByte_19 ?_
  obtain ⟨la0, h⟩ := h
  obtain ⟨ha0, h⟩ := h
  refine j_alen (t := 1) rfl la0 ha0 dJ15_copyOfRangeByte_20 ?_
  refine j_iload_n 3 rfl dJ15_copyOfRangeByte_21 ?_
  refine j_isub dJ15_copyOfRangeByte_22 ?_
  refine j_iload_n 1 rfl dJ15_copyOfRangeByte_23 ?_
  refine j_mmin q916 q917 q153 q918 (Nat.le_of_ble_eq_true rfl) (by decide) dJ15_copyOfRangeByte_24 ?_
  obtain ⟨b18, h⟩ := h
  obtain ⟨b19, h⟩ := h
  obtain ⟨b20, h⟩ := h
  obtain ⟨b21, h⟩ := h
  obtain ⟨b22, h⟩ := h
  refine j_copyE (t := 1) rfl rfl rfl q919 q921 q920 q155 la0 b16 ha0 b17 b18 (by decide) b19 b20 b21 b22 (Nat.le_of_ble_eq_true rfl) (by decide) dJ15_copyOfRangeByte_27 (fun A23 eA23 => ?_)
  replace h := h A23 eA23
  refine j_aload 0 rfl dJ15_copyOfRangeByte_30 ?_
  refine j_aret rfl (by first | exact Or.inl ⟨_, rfl⟩ | exact Or.inr ⟨_, rfl⟩) (Or.inr ⟨_, rfl⟩) ?_ dJ15_copyOfRangeByte_32
  rw [hP]
  exact Or.inl ⟨n3, n3 + 1, K12, A23, L14, G15, rfl, rfl, h⟩
theorem myJ15_copyOfRange : jY yJ15_copyOfRange cJ15_copyOfRange 3 (some (.array .byte))  3 := ⟨q984, q154, by decide +kernel, by decide +kernel, by decide⟩
def fJ15_copyOfRange_J10 (a0 : Nat) (z0 : Nat)  (X : Nat → (Nat → pKd) → pA → pL → pG → Prop) (Q : Nat → Nat → (Nat → pKd) → pA → pL → pG → Prop) (l1 : Int32) (l2 : Int32) (n : Nat) (K : Nat → pKd) (A : pA) (Lg : pL) (G : pG) (kc : Nat) (ks : Nat) : Prop :=
    ∃ kY1 sY2 : Nat, kY1 ≤ kc ∧ sY2 ≤ ks ∧ (fJ15_copyOfRangeByte a0 z0 n K A Lg G kY1 sY2 l1 l2 X (fun r3 n4 K5 A6 Lg7 G8 => Q r3 n4 K5 A6 Lg7 G8))
theorem fJ15_copyOfRange_J10_ok {Γ : jG} (a0 : Nat) (z0 : Nat) (X : Nat → (Nat → pKd) → pA → pL → pG → Prop) (Q : Nat → Nat → (Nat → pKd) → pA → pL → pG → Prop) (P : jO → pS → Prop) (hP : P = (fun o u => (∃ (r : Nat) (n' : Nat) (K' : Nat → pKd) (A' : pA) (Lg' : pL) (G' : pG), o = .inl (some (.ref r)) ∧ u = (n', K', A', Lg', G') ∧ Q r n' K' A' Lg' G') ∨ (∃ (n' : Nat) (K' : Nat → pKd) (A' : pA) (Lg' : pL) (G' : pG), o = .inr 1 ∧ u = (n', K', A', Lg', G') ∧ X n' K' A' Lg' G')))   (l1 : Int32) (l2 : Int32) (n : Nat) (K : Nat → pKd) (A : pA) (Lg : pL) (G : pG) (kc : Nat) (ks : Nat) (h : fJ15_copyOfRange_J10 a0 z0  X Q l1 l2 n K A Lg G kc ks) : J Γ RJ15 cJ15_copyOfRange 3 (some (.array .byte)) "copyOfRange" [] 3 kc ks 10 [(0, .ref a0), (1, .int l1), (2, .int l2)] [] (n, K, A, Lg, G) P := by
  unfold fJ15_copyOfRange_J10 at h
  refine j_aload_n 0 rfl dJ15_copyOfRange_10 ?_
  refine j_iload_n 1 rfl dJ15_copyOfRange_11 ?_
  refine j_iload_n 2 rfl dJ15_copyOfRange_12 ?_
  obtain ⟨kY1, sY2, kY1h, sY2h, h⟩ := h
  refine j_callS (As := [.ref a0, .int l1, .int l2]) (st := []) (kc' := kc - kY1) (ks' := ks - sY2) (tJ15_copyOfRangeByte  a0 z0 l1 l2 X _ h) myJ15_copyOfRangeByte q985 q986 rfl (Nat.le_of_ble_eq_true rfl) rfl (by decide) (by omega) (by omega) dJ15_copyOfRange_13 (fun v9 u9 hq => ?_) (fun k9 u9 hq => by rcases hq with ⟨_, _, _, _, _, _, e9, _⟩ | ⟨n9, K9, A9, L9, G9, e9, e8, hX⟩; exact nomatch e9; rw [hP]; exact Or.inr ⟨n9, K9, A9, L9, G9, e9, e8, hX⟩)
  rcases hq with hq | ⟨n9, K9, A9, L9, G9, e9, e8, hX⟩
  rotate_left
  · exact nomatch e9
  obtain ⟨r3, n4, K5, A6, Lg7, G8, e9, rfl, h⟩ := hq
  obtain rfl := Sum.inl.inj e9
  show J Γ RJ15 cJ15_copyOfRange 3 (some (.array .byte)) "copyOfRange" [] 3 (kc - kY1) (ks - sY2) 16 [(0, .ref a0), (1, .int l1), (2, .int l2)] [.ref r3] (n4, K5, A6, Lg7, G8) P
  refine j_aret rfl (by first | exact Or.inl ⟨_, rfl⟩ | exact Or.inr ⟨_, rfl⟩) (Or.inr ⟨_, rfl⟩) ?_ dJ15_copyOfRange_16
  rw [hP]
  exact Or.inl ⟨r3, n4, K5, A6, Lg7, G8, rfl, rfl, h⟩
def fJ15_copyOfRange (a0 : Nat) (z0 : Nat) (n : Nat) (K : Nat → pKd) (A : pA) (Lg : pL) (G : pG) (kc : Nat) (ks : Nat) (p1 : Int32) (p2 : Int32) (X : Nat → (Nat → pKd) → pA → pL → pG → Prop) (Q : Nat → Nat → (Nat → pKd) → pA → pL → pG → Prop) : Prop :=
    (if p1 = 0 then (a0 < n) ∧ ((K a0 = .inr (1, z0)) ∧ ((if p2 = (Int32.ofNat z0) then False else fJ15_copyOfRange_J10 a0 z0  X Q p1 p2 n K A Lg G kc ks))) else fJ15_copyOfRange_J10 a0 z0  X Q p1 p2 n K A Lg G kc ks)
theorem tJ15_copyOfRange {Γ : jG} {n : Nat} {K : Nat → pKd} {G : pG} {A : pA} {Lg : pL} {kc ks : Nat} (a0 : Nat) (z0 : Nat) (p1 : Int32) (p2 : Int32) (X : Nat → (Nat → pKd) → pA → pL → pG → Prop) (Q : Nat → Nat → (Nat → pKd) → pA → pL → pG → Prop) (h : fJ15_copyOfRange a0 z0 n K A Lg G kc ks p1 p2 X Q) : jMet Γ yJ15_copyOfRange cJ15_copyOfRange 3 (some (.array .byte)) [] 3 kc ks [.ref a0, .int p1, .int p2] (n, K, A, Lg, G) (fun o u => (∃ (r : Nat) (n' : Nat) (K' : Nat → pKd) (A' : pA) (Lg' : pL) (G' : pG), o = .inl (some (.ref r)) ∧ u = (n', K', A', Lg', G') ∧ Q r n' K' A' Lg' G') ∨ (∃ (n' : Nat) (K' : Nat → pKd) (A' : pA) (Lg' : pL) (G' : pG), o = .inr 1 ∧ u = (n', K', A', Lg', G') ∧ X n' K' A' Lg' G')) := by
  unfold fJ15_copyOfRange at h
  obtain ⟨P, hP⟩ : ∃ P : jO → pS → Prop, P = (fun o u => (∃ (r : Nat) (n' : Nat) (K' : Nat → pKd) (A' : pA) (Lg' : pL) (G' : pG), o = .inl (some (.ref r)) ∧ u = (n', K', A', Lg', G') ∧ Q r n' K' A' Lg' G') ∨ (∃ (n' : Nat) (K' : Nat → pKd) (A' : pA) (Lg' : pL) (G' : pG), o = .inr 1 ∧ u = (n', K', A', Lg', G') ∧ X n' K' A' Lg' G')) := ⟨_, rfl⟩
  rw [← hP]
  refine jMet_of rfl rfl rfl (Nat.le_of_ble_eq_true rfl) ?_
  show J Γ RJ15 cJ15_copyOfRange 3 (some (.array .byte)) "copyOfRange" [] 3 kc ks 0 [(0, .ref a0), (1, .int p1), (2, .int p2)] [] (n, K, A, Lg, G) P
  refine j_iload_n 1 rfl dJ15_copyOfRange_0 ?_
  refine j_if_ne (tgt := 10) dJ15_copyOfRange_1 (by decide) (fun c => ?_) (fun c => ?_)
  · rw [if_neg c] at h
    exact fJ15_copyOfRange_J10_ok  a0 z0 X Q P hP   p1 p2 n K A Lg G kc ks h
  · rw [if_pos c] at h
    refine j_iload_n 2 rfl dJ15_copyOfRange_4 ?_
    refine j_aload_n 0 rfl dJ15_copyOfRange_5 ?_
    obtain ⟨la0, h⟩ := h
    obtain ⟨ha0, h⟩ := h
    refine j_alen (t := 1) rfl la0 ha0 dJ15_copyOfRange_6 ?_
    refine j_icmp_eq (tgt := 17) dJ15_copyOfRange_7 (by decide) (fun c => ?_) (fun c => ?_)
    · rw [if_pos c] at h
      exact h.elim
    · rw [if_neg c] at h
      exact fJ15_copyOfRange_J10_ok  a0 z0 X Q P hP   p1 p2 n K A Lg G kc ks h
theorem myJ8_init_2 : jY yJ8_init_2 cJ8_init_2 5 none  2 := ⟨q966, q140, by decide +kernel, by decide +kernel, by decide⟩
def fJ8_init_2_J79 (a0 : Nat) (a1 : Nat)  (X : Nat → (Nat → pKd) → pA → pL → pG → Prop) (Q : Nat → (Nat → pKd) → pA → pL → pG → Prop) (l3 : Nat) (l4 : Int32) (n : Nat) (K : Nat → pKd) (A : pA) (Lg : pL) (G : pG) (kc : Nat) (ks : Nat) : Prop :=
    (a0 < n) ∧ ((K a0 = .inl 18) ∧ (∀ A1 : pA, A1 = pup A a0 1 1 → ∃ z3 : Nat, K l3 = .inr (1, z3) ∧ (∃ kY5 sY6 : Nat, kY5 ≤ kc ∧ sY6 ≤ ks ∧ (fJ15_copyOfRange l3 z3 n K A1 Lg G kY5 sY6 0 (l4 <<< ((1 : Int32) &&& 31)) X (fun r7 n8 K9 A10 Lg11 G12 => (a0 < n8) ∧ ((K9 a0 = .inl 18) ∧ (∀ G13 : pG, G13 = pup G12 a0 0 (.ref r7) → Q n8 K9 A10 Lg11 G13)))))))
theorem fJ8_init_2_J79_ok {Γ : jG} (a0 : Nat) (a1 : Nat) (X : Nat → (Nat → pKd) → pA → pL → pG → Prop) (Q : Nat → (Nat → pKd) → pA → pL → pG → Prop) (P : jO → pS → Prop) (hP : P = (fun o u => (∃ (n' : Nat) (K' : Nat → pKd) (A' : pA) (Lg' : pL) (G' : pG), o = .inl none ∧ u = (n', K', A', Lg', G') ∧ Q n' K' A' Lg' G') ∨ (∃ (n' : Nat) (K' : Nat → pKd) (A' : pA) (Lg' : pL) (G' : pG), o = .inr 1 ∧ u = (n', K', A', Lg', G') ∧ X n' K' A' Lg' G')))   (l3 : Nat) (l4 : Int32) (n : Nat) (K : Nat → pKd) (A : pA) (Lg : pL) (G : pG) (kc : Nat) (ks : Nat) (h : fJ8_init_2_J79 a0 a1  X Q l3 l4 n K A Lg G kc ks) : J Γ RJ8 cJ8_init_2 5 none "<init>" [] 4 kc ks 79 [(0, .ref a0), (3, .ref l3), (4, .int l4)] [] (n, K, A, Lg, G) P := by
  unfold fJ8_init_2_J79 at h
  refine j_aload_n 0 rfl dJ8_init_2_79 ?_
  refine j_iconst (v := 1) dJ8_init_2_80 (by decide) ?_
  obtain ⟨la0, h⟩ := h
  obtain ⟨ha0, h⟩ := h
  refine j_putfiE (fp_i_J8_15_18 _ rfl) rfl (by decide) (by decide) la0 ha0 dJ8_init_2_81 (fun A1 eA1 => ?_)
  replace h := h A1 eA1
  refine j_aload_n 0 rfl dJ8_init_2_84 ?_
  refine j_aload_n 1 rfl dJ8_init_2_85 ?_
  refine j_iconst (v := 0) dJ8_init_2_86 (by decide) ?_
  refine j_iload 2 rfl dJ8_init_2_87 ?_
  refine j_iconst (v := 1) dJ8_init_2_89 (by decide) ?_
  refine j_ishl dJ8_init_2_90 ?_
  obtain ⟨z3, b4, h⟩ := h
  obtain ⟨kY5, sY6, kY5h, sY6h, h⟩ := h
  refine j_callS (As := [.ref l3, .int 0, .int (l4 <<< ((1 : Int32) &&& 31))]) (st := [.ref a0]) (kc' := kc - kY5) (ks' := ks - sY6) (tJ15_copyOfRange  l3 z3 0 (l4 <<< ((1 : Int32) &&& 31)) X _ h) myJ15_copyOfRange q982 q983 rfl (Nat.le_of_ble_eq_true rfl) rfl (by decide) (by omega) (by omega) dJ8_init_2_91 (fun v9 u9 hq => ?_) (fun k9 u9 hq => by rcases hq with ⟨_, _, _, _, _, _, e9, _⟩ | ⟨n9, K9, A9, L9, G9, e9, e8, hX⟩; exact nomatch e9; rw [hP]; exact Or.inr ⟨n9, K9, A9, L9, G9, e9, e8, hX⟩)
  rcases hq with hq | ⟨n9, K9, A9, L9, G9, e9, e8, hX⟩
  rotate_left
  · exact nomatch e9
  obtain ⟨r7, n8, K9, A10, Lg11, G12, e9, rfl, h⟩ := hq
  obtain rfl := Sum.inl.inj e9
  show J Γ RJ8 cJ8_init_2 5 none "<init>" [] 4 (kc - kY5) (ks - sY6) 94 [(0, .ref a0), (3, .ref l3), (4, .int l4)] [.ref r7, .ref a0] (n8, K9, A10, Lg11, G12) P
  obtain ⟨la0, h⟩ := h
  obtain ⟨ha0, h⟩ := h
  refine j_putfrE (fp_i_J8_9_18 _ rfl) rfl (Or.inr ⟨_, rfl⟩) (Or.inr ⟨_, rfl⟩) la0 ha0 dJ8_init_2_94 (fun G13 eG13 => ?_)
  replace h := h G13 eG13
  refine j_vret rfl ?_ dJ8_init_2_97
  rw [hP]
  exact Or.inl ⟨n8, K9, A10, Lg11, G13, rfl, rfl, h⟩
def fJ8_init_2 (a0 : Nat) (a1 : Nat) (n : Nat) (K : Nat → pKd) (A : pA) (Lg : pL) (G : pG) (kc : Nat) (ks : Nat) (X : Nat → (Nat → pKd) → pA → pL → pG → Prop) (Q : Nat → (Nat → pKd) → pA → pL → pG → Prop) : Prop :=
    (n ≤ 1000000) ∧ ((a0 < n) ∧ (∃ kY14 sY15 : Nat, kY14 ≤ kc ∧ sY15 ≤ ks ∧ ((a1 < n) ∧ ((K a1 = .inl 19) ∧ (fJ11_getValue a1 n K A Lg G kY14 sY15 (fun r16 n17 K18 A19 Lg20 G21 => ∃ kY22 sY23 : Nat, kY22 ≤ kc - kY14 ∧ sY23 ≤ ks - sY15 ∧ ((n17 ≤ 1000000) ∧ ((a1 < n17) ∧ ((K18 a1 = .inl 19) ∧ (fJ12_length a1 n17 K18 A19 Lg20 G21 kY22 sY23 (fun r24 n25 K26 A27 Lg28 G29 => ∃ kY30 sY31 : Nat, kY30 ≤ kc - kY14 - kY22 ∧ sY31 ≤ ks - sY15 - sY23 ∧ ((n25 ≤ 1000000) ∧ ((a1 < n25) ∧ ((K26 a1 = .inl 19) ∧ (fJ11_isLatin1 a1 n25 K26 A27 Lg28 G29 kY30 sY31 (fun r32 n33 K34 A35 Lg36 G37 => (if r32 = 0 then ((a1 < n33) ∧ ((K34 a1 = .inl 19) ∧ ((if (A35 a1 2) = 0 then fJ8_init_2_J79 a0 a1  X Q r16 r24 n33 K34 A35 Lg36 G37 (kc - kY14 - kY22 - kY30) (ks - sY15 - sY23 - sY31) else False)))) else (a0 < n33) ∧ ((K34 a0 = .inl 18) ∧ (∀ A38 : pA, A38 = pup A35 a0 1 0 → ∃ z40 : Nat, K34 r16 = .inr (1, z40) ∧ (∃ kY42 sY43 : Nat, kY42 ≤ kc - kY14 - kY22 - kY30 ∧ sY43 ≤ ks - sY15 - sY23 - sY31 ∧ (fJ15_copyOfRange r16 z40 n33 K34 A38 Lg36 G37 kY42 sY43 0 r24 X (fun r44 n45 K46 A47 Lg48 G49 => (a0 < n45) ∧ ((K46 a0 = .inl 18) ∧ (∀ G50 : pG, G50 = pup G49 a0 0 (.ref r44) → Q n45 K46 A47 Lg48 G50))))))))))))))))))))))))
theorem tJ8_init_2 {Γ : jG} {n : Nat} {K : Nat → pKd} {G : pG} {A : pA} {Lg : pL} {kc ks : Nat} (a0 : Nat) (a1 : Nat)  (X : Nat → (Nat → pKd) → pA → pL → pG → Prop) (Q : Nat → (Nat → pKd) → pA → pL → pG → Prop) (h : fJ8_init_2 a0 a1 n K A Lg G kc ks X Q) : jMet Γ yJ8_init_2 cJ8_init_2 5 none [] 4 kc ks [.ref a0, .ref a1, .null] (n, K, A, Lg, G) (fun o u => (∃ (n' : Nat) (K' : Nat → pKd) (A' : pA) (Lg' : pL) (G' : pG), o = .inl none ∧ u = (n', K', A', Lg', G') ∧ Q n' K' A' Lg' G') ∨ (∃ (n' : Nat) (K' : Nat → pKd) (A' : pA) (Lg' : pL) (G' : pG), o = .inr 1 ∧ u = (n', K', A', Lg', G') ∧ X n' K' A' Lg' G')) := by
  unfold fJ8_init_2 at h
  obtain ⟨P, hP⟩ : ∃ P : jO → pS → Prop, P = (fun o u => (∃ (n' : Nat) (K' : Nat → pKd) (A' : pA) (Lg' : pL) (G' : pG), o = .inl none ∧ u = (n', K', A', Lg', G') ∧ Q n' K' A' Lg' G') ∨ (∃ (n' : Nat) (K' : Nat → pKd) (A' : pA) (Lg' : pL) (G' : pG), o = .inr 1 ∧ u = (n', K', A', Lg', G') ∧ X n' K' A' Lg' G')) := ⟨_, rfl⟩
  rw [← hP]
  refine jMet_of rfl rfl rfl (Nat.le_of_ble_eq_true rfl) ?_
  show J Γ RJ8 cJ8_init_2 5 none "<init>" [] 4 kc ks 0 [(0, .ref a0), (1, .ref a1), (2, .null)] [] (n, K, A, Lg, G) P
  refine j_aload_n 0 rfl dJ8_init_2_0 ?_
  obtain ⟨hn6, h⟩ := h
  obtain ⟨la0, h⟩ := h
  refine j_objInit (b := a0) (st := []) q967 q165 q166 (j_l2 hn6 la0) (Nat.le_of_ble_eq_true rfl) (by decide) dJ8_init_2_1 ?_
  refine j_aload_n 1 rfl dJ8_init_2_4 ?_
  obtain ⟨kY14, sY15, kY14h, sY15h, h⟩ := h
  obtain ⟨la1, h⟩ := h
  obtain ⟨ha1, h⟩ := h
  refine j_callVU (b := a1) (As := []) (st := []) (C := "java/lang/StringBuilder") (owner := "java/lang/AbstractStringBuilder") (kc' := kc - kY14) (ks' := ks - sY15) (tJ11_getValue  a1 _ h) myJ11_getValue q968 q970 (Or.inr ⟨q969, _, _, _, q972⟩) (by decide) q971 q969 rfl (j_l2 hn6 la1) (fun s9 H9 hK9 hR9 h69 => jIs_in hK9 hR9 h69 la1 ha1 rfl) rfl (Nat.le_of_ble_eq_true rfl) rfl (by decide) (by omega) (by omega) dJ8_init_2_5 (fun v9 u9 hq => ?_) (fun k9 u9 hq => by obtain ⟨_, _, _, _, _, _, e9, _⟩ := hq; cases e9)
  obtain ⟨r16, n17, K18, A19, Lg20, G21, e9, rfl, h⟩ := hq
  obtain rfl := Sum.inl.inj e9
  show J Γ RJ8 cJ8_init_2 5 none "<init>" [] 4 (kc - kY14) (ks - sY15) 8 [(0, .ref a0), (1, .ref a1), (2, .null)] [.ref r16] (n17, K18, A19, Lg20, G21) P
  refine j_astore_n (by decide) rfl dJ8_init_2_8 ?_
  refine j_aload_n 2 rfl dJ8_init_2_9 ?_
  obtain ⟨kY22, sY23, kY22h, sY23h, h⟩ := h
  obtain ⟨hn6, h⟩ := h
  obtain ⟨la1, h⟩ := h
  obtain ⟨ha1, h⟩ := h
  refine j_callVU (b := a1) (As := []) (st := []) (C := "java/lang/StringBuilder") (owner := "java/lang/AbstractStringBuilder") (kc' := kc - kY14 - kY22) (ks' := ks - sY15 - sY23) (tJ12_length  a1 _ h) myJ12_length q973 q975 (Or.inr ⟨q974, _, _, _, q980⟩) (by decide) q976 q977 rfl (j_l2 hn6 la1) (fun s9 H9 hK9 hR9 h69 => jIs_in hK9 hR9 h69 la1 ha1 rfl) rfl (Nat.le_of_ble_eq_true rfl) rfl (by decide) (by omega) (by omega) dJ8_init_2_10 (fun v9 u9 hq => ?_) (fun k9 u9 hq => by obtain ⟨_, _, _, _, _, _, e9, _⟩ := hq; cases e9)
  obtain ⟨r24, n25, K26, A27, Lg28, G29, e9, rfl, h⟩ := hq
  obtain rfl := Sum.inl.inj e9
  show J Γ RJ8 cJ8_init_2 5 none "<init>" [] 4 (kc - kY14 - kY22) (ks - sY15 - sY23) 13 [(3, .ref r16), (0, .ref a0), (1, .ref a1), (2, .null)] [.int r24] (n25, K26, A27, Lg28, G29) P
  refine j_istore (by decide) rfl dJ8_init_2_13 ?_
  refine j_aload_n 3 rfl dJ8_init_2_15 ?_
  obtain ⟨kY30, sY31, kY30h, sY31h, h⟩ := h
  obtain ⟨hn6, h⟩ := h
  obtain ⟨la1, h⟩ := h
  obtain ⟨ha1, h⟩ := h
  refine j_callVU (b := a1) (As := []) (st := []) (C := "java/lang/StringBuilder") (owner := "java/lang/AbstractStringBuilder") (kc' := kc - kY14 - kY22 - kY30) (ks' := ks - sY15 - sY23 - sY31) (tJ11_isLatin1  a1 _ h) myJ11_isLatin1 q981 q924 (Or.inr ⟨q923, _, _, _, q926⟩) (by decide) q925 q923 rfl (j_l2 hn6 la1) (fun s9 H9 hK9 hR9 h69 => jIs_in hK9 hR9 h69 la1 ha1 rfl) rfl (Nat.le_of_ble_eq_true rfl) rfl (by decide) (by omega) (by omega) dJ8_init_2_16 (fun v9 u9 hq => ?_) (fun k9 u9 hq => by obtain ⟨_, _, _, _, _, _, e9, _⟩ := hq; cases e9)
  obtain ⟨r32, n33, K34, A35, Lg36, G37, e9, rfl, h⟩ := hq
  obtain rfl := Sum.inl.inj e9
  show J Γ RJ8 cJ8_init_2 5 none "<init>" [] 4 (kc - kY14 - kY22 - kY30) (ks - sY15 - sY23 - sY31) 19 [(4, .int r24), (3, .ref r16), (0, .ref a0), (1, .ref a1), (2, .null)] [.int r32] (n33, K34, A35, Lg36, G37) P
  refine j_if_eq (tgt := 41) dJ8_init_2_19 (by decide) (fun c => ?_) (fun c => ?_)
  · rw [if_pos c] at h
    refine j_gets (i := 0) rfl q655 dJ8_init_2_41 ?_
    refine j_if_eq (x := (1 : Int32)) (tgt := 79) dJ8_init_2_44 (by decide) (fun c => ?_) (fun c => ?_)
    · exact absurd c (by decide)
    · skip
      refine j_aload_n 3 rfl dJ8_init_2_47 ?_
      obtain ⟨la1, h⟩ := h
      obtain ⟨ha1, h⟩ := h
      refine j_getfi fl_J8_1048_19 rfl la1 ha1 dJ8_init_2_48 ?_
      refine j_if_eq (tgt := 79) dJ8_init_2_51 (by decide) (fun c => ?_) (fun c => ?_)
      · rw [if_pos c] at h
        refine j_ls [2, 1, 0] rfl ?_
        exact fJ8_init_2_J79_ok  a0 a1 X Q P hP   r16 r24 n33 K34 A35 Lg36 G37 (kc - kY14 - kY22 - kY30) (ks - sY15 - sY23 - sY31) h
      · rw [if_neg c] at h
        exact h.elim
  · rw [if_neg c] at h
    refine j_aload_n 2 rfl dJ8_init_2_22 ?_
    refine j_iconst (v := 0) dJ8_init_2_23 (by decide) ?_
    obtain ⟨la0, h⟩ := h
    obtain ⟨ha0, h⟩ := h
    refine j_putfiE (fp_i_J8_15_18 _ rfl) rfl (by decide) (by decide) la0 ha0 dJ8_init_2_24 (fun A38 eA38 => ?_)
    replace h := h A38 eA38
    refine j_aload_n 2 rfl dJ8_init_2_27 ?_
    refine j_aload_n 1 rfl dJ8_init_2_28 ?_
    refine j_iconst (v := 0) dJ8_init_2_29 (by decide) ?_
    refine j_iload 0 rfl dJ8_init_2_30 ?_
    obtain ⟨z40, b41, h⟩ := h
    obtain ⟨kY42, sY43, kY42h, sY43h, h⟩ := h
    refine j_callS (As := [.ref r16, .int 0, .int r24]) (st := [.ref a0]) (kc' := kc - kY14 - kY22 - kY30 - kY42) (ks' := ks - sY15 - sY23 - sY31 - sY43) (tJ15_copyOfRange  r16 z40 0 r24 X _ h) myJ15_copyOfRange q982 q983 rfl (Nat.le_of_ble_eq_true rfl) rfl (by decide) (by omega) (by omega) dJ8_init_2_32 (fun v9 u9 hq => ?_) (fun k9 u9 hq => by rcases hq with ⟨_, _, _, _, _, _, e9, _⟩ | ⟨n9, K9, A9, L9, G9, e9, e8, hX⟩; exact nomatch e9; rw [hP]; exact Or.inr ⟨n9, K9, A9, L9, G9, e9, e8, hX⟩)
    rcases hq with hq | ⟨n9, K9, A9, L9, G9, e9, e8, hX⟩
    rotate_left
    · exact nomatch e9
    obtain ⟨r44, n45, K46, A47, Lg48, G49, e9, rfl, h⟩ := hq
    obtain rfl := Sum.inl.inj e9
    show J Γ RJ8 cJ8_init_2 5 none "<init>" [] 4 (kc - kY14 - kY22 - kY30 - kY42) (ks - sY15 - sY23 - sY31 - sY43) 35 [(4, .int r24), (3, .ref r16), (0, .ref a0), (1, .ref a1), (2, .null)] [.ref r44, .ref a0] (n45, K46, A47, Lg48, G49) P
    obtain ⟨la0, h⟩ := h
    obtain ⟨ha0, h⟩ := h
    refine j_putfrE (fp_i_J8_9_18 _ rfl) rfl (Or.inr ⟨_, rfl⟩) (Or.inr ⟨_, rfl⟩) la0 ha0 dJ8_init_2_35 (fun G50 eG50 => ?_)
    replace h := h G50 eG50
    refine j_goto (tgt := 97) dJ8_init_2_38 (by decide) ?_
    refine j_vret rfl ?_ dJ8_init_2_97
    rw [hP]
    exact Or.inl ⟨n45, K46, A47, Lg48, G50, rfl, rfl, h⟩
theorem myJ8_init : jY yJ8_init cJ8_init 2 none  1 := ⟨q963, q140, by decide +kernel, by decide +kernel, by decide⟩
def fJ8_init (a0 : Nat) (a1 : Nat) (n : Nat) (K : Nat → pKd) (A : pA) (Lg : pL) (G : pG) (kc : Nat) (ks : Nat) (X : Nat → (Nat → pKd) → pA → pL → pG → Prop) (Q : Nat → (Nat → pKd) → pA → pL → pG → Prop) : Prop :=
    ∃ kY1 sY2 : Nat, kY1 ≤ kc ∧ sY2 ≤ ks ∧ ((n ≤ 1000000) ∧ ((a0 < n) ∧ ((K a0 = .inl 18) ∧ (fJ8_init_2 a0 a1 n K A Lg G kY1 sY2 X (fun n3 K4 A5 Lg6 G7 => Q n3 K4 A5 Lg6 G7)))))
theorem tJ8_init {Γ : jG} {n : Nat} {K : Nat → pKd} {G : pG} {A : pA} {Lg : pL} {kc ks : Nat} (a0 : Nat) (a1 : Nat)  (X : Nat → (Nat → pKd) → pA → pL → pG → Prop) (Q : Nat → (Nat → pKd) → pA → pL → pG → Prop) (h : fJ8_init a0 a1 n K A Lg G kc ks X Q) : jMet Γ yJ8_init cJ8_init 2 none [] 5 kc ks [.ref a0, .ref a1] (n, K, A, Lg, G) (fun o u => (∃ (n' : Nat) (K' : Nat → pKd) (A' : pA) (Lg' : pL) (G' : pG), o = .inl none ∧ u = (n', K', A', Lg', G') ∧ Q n' K' A' Lg' G') ∨ (∃ (n' : Nat) (K' : Nat → pKd) (A' : pA) (Lg' : pL) (G' : pG), o = .inr 1 ∧ u = (n', K', A', Lg', G') ∧ X n' K' A' Lg' G')) := by
  unfold fJ8_init at h
  obtain ⟨P, hP⟩ : ∃ P : jO → pS → Prop, P = (fun o u => (∃ (n' : Nat) (K' : Nat → pKd) (A' : pA) (Lg' : pL) (G' : pG), o = .inl none ∧ u = (n', K', A', Lg', G') ∧ Q n' K' A' Lg' G') ∨ (∃ (n' : Nat) (K' : Nat → pKd) (A' : pA) (Lg' : pL) (G' : pG), o = .inr 1 ∧ u = (n', K', A', Lg', G') ∧ X n' K' A' Lg' G')) := ⟨_, rfl⟩
  rw [← hP]
  refine jMet_of rfl rfl rfl (Nat.le_of_ble_eq_true rfl) ?_
  show J Γ RJ8 cJ8_init 2 none "<init>" [] 5 kc ks 0 [(0, .ref a0), (1, .ref a1)] [] (n, K, A, Lg, G) P
  refine j_aload_n 0 rfl dJ8_init_0 ?_
  refine j_aload_n 1 rfl dJ8_init_1 ?_
  refine j_null dJ8_init_2 ?_
  obtain ⟨kY1, sY2, kY1h, sY2h, h⟩ := h
  obtain ⟨hn6, h⟩ := h
  obtain ⟨la0, h⟩ := h
  obtain ⟨ha0, h⟩ := h
  refine j_callI (b := a0) (As := [.ref a1, .null]) (st := []) (kc' := kc - kY1) (ks' := ks - sY2) (tJ8_init_2  a0 a1 X _ h) myJ8_init_2 rfl q964 q965 (j_l2 hn6 la0) rfl (Nat.le_of_ble_eq_true rfl) rfl (by decide) (by omega) (by omega) dJ8_init_3 (fun v9 u9 hq => ?_) (fun k9 u9 hq => by rcases hq with ⟨_, _, _, _, _, e9, _⟩ | ⟨n9, K9, A9, L9, G9, e9, e8, hX⟩; exact nomatch e9; rw [hP]; exact Or.inr ⟨n9, K9, A9, L9, G9, e9, e8, hX⟩)
  rcases hq with hq | ⟨n9, K9, A9, L9, G9, e9, e8, hX⟩
  rotate_left
  · exact nomatch e9
  obtain ⟨n3, K4, A5, Lg6, G7, e9, rfl, h⟩ := hq
  obtain rfl := Sum.inl.inj e9
  show J Γ RJ8 cJ8_init 2 none "<init>" [] 5 (kc - kY1) (ks - sY2) 6 [(0, .ref a0), (1, .ref a1)] [] (n3, K4, A5, Lg6, G7) P
  refine j_vret rfl ?_ dJ8_init_6
  rw [hP]
  exact Or.inl ⟨n3, K4, A5, Lg6, G7, rfl, rfl, h⟩
theorem myJ12_toString : jY yJ12_toString cJ12_toString 1 (some (.object "java/lang/String"))  0 := ⟨q958, q151, by decide +kernel, by decide +kernel, by decide⟩
def fJ12_toString (a0 : Nat) (n : Nat) (K : Nat → pKd) (A : pA) (Lg : pL) (G : pG) (kc : Nat) (ks : Nat) (X : Nat → (Nat → pKd) → pA → pL → pG → Prop) (Q : Nat → Nat → (Nat → pKd) → pA → pL → pG → Prop) : Prop :=
    (1 ≤ kc) ∧ ((4 ≤ ks) ∧ (∀ (K1 : Nat → pKd) (A2 : pA) (L3 : pL) (G4 : pG), K1 = pkup K n (.inl 18) → A2 = prow A n (fun _ => 0) → L3 = prow Lg n (fun _ => 0) → G4 = prow G n (fun _ => .null) → ∃ kY9 sY10 : Nat, kY9 ≤ kc - 1 ∧ sY10 ≤ ks - 4 ∧ (((n + 1) ≤ 1000000) ∧ (fJ8_init n a0 (n + 1) K1 A2 L3 G4 kY9 sY10 X (fun n11 K12 A13 Lg14 G15 => Q n n11 K12 A13 Lg14 G15)))))
theorem tJ12_toString {Γ : jG} {n : Nat} {K : Nat → pKd} {G : pG} {A : pA} {Lg : pL} {kc ks : Nat} (a0 : Nat)  (X : Nat → (Nat → pKd) → pA → pL → pG → Prop) (Q : Nat → Nat → (Nat → pKd) → pA → pL → pG → Prop) (h : fJ12_toString a0 n K A Lg G kc ks X Q) : jMet Γ yJ12_toString cJ12_toString 1 (some (.object "java/lang/String")) [] 6 kc ks [.ref a0] (n, K, A, Lg, G) (fun o u => (∃ (r : Nat) (n' : Nat) (K' : Nat → pKd) (A' : pA) (Lg' : pL) (G' : pG), o = .inl (some (.ref r)) ∧ u = (n', K', A', Lg', G') ∧ Q r n' K' A' Lg' G') ∨ (∃ (n' : Nat) (K' : Nat → pKd) (A' : pA) (Lg' : pL) (G' : pG), o = .inr 1 ∧ u = (n', K', A', Lg', G') ∧ X n' K' A' Lg' G')) := by
  unfold fJ12_toString at h
  obtain ⟨P, hP⟩ : ∃ P : jO → pS → Prop, P = (fun o u => (∃ (r : Nat) (n' : Nat) (K' : Nat → pKd) (A' : pA) (Lg' : pL) (G' : pG), o = .inl (some (.ref r)) ∧ u = (n', K', A', Lg', G') ∧ Q r n' K' A' Lg' G') ∨ (∃ (n' : Nat) (K' : Nat → pKd) (A' : pA) (Lg' : pL) (G' : pG), o = .inr 1 ∧ u = (n', K', A', Lg', G') ∧ X n' K' A' Lg' G')) := ⟨_, rfl⟩
  rw [← hP]
  refine jMet_of rfl rfl rfl (Nat.le_of_ble_eq_true rfl) ?_
  show J Γ RJ12 cJ12_toString 1 (some (.object "java/lang/String")) "toString" [] 6 kc ks 0 [(0, .ref a0)] [] (n, K, A, Lg, G) P
  obtain ⟨b5, h⟩ := h
  obtain ⟨b6, h⟩ := h
  refine j_newE cn_J12_18 b5 b6 dJ12_toString_0 (fun K1 A2 L3 G4 eK1 eA2 eL3 eG4 => ?_)
  replace h := h K1 A2 L3 G4 eK1 eA2 eL3 eG4
  have b7 : n < (n + 1) := (by omega)
  have b8 : K1 n = .inl 18 := (by rw [eK1]; exact pkup_self)
  refine j_dup rfl dJ12_toString_3 ?_
  refine j_aload_n 0 rfl dJ12_toString_4 ?_
  obtain ⟨kY9, sY10, kY9h, sY10h, h⟩ := h
  obtain ⟨hn6, h⟩ := h
  refine j_callI (b := n) (As := [.ref a0]) (st := [.ref n]) (kc' := kc - 1 - kY9) (ks' := ks - 4 - sY10) (tJ8_init  n a0 X _ h) myJ8_init rfl q961 q962 (j_l2 hn6 b7) rfl (Nat.le_of_ble_eq_true rfl) rfl (by decide) (by omega) (by omega) dJ12_toString_5 (fun v9 u9 hq => ?_) (fun k9 u9 hq => by rcases hq with ⟨_, _, _, _, _, e9, _⟩ | ⟨n9, K9, A9, L9, G9, e9, e8, hX⟩; exact nomatch e9; rw [hP]; exact Or.inr ⟨n9, K9, A9, L9, G9, e9, e8, hX⟩)
  rcases hq with hq | ⟨n9, K9, A9, L9, G9, e9, e8, hX⟩
  rotate_left
  · exact nomatch e9
  obtain ⟨n11, K12, A13, Lg14, G15, e9, rfl, h⟩ := hq
  obtain rfl := Sum.inl.inj e9
  show J Γ RJ12 cJ12_toString 1 (some (.object "java/lang/String")) "toString" [] 6 (kc - 1 - kY9) (ks - 4 - sY10) 8 [(0, .ref a0)] [.ref n] (n11, K12, A13, Lg14, G15) P
  refine j_aret rfl (by first | exact Or.inl ⟨_, rfl⟩ | exact Or.inr ⟨_, rfl⟩) (Or.inr ⟨_, rfl⟩) ?_ dJ12_toString_8
  rw [hP]
  exact Or.inl ⟨n, n11, K12, A13, Lg14, G15, rfl, rfl, h⟩
theorem myJ9_equals : jY yJ9_equals cJ9_equals 3 (some .boolean)  2 := ⟨q1029, q141, by decide +kernel, by decide +kernel, by decide⟩
def fJ9_equals_L9 (a0 : Nat) (z0 : Nat) (a1 : Nat) (z1 : Nat)  (Q : Int32 → Nat → (Nat → pKd) → pA → pL → pG → Prop) : Nat → Int32 → Nat → (Nat → pKd) → pA → pL → pG → Nat → Nat → Prop
  | 0, _, _, _, _, _, _, _, _ => False
  | n9 + 1, l2, n, K, A, Lg, G, kc, ks =>
    (a0 < n) ∧ ((K a0 = .inr (1, z0)) ∧ ((if (Int32.ofNat z0) ≤ l2 then Q 1 n K A Lg G else (vp_in l2 z0) ∧ ((vp_in l2 z1) ∧ ((a1 < n) ∧ ((K a1 = .inr (1, z1)) ∧ ((if (A a0 (l2).toNatClampNeg) = (A a1 (l2).toNatClampNeg) then fJ9_equals_L9 a0 z0 a1 z1  Q n9 (l2 + 1) n K A Lg G kc ks else Q 0 n K A Lg G))))))))
theorem fJ9_equals_L9_ok {Γ : jG} (a0 : Nat) (z0 : Nat) (a1 : Nat) (z1 : Nat) (Q : Int32 → Nat → (Nat → pKd) → pA → pL → pG → Prop) (P : jO → pS → Prop) (hP : P = (fun o u => ∃ (r : Int32) (n' : Nat) (K' : Nat → pKd) (A' : pA) (Lg' : pL) (G' : pG), o = .inl (some (.int r)) ∧ u = (n', K', A', Lg', G') ∧ Q r n' K' A' Lg' G'))    : ∀ (n9 : Nat) (l2 : Int32) (n : Nat) (K : Nat → pKd) (A : pA) (Lg : pL) (G : pG) (kc : Nat) (ks : Nat), fJ9_equals_L9 a0 z0 a1 z1  Q n9 l2 n K A Lg G kc ks → J Γ RJ9 cJ9_equals 3 (some .boolean) "equals" [] 1 kc ks 9 [(0, .ref a0), (1, .ref a1), (2, .int l2)] [] (n, K, A, Lg, G) P := by
  intro n9
  induction n9 with
  | zero => intro l2 n K A Lg G kc ks h; exact h.elim
  | succ n9 ih =>
    intro l2 n K A Lg G kc ks h
    unfold fJ9_equals_L9 at h
    refine j_iload_n 2 rfl dJ9_equals_9 ?_
    refine j_aload_n 0 rfl dJ9_equals_10 ?_
    obtain ⟨la0, h⟩ := h
    obtain ⟨ha0, h⟩ := h
    refine j_alen (t := 1) rfl la0 ha0 dJ9_equals_11 ?_
    refine j_icmp_ge (tgt := 32) dJ9_equals_12 (by decide) (fun c => ?_) (fun c => ?_)
    · rw [if_pos c] at h
      refine j_iconst (v := 1) dJ9_equals_32 (by decide) ?_
      refine j_zret rfl (by decide) ?_ dJ9_equals_33
      rw [hP]
      exact ⟨1, n, K, A, Lg, G, rfl, rfl, h⟩
    · rw [if_neg c] at h
      refine j_aload_n 0 rfl dJ9_equals_15 ?_
      refine j_iload_n 2 rfl dJ9_equals_16 ?_
      obtain ⟨b1, h⟩ := h
      refine j_baldJ (j := (l2).toNatClampNeg) la0 ha0 b1 rfl dJ9_equals_17 ?_
      refine j_aload_n 1 rfl dJ9_equals_18 ?_
      refine j_iload_n 2 rfl dJ9_equals_19 ?_
      obtain ⟨b2, h⟩ := h
      obtain ⟨la1, h⟩ := h
      obtain ⟨ha1, h⟩ := h
      refine j_baldJ (j := (l2).toNatClampNeg) la1 ha1 b2 rfl dJ9_equals_20 ?_
      refine j_icmp_eq (tgt := 26) dJ9_equals_21 (by decide) (fun c => ?_) (fun c => ?_)
      · rw [if_pos c] at h
        refine j_iinc (v := l2 + 1) 2 rfl rfl (by decide) rfl dJ9_equals_26 ?_
        refine j_goto (tgt := 9) dJ9_equals_29 (by decide) ?_
        refine j_ls [1, 2, 0] rfl ?_
        exact ih (l2 + 1) n K A Lg G kc ks h
      · rw [if_neg c] at h
        refine j_iconst (v := 0) dJ9_equals_24 (by decide) ?_
        refine j_zret rfl (by decide) ?_ dJ9_equals_25
        rw [hP]
        exact ⟨0, n, K, A, Lg, G, rfl, rfl, h⟩
def fJ9_equals (a0 : Nat) (z0 : Nat) (a1 : Nat) (z1 : Nat) (n : Nat) (K : Nat → pKd) (A : pA) (Lg : pL) (G : pG) (kc : Nat) (ks : Nat) (Q : Int32 → Nat → (Nat → pKd) → pA → pL → pG → Prop) : Prop :=
    (a0 < n) ∧ ((K a0 = .inr (1, z0)) ∧ ((a1 < n) ∧ ((K a1 = .inr (1, z1)) ∧ ((if (Int32.ofNat z0) = (Int32.ofNat z1) then ∃ m3, fJ9_equals_L9 a0 z0 a1 z1  Q m3 0 n K A Lg G kc ks else Q 0 n K A Lg G)))))
theorem tJ9_equals {Γ : jG} {n : Nat} {K : Nat → pKd} {G : pG} {A : pA} {Lg : pL} {kc ks : Nat} (a0 : Nat) (z0 : Nat) (a1 : Nat) (z1 : Nat)  (Q : Int32 → Nat → (Nat → pKd) → pA → pL → pG → Prop) (h : fJ9_equals a0 z0 a1 z1 n K A Lg G kc ks Q) : jMet Γ yJ9_equals cJ9_equals 3 (some .boolean) [] 1 kc ks [.ref a0, .ref a1] (n, K, A, Lg, G) (fun o u => ∃ (r : Int32) (n' : Nat) (K' : Nat → pKd) (A' : pA) (Lg' : pL) (G' : pG), o = .inl (some (.int r)) ∧ u = (n', K', A', Lg', G') ∧ Q r n' K' A' Lg' G') := by
  unfold fJ9_equals at h
  obtain ⟨P, hP⟩ : ∃ P : jO → pS → Prop, P = (fun o u => ∃ (r : Int32) (n' : Nat) (K' : Nat → pKd) (A' : pA) (Lg' : pL) (G' : pG), o = .inl (some (.int r)) ∧ u = (n', K', A', Lg', G') ∧ Q r n' K' A' Lg' G') := ⟨_, rfl⟩
  rw [← hP]
  refine jMet_of rfl rfl rfl (Nat.le_of_ble_eq_true rfl) ?_
  show J Γ RJ9 cJ9_equals 3 (some .boolean) "equals" [] 1 kc ks 0 [(0, .ref a0), (1, .ref a1)] [] (n, K, A, Lg, G) P
  refine j_aload_n 0 rfl dJ9_equals_0 ?_
  obtain ⟨la0, h⟩ := h
  obtain ⟨ha0, h⟩ := h
  refine j_alen (t := 1) rfl la0 ha0 dJ9_equals_1 ?_
  refine j_aload_n 1 rfl dJ9_equals_2 ?_
  obtain ⟨la1, h⟩ := h
  obtain ⟨ha1, h⟩ := h
  refine j_alen (t := 1) rfl la1 ha1 dJ9_equals_3 ?_
  refine j_icmp_ne (tgt := 34) dJ9_equals_4 (by decide) (fun c => ?_) (fun c => ?_)
  · rw [if_neg c] at h
    refine j_iconst (v := 0) dJ9_equals_34 (by decide) ?_
    refine j_zret rfl (by decide) ?_ dJ9_equals_35
    rw [hP]
    exact ⟨0, n, K, A, Lg, G, rfl, rfl, h⟩
  · rw [if_pos c] at h
    refine j_iconst (v := 0) dJ9_equals_7 (by decide) ?_
    refine j_istore_n (by decide) rfl dJ9_equals_8 ?_
    refine j_ls [1, 2, 0] rfl ?_
    obtain ⟨m3, h⟩ := h
    exact fJ9_equals_L9_ok  a0 z0 a1 z1 Q P hP   m3 0 n K A Lg G kc ks h
theorem myJ8_equals : jY yJ8_equals cJ8_equals 3 (some .boolean)  1 := ⟨q1025, q140, by decide +kernel, by decide +kernel, by decide⟩
def fJ8_equals_J36 (a0 : Nat) (a1 : Nat)  (Q : Int32 → Nat → (Nat → pKd) → pA → pL → pG → Prop) (n : Nat) (K : Nat → pKd) (A : pA) (Lg : pL) (G : pG) (kc : Nat) (ks : Nat) : Prop :=
    ∃ e1 : Nat, G a0 0 = .ref e1 ∧ ((a0 < n) ∧ ((K a0 = .inl 18) ∧ (∃ e2 : Nat, G a1 0 = .ref e2 ∧ ((a1 < n) ∧ ((K a1 = .inl 18) ∧ (∃ z4 : Nat, K e1 = .inr (1, z4) ∧ (∃ z7 : Nat, K e2 = .inr (1, z7) ∧ (∃ kY9 sY10 : Nat, kY9 ≤ kc ∧ sY10 ≤ ks ∧ (fJ9_equals e1 z4 e2 z7 n K A Lg G kY9 sY10 (fun r11 n12 K13 A14 Lg15 G16 => (if r11 = 0 then Q 0 n12 K13 A14 Lg15 G16 else Q 1 n12 K13 A14 Lg15 G16)))))))))))
theorem fJ8_equals_J36_ok {Γ : jG} (a0 : Nat) (a1 : Nat) (Q : Int32 → Nat → (Nat → pKd) → pA → pL → pG → Prop) (P : jO → pS → Prop) (hP : P = (fun o u => ∃ (r : Int32) (n' : Nat) (K' : Nat → pKd) (A' : pA) (Lg' : pL) (G' : pG), o = .inl (some (.int r)) ∧ u = (n', K', A', Lg', G') ∧ Q r n' K' A' Lg' G'))   (n : Nat) (K : Nat → pKd) (A : pA) (Lg : pL) (G : pG) (kc : Nat) (ks : Nat) (h : fJ8_equals_J36 a0 a1  Q n K A Lg G kc ks) : J Γ RJ8 cJ8_equals 3 (some .boolean) "equals" [] 2 kc ks 36 [(0, .ref a0), (2, .ref a1)] [] (n, K, A, Lg, G) P := by
  unfold fJ8_equals_J36 at h
  refine j_aload_n 0 rfl dJ8_equals_36 ?_
  obtain ⟨e1, e1h, h⟩ := h
  obtain ⟨la0, h⟩ := h
  obtain ⟨ha0, h⟩ := h
  refine j_getfr fl_J8_9_18 rfl la0 ha0 e1h dJ8_equals_37 ?_
  refine j_aload_n 1 rfl dJ8_equals_40 ?_
  obtain ⟨e2, e2h, h⟩ := h
  obtain ⟨la1, h⟩ := h
  obtain ⟨ha1, h⟩ := h
  refine j_getfr fl_J8_9_18 rfl la1 ha1 e2h dJ8_equals_41 ?_
  obtain ⟨z4, b5, h⟩ := h
  obtain ⟨z7, b8, h⟩ := h
  obtain ⟨kY9, sY10, kY9h, sY10h, h⟩ := h
  refine j_callS (As := [.ref e1, .ref e2]) (st := []) (kc' := kc - kY9) (ks' := ks - sY10) (tJ9_equals  e1 z4 e2 z7 _ h) myJ9_equals q1027 q1028 rfl (Nat.le_of_ble_eq_true rfl) rfl (by decide) (by omega) (by omega) dJ8_equals_44 (fun v9 u9 hq => ?_) (fun k9 u9 hq => by obtain ⟨_, _, _, _, _, _, e9, _⟩ := hq; cases e9)
  obtain ⟨r11, n12, K13, A14, Lg15, G16, e9, rfl, h⟩ := hq
  obtain rfl := Sum.inl.inj e9
  show J Γ RJ8 cJ8_equals 3 (some .boolean) "equals" [] 2 (kc - kY9) (ks - sY10) 47 [(0, .ref a0), (2, .ref a1)] [.int r11] (n12, K13, A14, Lg15, G16) P
  refine j_if_eq (tgt := 54) dJ8_equals_47 (by decide) (fun c => ?_) (fun c => ?_)
  · rw [if_pos c] at h
    refine j_iconst (v := 0) dJ8_equals_54 (by decide) ?_
    refine j_zret rfl (by decide) ?_ dJ8_equals_55
    rw [hP]
    exact ⟨0, n12, K13, A14, Lg15, G16, rfl, rfl, h⟩
  · rw [if_neg c] at h
    refine j_iconst (v := 1) dJ8_equals_50 (by decide) ?_
    refine j_goto (tgt := 55) dJ8_equals_51 (by decide) ?_
    refine j_zret rfl (by decide) ?_ dJ8_equals_55
    rw [hP]
    exact ⟨1, n12, K13, A14, Lg15, G16, rfl, rfl, h⟩
def fJ8_equals (a0 : Nat) (a1 : Nat) (n : Nat) (K : Nat → pKd) (A : pA) (Lg : pL) (G : pG) (kc : Nat) (ks : Nat) (Q : Int32 → Nat → (Nat → pKd) → pA → pL → pG → Prop) : Prop :=
    (n ≤ 1000000) ∧ ((a0 < n) ∧ ((a1 < n) ∧ (((a0 = a1 ∧ (Q 1 n K A Lg G)) ∨ (a0 ≠ a1 ∧ ((K a1 = .inl 18) ∧ ((((K a0 = .inl 18) ∧ ((if (A a0 1) = (A a1 1) then fJ8_equals_J36 a0 a1  Q n K A Lg G kc ks else Q 0 n K A Lg G)))))))))))
theorem tJ8_equals {Γ : jG} {n : Nat} {K : Nat → pKd} {G : pG} {A : pA} {Lg : pL} {kc ks : Nat} (a0 : Nat) (a1 : Nat)  (Q : Int32 → Nat → (Nat → pKd) → pA → pL → pG → Prop) (h : fJ8_equals a0 a1 n K A Lg G kc ks Q) : jMet Γ yJ8_equals cJ8_equals 3 (some .boolean) [] 2 kc ks [.ref a0, .ref a1] (n, K, A, Lg, G) (fun o u => ∃ (r : Int32) (n' : Nat) (K' : Nat → pKd) (A' : pA) (Lg' : pL) (G' : pG), o = .inl (some (.int r)) ∧ u = (n', K', A', Lg', G') ∧ Q r n' K' A' Lg' G') := by
  unfold fJ8_equals at h
  obtain ⟨P, hP⟩ : ∃ P : jO → pS → Prop, P = (fun o u => ∃ (r : Int32) (n' : Nat) (K' : Nat → pKd) (A' : pA) (Lg' : pL) (G' : pG), o = .inl (some (.int r)) ∧ u = (n', K', A', Lg', G') ∧ Q r n' K' A' Lg' G') := ⟨_, rfl⟩
  rw [← hP]
  refine jMet_of rfl rfl rfl (Nat.le_of_ble_eq_true rfl) ?_
  show J Γ RJ8 cJ8_equals 3 (some .boolean) "equals" [] 2 kc ks 0 [(0, .ref a0), (1, .ref a1)] [] (n, K, A, Lg, G) P
  refine j_aload_n 0 rfl dJ8_equals_0 ?_
  refine j_aload_n 1 rfl dJ8_equals_1 ?_
  obtain ⟨hn6, h⟩ := h
  obtain ⟨la0, h⟩ := h
  obtain ⟨la1, h⟩ := h
  rcases h with ⟨c, h⟩ | ⟨c, h⟩
  · refine j_acmpE false dJ8_equals_2 (tgt := 7) (by decide) (by omega) c ?_
    show J Γ RJ8 cJ8_equals 3 (some .boolean) "equals" [] 2 kc ks 5 [(0, .ref a0), (1, .ref a1)] [] (n, K, A, Lg, G) P
    refine j_iconst (v := 1) dJ8_equals_5 (by decide) ?_
    refine j_zret rfl (by decide) ?_ dJ8_equals_6
    rw [hP]
    exact ⟨1, n, K, A, Lg, G, rfl, rfl, h⟩
  · refine j_acmpD false dJ8_equals_2 (tgt := 7) (by decide) (by omega) (by omega) (Or.inl ⟨by omega, by omega, c⟩) ?_
    show J Γ RJ8 cJ8_equals 3 (some .boolean) "equals" [] 2 kc ks 7 [(0, .ref a0), (1, .ref a1)] [] (n, K, A, Lg, G) P
    refine j_aload_n 1 rfl dJ8_equals_7 ?_
    obtain ⟨ha1, h⟩ := h
    refine j_inst (C := "java/lang/String") q1026 (j_l2 hn6 la1) (fun s9 H9 hK9 hR9 h69 => jIs_in hK9 hR9 h69 la1 ha1 rfl) (Or.inl rfl) dJ8_equals_8 ?_
    refine j_if_eq (x := (1 : Int32)) (tgt := 54) dJ8_equals_11 (by decide) (fun c => ?_) (fun c => ?_)
    · exact absurd c (by decide)
    · skip
      refine j_aload_n 1 rfl dJ8_equals_14 ?_
      refine j_cast (C := "java/lang/String") q1026 (j_l2 hn6 la1) (fun s9 H9 hK9 hR9 h69 => jIs_in hK9 hR9 h69 la1 ha1 rfl) (Or.inl rfl) dJ8_equals_15 ?_
      refine j_astore_n (by decide) rfl dJ8_equals_18 ?_
      refine j_gets (i := 0) rfl q655 dJ8_equals_19 ?_
      refine j_if_eq (x := (1 : Int32)) (tgt := 36) dJ8_equals_22 (by decide) (fun c => ?_) (fun c => ?_)
      · exact absurd c (by decide)
      · skip
        refine j_aload_n 1 rfl dJ8_equals_25 ?_
        obtain ⟨ha0, h⟩ := h
        refine j_getfi fl_J8_15_18 rfl la0 ha0 dJ8_equals_26 ?_
        refine j_aload_n 0 rfl dJ8_equals_29 ?_
        refine j_getfi fl_J8_15_18 rfl la1 ha1 dJ8_equals_30 ?_
        refine j_icmp_ne (tgt := 54) dJ8_equals_33 (by decide) (fun c => ?_) (fun c => ?_)
        · rw [if_neg c] at h
          refine j_iconst (v := 0) dJ8_equals_54 (by decide) ?_
          refine j_zret rfl (by decide) ?_ dJ8_equals_55
          rw [hP]
          exact ⟨0, n, K, A, Lg, G, rfl, rfl, h⟩
        · rw [if_pos c] at h
          refine j_ls [1, 0] rfl ?_
          exact fJ8_equals_J36_ok  a0 a1 Q P hP   n K A Lg G kc ks h
theorem myJ5_grow_2 : jY yJ5_grow_2 cJ5_grow_2 4 (some (.array (.object "java/lang/Object")))  1 := ⟨q1066, q131, by decide +kernel, by decide +kernel, by decide⟩
def fJ5_grow_2_J20 (a0 : Nat)  (Q : Nat → Nat → (Nat → pKd) → pA → pL → pG → Prop) (l1 : Int32) (l2 : Int32) (n : Nat) (K : Nat → pKd) (A : pA) (Lg : pL) (G : pG) (kc : Nat) (ks : Nat) : Prop :=
    False
theorem fJ5_grow_2_J20_ok {Γ : jG} (a0 : Nat) (Q : Nat → Nat → (Nat → pKd) → pA → pL → pG → Prop) (P : jO → pS → Prop) (hP : P = (fun o u => ∃ (r : Nat) (n' : Nat) (K' : Nat → pKd) (A' : pA) (Lg' : pL) (G' : pG), o = .inl (some (.ref r)) ∧ u = (n', K', A', Lg', G') ∧ Q r n' K' A' Lg' G'))   (l1 : Int32) (l2 : Int32) (n : Nat) (K : Nat → pKd) (A : pA) (Lg : pL) (G : pG) (kc : Nat) (ks : Nat) (h : fJ5_grow_2_J20 a0  Q l1 l2 n K A Lg G kc ks) : J Γ RJ5 cJ5_grow_2 4 (some (.array (.object "java/lang/Object"))) "grow" [] 1 kc ks 20 [(0, .ref a0), (1, .int l1), (2, .int l2)] [] (n, K, A, Lg, G) P := by
  unfold fJ5_grow_2_J20 at h
  exact h.elim
def fJ5_grow_2 (a0 : Nat) (n : Nat) (K : Nat → pKd) (A : pA) (Lg : pL) (G : pG) (kc : Nat) (ks : Nat) (p1 : Int32) (Q : Nat → Nat → (Nat → pKd) → pA → pL → pG → Prop) : Prop :=
    (a0 < n) ∧ ((K a0 = .inl 17) ∧ ((G a0 1 = .ref 1000200) ∧ (((¬ (pmax 10 p1) < 0) ∧ (((pmax 10 p1).toNatClampNeg * 4 ≤ 536870912) ∧ ((1 ≤ kc) ∧ (((pmax 10 p1).toNatClampNeg ≤ ks) ∧ (∀ (K5 : Nat → pKd) (A6 : pA) (L7 : pL) (G8 : pG), K5 = pkup K n (.inr (6, (pmax 10 p1).toNatClampNeg)) → A6 = prow A n (fun _ => 0) → L7 = prow Lg n (fun _ => 0) → G8 = prow G n (fun _ => .null) → (a0 < (n + 1)) ∧ ((K5 a0 = .inl 17) ∧ (∀ G11 : pG, G11 = pup G8 a0 1 (.ref n) → Q n (n + 1) K5 A6 L7 G11))))))))))
theorem tJ5_grow_2 {Γ : jG} {n : Nat} {K : Nat → pKd} {G : pG} {A : pA} {Lg : pL} {kc ks : Nat} (a0 : Nat) (p1 : Int32) (Q : Nat → Nat → (Nat → pKd) → pA → pL → pG → Prop) (h : fJ5_grow_2 a0 n K A Lg G kc ks p1 Q) : jMet Γ yJ5_grow_2 cJ5_grow_2 4 (some (.array (.object "java/lang/Object"))) [] 1 kc ks [.ref a0, .int p1] (n, K, A, Lg, G) (fun o u => ∃ (r : Nat) (n' : Nat) (K' : Nat → pKd) (A' : pA) (Lg' : pL) (G' : pG), o = .inl (some (.ref r)) ∧ u = (n', K', A', Lg', G') ∧ Q r n' K' A' Lg' G') := by
  unfold fJ5_grow_2 at h
  obtain ⟨P, hP⟩ : ∃ P : jO → pS → Prop, P = (fun o u => ∃ (r : Nat) (n' : Nat) (K' : Nat → pKd) (A' : pA) (Lg' : pL) (G' : pG), o = .inl (some (.ref r)) ∧ u = (n', K', A', Lg', G') ∧ Q r n' K' A' Lg' G') := ⟨_, rfl⟩
  rw [← hP]
  refine jMet_of rfl rfl rfl (Nat.le_of_ble_eq_true rfl) ?_
  show J Γ RJ5 cJ5_grow_2 4 (some (.array (.object "java/lang/Object"))) "grow" [] 1 kc ks 0 [(0, .ref a0), (1, .int p1)] [] (n, K, A, Lg, G) P
  refine j_aload_n 0 rfl dJ5_grow_2_0 ?_
  obtain ⟨la0, h⟩ := h
  obtain ⟨ha0, h⟩ := h
  obtain ⟨ea0, h⟩ := h
  refine j_getfr fl_J5_9_17 rfl la0 ha0 ea0 dJ5_grow_2_1 ?_
  refine j_xlen0 dJ5_grow_2_4 ?_
  refine j_istore_n (by decide) rfl dJ5_grow_2_5 ?_
  refine j_iload_n 0 rfl dJ5_grow_2_6 ?_
  refine j_if_gt (x := (0 : Int32)) (tgt := 20) dJ5_grow_2_7 (by decide) (fun c => ?_) (fun c => ?_)
  · exact absurd c (by decide)
  · skip
    refine j_aload_n 1 rfl dJ5_grow_2_10 ?_
    refine j_getfr fl_J5_9_17 rfl la0 ha0 ea0 dJ5_grow_2_11 ?_
    refine j_gets (i := 1) rfl q349 dJ5_grow_2_14 ?_
    refine j_acmpS true dJ5_grow_2_17 (tgt := 45) (by decide) (by decide) ?_
    show J Γ RJ5 cJ5_grow_2 4 (some (.array (.object "java/lang/Object"))) "grow" [] 1 kc ks 45 [(2, .int 0), (0, .ref a0), (1, .int p1)] [] (n, K, A, Lg, G) P
    refine j_aload_n 1 rfl dJ5_grow_2_45 ?_
    refine j_bipush (v := 10) dJ5_grow_2_46 (by decide) ?_
    refine j_iload_n 2 rfl dJ5_grow_2_48 ?_
    refine j_mmax q1101 q899 q153 q900 (Nat.le_of_ble_eq_true rfl) (by decide) dJ5_grow_2_49 ?_
    obtain ⟨b1, h⟩ := h
    obtain ⟨b2, h⟩ := h
    obtain ⟨b3, h⟩ := h
    obtain ⟨b4, h⟩ := h
    refine j_anewE (t := 6) (N := (pmax 10 p1).toNatClampNeg) rfl rfl q1102 (by decide) b1 rfl b2 b3 b4 dJ5_grow_2_52 (fun K5 A6 L7 G8 eK5 eA6 eL7 eG8 => ?_)
    replace h := h K5 A6 L7 G8 eK5 eA6 eL7 eG8
    have b9 : n < (n + 1) := (by omega)
    have b10 : K5 n = .inr (6, (pmax 10 p1).toNatClampNeg) := (by rw [eK5]; exact pkup_self)
    refine j_dup_x1 rfl rfl dJ5_grow_2_55 ?_
    obtain ⟨la0, h⟩ := h
    obtain ⟨ha0, h⟩ := h
    refine j_putfrE (fp_J5_9_17 _) rfl (Or.inr ⟨_, rfl⟩) (Or.inr ⟨_, rfl⟩) la0 ha0 dJ5_grow_2_56 (fun G11 eG11 => ?_)
    replace h := h G11 eG11
    refine j_aret rfl (by first | exact Or.inl ⟨_, rfl⟩ | exact Or.inr ⟨_, rfl⟩) (Or.inr ⟨_, rfl⟩) ?_ dJ5_grow_2_59
    rw [hP]
    exact ⟨n, n + 1, K5, A6, L7, G11, rfl, rfl, h⟩
theorem myJ5_grow : jY yJ5_grow cJ5_grow 1 (some (.array (.object "java/lang/Object")))  0 := ⟨q1062, q131, by decide +kernel, by decide +kernel, by decide⟩
def fJ5_grow (a0 : Nat) (n : Nat) (K : Nat → pKd) (A : pA) (Lg : pL) (G : pG) (kc : Nat) (ks : Nat) (Q : Nat → Nat → (Nat → pKd) → pA → pL → pG → Prop) : Prop :=
    (a0 < n) ∧ ((K a0 = .inl 17) ∧ (∃ kY1 sY2 : Nat, kY1 ≤ kc ∧ sY2 ≤ ks ∧ ((n ≤ 1000000) ∧ (fJ5_grow_2 a0 n K A Lg G kY1 sY2 ((A a0 2) + 1) (fun r3 n4 K5 A6 Lg7 G8 => Q r3 n4 K5 A6 Lg7 G8)))))
theorem tJ5_grow {Γ : jG} {n : Nat} {K : Nat → pKd} {G : pG} {A : pA} {Lg : pL} {kc ks : Nat} (a0 : Nat)  (Q : Nat → Nat → (Nat → pKd) → pA → pL → pG → Prop) (h : fJ5_grow a0 n K A Lg G kc ks Q) : jMet Γ yJ5_grow cJ5_grow 1 (some (.array (.object "java/lang/Object"))) [] 2 kc ks [.ref a0] (n, K, A, Lg, G) (fun o u => ∃ (r : Nat) (n' : Nat) (K' : Nat → pKd) (A' : pA) (Lg' : pL) (G' : pG), o = .inl (some (.ref r)) ∧ u = (n', K', A', Lg', G') ∧ Q r n' K' A' Lg' G') := by
  unfold fJ5_grow at h
  obtain ⟨P, hP⟩ : ∃ P : jO → pS → Prop, P = (fun o u => ∃ (r : Nat) (n' : Nat) (K' : Nat → pKd) (A' : pA) (Lg' : pL) (G' : pG), o = .inl (some (.ref r)) ∧ u = (n', K', A', Lg', G') ∧ Q r n' K' A' Lg' G') := ⟨_, rfl⟩
  rw [← hP]
  refine jMet_of rfl rfl rfl (Nat.le_of_ble_eq_true rfl) ?_
  show J Γ RJ5 cJ5_grow 1 (some (.array (.object "java/lang/Object"))) "grow" [] 2 kc ks 0 [(0, .ref a0)] [] (n, K, A, Lg, G) P
  refine j_aload_n 0 rfl dJ5_grow_0 ?_
  refine j_aload_n 0 rfl dJ5_grow_1 ?_
  obtain ⟨la0, h⟩ := h
  obtain ⟨ha0, h⟩ := h
  refine j_getfi fl_J5_48_17 rfl la0 ha0 dJ5_grow_2 ?_
  refine j_iconst (v := 1) dJ5_grow_5 (by decide) ?_
  refine j_iadd dJ5_grow_6 ?_
  obtain ⟨kY1, sY2, kY1h, sY2h, h⟩ := h
  obtain ⟨hn6, h⟩ := h
  refine j_callV (b := a0) (As := [.int ((A a0 2) + 1)]) (st := []) (C := RJ5) (kc' := kc - kY1) (ks' := ks - sY2) (tJ5_grow_2  a0 ((A a0 2) + 1) _ h) myJ5_grow_2 rfl q1063 q1065 qs27 (j_l2 hn6 la0) (fun s9 H9 hK9 hR9 h69 => jIs_in hK9 hR9 h69 la0 ha0 rfl) rfl (Nat.le_of_ble_eq_true rfl) rfl (by decide) (by omega) (by omega) dJ5_grow_7 (fun v9 u9 hq => ?_) (fun k9 u9 hq => by obtain ⟨_, _, _, _, _, _, e9, _⟩ := hq; cases e9)
  obtain ⟨r3, n4, K5, A6, Lg7, G8, e9, rfl, h⟩ := hq
  obtain rfl := Sum.inl.inj e9
  show J Γ RJ5 cJ5_grow 1 (some (.array (.object "java/lang/Object"))) "grow" [] 2 (kc - kY1) (ks - sY2) 10 [(0, .ref a0)] [.ref r3] (n4, K5, A6, Lg7, G8) P
  refine j_aret rfl (by first | exact Or.inl ⟨_, rfl⟩ | exact Or.inr ⟨_, rfl⟩) (Or.inr ⟨_, rfl⟩) ?_ dJ5_grow_10
  rw [hP]
  exact ⟨r3, n4, K5, A6, Lg7, G8, rfl, rfl, h⟩
theorem myJ5_add_2 : jY yJ5_add_2 cJ5_add_2 4 none  3 := ⟨q1058, q131, by decide +kernel, by decide +kernel, by decide⟩
def fJ5_add_2E_X17_J11 (a0 : Nat) (a1 : Nat)  (Q : Nat → (Nat → pKd) → pA → pL → pG → Prop) (l2 : Nat) (l3 : Int32) (n : Nat) (K : Nat → pKd) (A : pA) (Lg : pL) (G : pG) (kc : Nat) (ks : Nat) : Prop :=
    ∃ z2 : Nat, K l2 = .inr (6, z2) ∧ ((vp_in l3 z2) ∧ ((n ≤ 1000000) ∧ ((a1 < n) ∧ ((K a1 = .inl 14) ∧ ((l2 < n) ∧ (∀ G5 : pG, G5 = pup G l2 (l3).toNatClampNeg (.ref a1) → (a0 < n) ∧ ((K a0 = .inl 17) ∧ (∀ A6 : pA, A6 = pup A a0 2 (l3 + 1) → Q n K A6 Lg G5))))))))
theorem fJ5_add_2E_X17_J11_ok {Γ : jG} (a0 : Nat) (a1 : Nat) (Q : Nat → (Nat → pKd) → pA → pL → pG → Prop) (P : jO → pS → Prop) (hP : P = (fun o u => ∃ (n' : Nat) (K' : Nat → pKd) (A' : pA) (Lg' : pL) (G' : pG), o = .inl none ∧ u = (n', K', A', Lg', G') ∧ Q n' K' A' Lg' G'))   (l2 : Nat) (l3 : Int32) (n : Nat) (K : Nat → pKd) (A : pA) (Lg : pL) (G : pG) (kc : Nat) (ks : Nat) (h : fJ5_add_2E_X17_J11 a0 a1  Q l2 l3 n K A Lg G kc ks) : J Γ RJ5 cJ5_add_2 4 none "add" [] 3 kc ks 11 [(0, .ref a0), (1, .ref a1), (2, .ref l2), (3, .int l3)] [] (n, K, A, Lg, G) P := by
  unfold fJ5_add_2E_X17_J11 at h
  refine j_aload_n 2 rfl dJ5_add_2_11 ?_
  refine j_iload_n 3 rfl dJ5_add_2_12 ?_
  refine j_aload_n 1 rfl dJ5_add_2_13 ?_
  obtain ⟨z2, b3, h⟩ := h
  obtain ⟨b4, h⟩ := h
  obtain ⟨hn6, h⟩ := h
  obtain ⟨la1, h⟩ := h
  obtain ⟨ha1, h⟩ := h
  obtain ⟨b1, h⟩ := h
  refine j_aastE (t := 6) (j := (l3).toNatClampNeg) (C := "DogsHour$Spot") rfl rfl b1 b3 b4 rfl (j_l2 hn6 la1) (fun s9 H9 hK9 hR9 h69 => jIs_in hK9 hR9 h69 la1 ha1 rfl) (Or.inr (by decide)) dJ5_add_2_14 (fun G5 eG5 => ?_)
  replace h := h G5 eG5
  refine j_aload_n 0 rfl dJ5_add_2_15 ?_
  refine j_iload_n 3 rfl dJ5_add_2_16 ?_
  refine j_iconst (v := 1) dJ5_add_2_17 (by decide) ?_
  refine j_iadd dJ5_add_2_18 ?_
  obtain ⟨la0, h⟩ := h
  obtain ⟨ha0, h⟩ := h
  refine j_putfiE (fp_J5_48_17 _) rfl rfl rfl la0 ha0 dJ5_add_2_19 (fun A6 eA6 => ?_)
  replace h := h A6 eA6
  refine j_vret rfl ?_ dJ5_add_2_22
  rw [hP]
  exact ⟨n, K, A6, Lg, G5, rfl, rfl, h⟩
def fJ5_add_2E_X17 (a0 : Nat) (a1 : Nat) (n : Nat) (K : Nat → pKd) (A : pA) (Lg : pL) (G : pG) (kc : Nat) (ks : Nat) (p3 : Int32) (Q : Nat → (Nat → pKd) → pA → pL → pG → Prop) : Prop :=
    (if p3 = 0 then ∃ kY7 sY8 : Nat, kY7 ≤ kc ∧ sY8 ≤ ks ∧ ((n ≤ 1000000) ∧ ((a0 < n) ∧ ((K a0 = .inl 17) ∧ (fJ5_grow a0 n K A Lg G kY7 sY8 (fun r9 n10 K11 A12 Lg13 G14 => fJ5_add_2E_X17_J11 a0 a1  Q r9 p3 n10 K11 A12 Lg13 G14 (kc - kY7) (ks - sY8)))))) else fJ5_add_2E_X17_J11 a0 a1  Q 1000200 p3 n K A Lg G kc ks)
theorem tJ5_add_2E_X17 {Γ : jG} {n : Nat} {K : Nat → pKd} {G : pG} {A : pA} {Lg : pL} {kc ks : Nat} (a0 : Nat) (a1 : Nat) (p3 : Int32) (Q : Nat → (Nat → pKd) → pA → pL → pG → Prop) (h : fJ5_add_2E_X17 a0 a1 n K A Lg G kc ks p3 Q) : jMet Γ yJ5_add_2 cJ5_add_2 4 none [] 3 kc ks [.ref a0, .ref a1, .ref 1000200, .int p3] (n, K, A, Lg, G) (fun o u => ∃ (n' : Nat) (K' : Nat → pKd) (A' : pA) (Lg' : pL) (G' : pG), o = .inl none ∧ u = (n', K', A', Lg', G') ∧ Q n' K' A' Lg' G') := by
  unfold fJ5_add_2E_X17 at h
  obtain ⟨P, hP⟩ : ∃ P : jO → pS → Prop, P = (fun o u => ∃ (n' : Nat) (K' : Nat → pKd) (A' : pA) (Lg' : pL) (G' : pG), o = .inl none ∧ u = (n', K', A', Lg', G') ∧ Q n' K' A' Lg' G') := ⟨_, rfl⟩
  rw [← hP]
  refine jMet_of rfl rfl rfl (Nat.le_of_ble_eq_true rfl) ?_
  show J Γ RJ5 cJ5_add_2 4 none "add" [] 3 kc ks 0 [(0, .ref a0), (1, .ref a1), (2, .ref 1000200), (3, .int p3)] [] (n, K, A, Lg, G) P
  refine j_iload_n 3 rfl dJ5_add_2_0 ?_
  refine j_aload_n 2 rfl dJ5_add_2_1 ?_
  refine j_xlen0 dJ5_add_2_2 ?_
  refine j_icmp_ne (tgt := 11) dJ5_add_2_3 (by decide) (fun c => ?_) (fun c => ?_)
  · rw [if_neg c] at h
    exact fJ5_add_2E_X17_J11_ok  a0 a1 Q P hP   1000200 p3 n K A Lg G kc ks h
  · rw [if_pos c] at h
    refine j_aload_n 0 rfl dJ5_add_2_6 ?_
    obtain ⟨kY7, sY8, kY7h, sY8h, h⟩ := h
    obtain ⟨hn6, h⟩ := h
    obtain ⟨la0, h⟩ := h
    obtain ⟨ha0, h⟩ := h
    refine j_callV (b := a0) (As := []) (st := []) (C := RJ5) (kc' := kc - kY7) (ks' := ks - sY8) (tJ5_grow  a0 _ h) myJ5_grow rfl q1059 q1061 qs26 (j_l2 hn6 la0) (fun s9 H9 hK9 hR9 h69 => jIs_in hK9 hR9 h69 la0 ha0 rfl) rfl (Nat.le_of_ble_eq_true rfl) rfl (by decide) (by omega) (by omega) dJ5_add_2_7 (fun v9 u9 hq => ?_) (fun k9 u9 hq => by obtain ⟨_, _, _, _, _, _, e9, _⟩ := hq; cases e9)
    obtain ⟨r9, n10, K11, A12, Lg13, G14, e9, rfl, h⟩ := hq
    obtain rfl := Sum.inl.inj e9
    show J Γ RJ5 cJ5_add_2 4 none "add" [] 3 (kc - kY7) (ks - sY8) 10 [(0, .ref a0), (1, .ref a1), (2, .ref 1000200), (3, .int p3)] [.ref r9] (n10, K11, A12, Lg13, G14) P
    refine j_astore_n (by decide) rfl dJ5_add_2_10 ?_
    refine j_ls [1, 2, 0, 3] rfl ?_
    exact fJ5_add_2E_X17_J11_ok  a0 a1 Q P hP   r9 p3 n10 K11 A12 Lg13 G14 (kc - kY7) (ks - sY8) h

def fJ5_add_2I_X17_J11 (a0 : Nat) (a1 : Nat) (a2 : Nat) (z2 : Nat)  (Q : Nat → (Nat → pKd) → pA → pL → pG → Prop) (l2 : Nat) (l3 : Int32) (n : Nat) (K : Nat → pKd) (A : pA) (Lg : pL) (G : pG) (kc : Nat) (ks : Nat) : Prop :=
    ∃ z2 : Nat, K l2 = .inr (6, z2) ∧ ((vp_in l3 z2) ∧ ((n ≤ 1000000) ∧ ((a1 < n) ∧ ((K a1 = .inl 14) ∧ ((l2 < n) ∧ (∀ G5 : pG, G5 = pup G l2 (l3).toNatClampNeg (.ref a1) → (a0 < n) ∧ ((K a0 = .inl 17) ∧ (∀ A6 : pA, A6 = pup A a0 2 (l3 + 1) → Q n K A6 Lg G5))))))))
theorem fJ5_add_2I_X17_J11_ok {Γ : jG} (a0 : Nat) (a1 : Nat) (a2 : Nat) (z2 : Nat) (Q : Nat → (Nat → pKd) → pA → pL → pG → Prop) (P : jO → pS → Prop) (hP : P = (fun o u => ∃ (n' : Nat) (K' : Nat → pKd) (A' : pA) (Lg' : pL) (G' : pG), o = .inl none ∧ u = (n', K', A', Lg', G') ∧ Q n' K' A' Lg' G'))   (l2 : Nat) (l3 : Int32) (n : Nat) (K : Nat → pKd) (A : pA) (Lg : pL) (G : pG) (kc : Nat) (ks : Nat) (h : fJ5_add_2I_X17_J11 a0 a1 a2 z2  Q l2 l3 n K A Lg G kc ks) : J Γ RJ5 cJ5_add_2 4 none "add" [] 3 kc ks 11 [(0, .ref a0), (1, .ref a1), (2, .ref l2), (3, .int l3)] [] (n, K, A, Lg, G) P := by
  unfold fJ5_add_2I_X17_J11 at h
  refine j_aload_n 2 rfl dJ5_add_2_11 ?_
  refine j_iload_n 3 rfl dJ5_add_2_12 ?_
  refine j_aload_n 1 rfl dJ5_add_2_13 ?_
  obtain ⟨z2, b3, h⟩ := h
  obtain ⟨b4, h⟩ := h
  obtain ⟨hn6, h⟩ := h
  obtain ⟨la1, h⟩ := h
  obtain ⟨ha1, h⟩ := h
  obtain ⟨b1, h⟩ := h
  refine j_aastE (t := 6) (j := (l3).toNatClampNeg) (C := "DogsHour$Spot") rfl rfl b1 b3 b4 rfl (j_l2 hn6 la1) (fun s9 H9 hK9 hR9 h69 => jIs_in hK9 hR9 h69 la1 ha1 rfl) (Or.inr (by decide)) dJ5_add_2_14 (fun G5 eG5 => ?_)
  replace h := h G5 eG5
  refine j_aload_n 0 rfl dJ5_add_2_15 ?_
  refine j_iload_n 3 rfl dJ5_add_2_16 ?_
  refine j_iconst (v := 1) dJ5_add_2_17 (by decide) ?_
  refine j_iadd dJ5_add_2_18 ?_
  obtain ⟨la0, h⟩ := h
  obtain ⟨ha0, h⟩ := h
  refine j_putfiE (fp_J5_48_17 _) rfl rfl rfl la0 ha0 dJ5_add_2_19 (fun A6 eA6 => ?_)
  replace h := h A6 eA6
  refine j_vret rfl ?_ dJ5_add_2_22
  rw [hP]
  exact ⟨n, K, A6, Lg, G5, rfl, rfl, h⟩
def fJ5_add_2I_X17 (a0 : Nat) (a1 : Nat) (a2 : Nat) (z2 : Nat) (n : Nat) (K : Nat → pKd) (A : pA) (Lg : pL) (G : pG) (kc : Nat) (ks : Nat) (p3 : Int32) (Q : Nat → (Nat → pKd) → pA → pL → pG → Prop) : Prop :=
    (a2 < n) ∧ ((K a2 = .inr (6, z2)) ∧ ((if p3 = (Int32.ofNat z2) then False else fJ5_add_2I_X17_J11 a0 a1 a2 z2  Q a2 p3 n K A Lg G kc ks)))
theorem tJ5_add_2I_X17 {Γ : jG} {n : Nat} {K : Nat → pKd} {G : pG} {A : pA} {Lg : pL} {kc ks : Nat} (a0 : Nat) (a1 : Nat) (a2 : Nat) (z2 : Nat) (p3 : Int32) (Q : Nat → (Nat → pKd) → pA → pL → pG → Prop) (h : fJ5_add_2I_X17 a0 a1 a2 z2 n K A Lg G kc ks p3 Q) : jMet Γ yJ5_add_2 cJ5_add_2 4 none [] 3 kc ks [.ref a0, .ref a1, .ref a2, .int p3] (n, K, A, Lg, G) (fun o u => ∃ (n' : Nat) (K' : Nat → pKd) (A' : pA) (Lg' : pL) (G' : pG), o = .inl none ∧ u = (n', K', A', Lg', G') ∧ Q n' K' A' Lg' G') := by
  unfold fJ5_add_2I_X17 at h
  obtain ⟨P, hP⟩ : ∃ P : jO → pS → Prop, P = (fun o u => ∃ (n' : Nat) (K' : Nat → pKd) (A' : pA) (Lg' : pL) (G' : pG), o = .inl none ∧ u = (n', K', A', Lg', G') ∧ Q n' K' A' Lg' G') := ⟨_, rfl⟩
  rw [← hP]
  refine jMet_of rfl rfl rfl (Nat.le_of_ble_eq_true rfl) ?_
  show J Γ RJ5 cJ5_add_2 4 none "add" [] 3 kc ks 0 [(0, .ref a0), (1, .ref a1), (2, .ref a2), (3, .int p3)] [] (n, K, A, Lg, G) P
  refine j_iload_n 3 rfl dJ5_add_2_0 ?_
  refine j_aload_n 2 rfl dJ5_add_2_1 ?_
  obtain ⟨la2, h⟩ := h
  obtain ⟨ha2, h⟩ := h
  refine j_alen (t := 6) rfl la2 ha2 dJ5_add_2_2 ?_
  refine j_icmp_ne (tgt := 11) dJ5_add_2_3 (by decide) (fun c => ?_) (fun c => ?_)
  · rw [if_neg c] at h
    exact fJ5_add_2I_X17_J11_ok  a0 a1 a2 z2 Q P hP   a2 p3 n K A Lg G kc ks h
  · rw [if_pos c] at h
    exact h.elim
theorem myJ5_add : jY yJ5_add cJ5_add 2 (some .boolean)  1 := ⟨q1054, q131, by decide +kernel, by decide +kernel, by decide⟩
def fJ5_addE_X17 (a0 : Nat) (a1 : Nat) (n : Nat) (K : Nat → pKd) (A : pA) (Lg : pL) (G : pG) (kc : Nat) (ks : Nat) (Q : Int32 → Nat → (Nat → pKd) → pA → pL → pG → Prop) : Prop :=
    (a0 < n) ∧ ((K a0 = .inl 17) ∧ (∀ A1 : pA, A1 = pup A a0 0 ((A a0 0) + 1) → (G a0 1 = .ref 1000200) ∧ (∃ kY2 sY3 : Nat, kY2 ≤ kc ∧ sY3 ≤ ks ∧ ((n ≤ 1000000) ∧ (fJ5_add_2E_X17 a0 a1 n K A1 Lg G kY2 sY3 (A1 a0 2) (fun n4 K5 A6 Lg7 G8 => Q 1 n4 K5 A6 Lg7 G8))))))
theorem tJ5_addE_X17 {Γ : jG} {n : Nat} {K : Nat → pKd} {G : pG} {A : pA} {Lg : pL} {kc ks : Nat} (a0 : Nat) (a1 : Nat)  (Q : Int32 → Nat → (Nat → pKd) → pA → pL → pG → Prop) (h : fJ5_addE_X17 a0 a1 n K A Lg G kc ks Q) : jMet Γ yJ5_add cJ5_add 2 (some .boolean) [] 4 kc ks [.ref a0, .ref a1] (n, K, A, Lg, G) (fun o u => ∃ (r : Int32) (n' : Nat) (K' : Nat → pKd) (A' : pA) (Lg' : pL) (G' : pG), o = .inl (some (.int r)) ∧ u = (n', K', A', Lg', G') ∧ Q r n' K' A' Lg' G') := by
  unfold fJ5_addE_X17 at h
  obtain ⟨P, hP⟩ : ∃ P : jO → pS → Prop, P = (fun o u => ∃ (r : Int32) (n' : Nat) (K' : Nat → pKd) (A' : pA) (Lg' : pL) (G' : pG), o = .inl (some (.int r)) ∧ u = (n', K', A', Lg', G') ∧ Q r n' K' A' Lg' G') := ⟨_, rfl⟩
  rw [← hP]
  refine jMet_of rfl rfl rfl (Nat.le_of_ble_eq_true rfl) ?_
  show J Γ RJ5 cJ5_add 2 (some .boolean) "add" [] 4 kc ks 0 [(0, .ref a0), (1, .ref a1)] [] (n, K, A, Lg, G) P
  refine j_aload_n 0 rfl dJ5_add_0 ?_
  refine j_dup rfl dJ5_add_1 ?_
  obtain ⟨la0, h⟩ := h
  obtain ⟨ha0, h⟩ := h
  refine j_getfi fl_J5_63_17 rfl la0 ha0 dJ5_add_2 ?_
  refine j_iconst (v := 1) dJ5_add_5 (by decide) ?_
  refine j_iadd dJ5_add_6 ?_
  refine j_putfiE (fp_J5_63_17 _) rfl rfl rfl la0 ha0 dJ5_add_7 (fun A1 eA1 => ?_)
  replace h := h A1 eA1
  refine j_aload_n 0 rfl dJ5_add_10 ?_
  refine j_aload_n 1 rfl dJ5_add_11 ?_
  refine j_aload_n 0 rfl dJ5_add_12 ?_
  obtain ⟨ea0, h⟩ := h
  refine j_getfr fl_J5_9_17 rfl la0 ha0 ea0 dJ5_add_13 ?_
  refine j_aload_n 0 rfl dJ5_add_16 ?_
  refine j_getfi fl_J5_48_17 rfl la0 ha0 dJ5_add_17 ?_
  obtain ⟨kY2, sY3, kY2h, sY3h, h⟩ := h
  obtain ⟨hn6, h⟩ := h
  refine j_callV (b := a0) (As := [.ref a1, .ref 1000200, .int (A1 a0 2)]) (st := []) (C := RJ5) (kc' := kc - kY2) (ks' := ks - sY3) (tJ5_add_2E_X17  a0 a1 (A1 a0 2) _ h) myJ5_add_2 rfl q1055 q1057 qs25 (j_l2 hn6 la0) (fun s9 H9 hK9 hR9 h69 => jIs_in hK9 hR9 h69 la0 ha0 rfl) rfl (Nat.le_of_ble_eq_true rfl) rfl (by decide) (by omega) (by omega) dJ5_add_20 (fun v9 u9 hq => ?_) (fun k9 u9 hq => by obtain ⟨_, _, _, _, _, e9, _⟩ := hq; cases e9)
  obtain ⟨n4, K5, A6, Lg7, G8, e9, rfl, h⟩ := hq
  obtain rfl := Sum.inl.inj e9
  show J Γ RJ5 cJ5_add 2 (some .boolean) "add" [] 4 (kc - kY2) (ks - sY3) 23 [(0, .ref a0), (1, .ref a1)] [] (n4, K5, A6, Lg7, G8) P
  refine j_iconst (v := 1) dJ5_add_23 (by decide) ?_
  refine j_zret rfl (by decide) ?_ dJ5_add_24
  rw [hP]
  exact ⟨1, n4, K5, A6, Lg7, G8, rfl, rfl, h⟩

def fJ5_addI_X17 (a0 : Nat) (a1 : Nat) (n : Nat) (K : Nat → pKd) (A : pA) (Lg : pL) (G : pG) (kc : Nat) (ks : Nat) (Q : Int32 → Nat → (Nat → pKd) → pA → pL → pG → Prop) : Prop :=
    (a0 < n) ∧ ((K a0 = .inl 17) ∧ (∀ A1 : pA, A1 = pup A a0 0 ((A a0 0) + 1) → ∃ e2 : Nat, G a0 1 = .ref e2 ∧ (∃ z4 : Nat, K e2 = .inr (6, z4) ∧ (∃ kY6 sY7 : Nat, kY6 ≤ kc ∧ sY7 ≤ ks ∧ ((n ≤ 1000000) ∧ (fJ5_add_2I_X17 a0 a1 e2 z4 n K A1 Lg G kY6 sY7 (A1 a0 2) (fun n8 K9 A10 Lg11 G12 => Q 1 n8 K9 A10 Lg11 G12)))))))
theorem tJ5_addI_X17 {Γ : jG} {n : Nat} {K : Nat → pKd} {G : pG} {A : pA} {Lg : pL} {kc ks : Nat} (a0 : Nat) (a1 : Nat)  (Q : Int32 → Nat → (Nat → pKd) → pA → pL → pG → Prop) (h : fJ5_addI_X17 a0 a1 n K A Lg G kc ks Q) : jMet Γ yJ5_add cJ5_add 2 (some .boolean) [] 4 kc ks [.ref a0, .ref a1] (n, K, A, Lg, G) (fun o u => ∃ (r : Int32) (n' : Nat) (K' : Nat → pKd) (A' : pA) (Lg' : pL) (G' : pG), o = .inl (some (.int r)) ∧ u = (n', K', A', Lg', G') ∧ Q r n' K' A' Lg' G') := by
  unfold fJ5_addI_X17 at h
  obtain ⟨P, hP⟩ : ∃ P : jO → pS → Prop, P = (fun o u => ∃ (r : Int32) (n' : Nat) (K' : Nat → pKd) (A' : pA) (Lg' : pL) (G' : pG), o = .inl (some (.int r)) ∧ u = (n', K', A', Lg', G') ∧ Q r n' K' A' Lg' G') := ⟨_, rfl⟩
  rw [← hP]
  refine jMet_of rfl rfl rfl (Nat.le_of_ble_eq_true rfl) ?_
  show J Γ RJ5 cJ5_add 2 (some .boolean) "add" [] 4 kc ks 0 [(0, .ref a0), (1, .ref a1)] [] (n, K, A, Lg, G) P
  refine j_aload_n 0 rfl dJ5_add_0 ?_
  refine j_dup rfl dJ5_add_1 ?_
  obtain ⟨la0, h⟩ := h
  obtain ⟨ha0, h⟩ := h
  refine j_getfi fl_J5_63_17 rfl la0 ha0 dJ5_add_2 ?_
  refine j_iconst (v := 1) dJ5_add_5 (by decide) ?_
  refine j_iadd dJ5_add_6 ?_
  refine j_putfiE (fp_J5_63_17 _) rfl rfl rfl la0 ha0 dJ5_add_7 (fun A1 eA1 => ?_)
  replace h := h A1 eA1
  refine j_aload_n 0 rfl dJ5_add_10 ?_
  refine j_aload_n 1 rfl dJ5_add_11 ?_
  refine j_aload_n 0 rfl dJ5_add_12 ?_
  obtain ⟨e2, e2h, h⟩ := h
  refine j_getfr fl_J5_9_17 rfl la0 ha0 e2h dJ5_add_13 ?_
  refine j_aload_n 0 rfl dJ5_add_16 ?_
  refine j_getfi fl_J5_48_17 rfl la0 ha0 dJ5_add_17 ?_
  obtain ⟨z4, b5, h⟩ := h
  obtain ⟨kY6, sY7, kY6h, sY7h, h⟩ := h
  obtain ⟨hn6, h⟩ := h
  refine j_callV (b := a0) (As := [.ref a1, .ref e2, .int (A1 a0 2)]) (st := []) (C := RJ5) (kc' := kc - kY6) (ks' := ks - sY7) (tJ5_add_2I_X17  a0 a1 e2 z4 (A1 a0 2) _ h) myJ5_add_2 rfl q1055 q1057 qs25 (j_l2 hn6 la0) (fun s9 H9 hK9 hR9 h69 => jIs_in hK9 hR9 h69 la0 ha0 rfl) rfl (Nat.le_of_ble_eq_true rfl) rfl (by decide) (by omega) (by omega) dJ5_add_20 (fun v9 u9 hq => ?_) (fun k9 u9 hq => by obtain ⟨_, _, _, _, _, e9, _⟩ := hq; cases e9)
  obtain ⟨n8, K9, A10, Lg11, G12, e9, rfl, h⟩ := hq
  obtain rfl := Sum.inl.inj e9
  show J Γ RJ5 cJ5_add 2 (some .boolean) "add" [] 4 (kc - kY6) (ks - sY7) 23 [(0, .ref a0), (1, .ref a1)] [] (n8, K9, A10, Lg11, G12) P
  refine j_iconst (v := 1) dJ5_add_23 (by decide) ?_
  refine j_zret rfl (by decide) ?_ dJ5_add_24
  rw [hP]
  exact ⟨1, n8, K9, A10, Lg11, G12, rfl, rfl, h⟩

def fJ5_add_2E_X18_J11 (a0 : Nat) (a1 : Nat)  (Q : Nat → (Nat → pKd) → pA → pL → pG → Prop) (l2 : Nat) (l3 : Int32) (n : Nat) (K : Nat → pKd) (A : pA) (Lg : pL) (G : pG) (kc : Nat) (ks : Nat) : Prop :=
    ∃ z2 : Nat, K l2 = .inr (6, z2) ∧ ((vp_in l3 z2) ∧ ((n ≤ 1000000) ∧ ((a1 < n) ∧ ((K a1 = .inl 15) ∧ ((l2 < n) ∧ (∀ G5 : pG, G5 = pup G l2 (l3).toNatClampNeg (.ref a1) → (a0 < n) ∧ ((K a0 = .inl 17) ∧ (∀ A6 : pA, A6 = pup A a0 2 (l3 + 1) → Q n K A6 Lg G5))))))))
theorem fJ5_add_2E_X18_J11_ok {Γ : jG} (a0 : Nat) (a1 : Nat) (Q : Nat → (Nat → pKd) → pA → pL → pG → Prop) (P : jO → pS → Prop) (hP : P = (fun o u => ∃ (n' : Nat) (K' : Nat → pKd) (A' : pA) (Lg' : pL) (G' : pG), o = .inl none ∧ u = (n', K', A', Lg', G') ∧ Q n' K' A' Lg' G'))   (l2 : Nat) (l3 : Int32) (n : Nat) (K : Nat → pKd) (A : pA) (Lg : pL) (G : pG) (kc : Nat) (ks : Nat) (h : fJ5_add_2E_X18_J11 a0 a1  Q l2 l3 n K A Lg G kc ks) : J Γ RJ5 cJ5_add_2 4 none "add" [] 3 kc ks 11 [(0, .ref a0), (1, .ref a1), (2, .ref l2), (3, .int l3)] [] (n, K, A, Lg, G) P := by
  unfold fJ5_add_2E_X18_J11 at h
  refine j_aload_n 2 rfl dJ5_add_2_11 ?_
  refine j_iload_n 3 rfl dJ5_add_2_12 ?_
  refine j_aload_n 1 rfl dJ5_add_2_13 ?_
  obtain ⟨z2, b3, h⟩ := h
  obtain ⟨b4, h⟩ := h
  obtain ⟨hn6, h⟩ := h
  obtain ⟨la1, h⟩ := h
  obtain ⟨ha1, h⟩ := h
  obtain ⟨b1, h⟩ := h
  refine j_aastE (t := 6) (j := (l3).toNatClampNeg) (C := "DogsHour$Dog") rfl rfl b1 b3 b4 rfl (j_l2 hn6 la1) (fun s9 H9 hK9 hR9 h69 => jIs_in hK9 hR9 h69 la1 ha1 rfl) (Or.inr (by decide)) dJ5_add_2_14 (fun G5 eG5 => ?_)
  replace h := h G5 eG5
  refine j_aload_n 0 rfl dJ5_add_2_15 ?_
  refine j_iload_n 3 rfl dJ5_add_2_16 ?_
  refine j_iconst (v := 1) dJ5_add_2_17 (by decide) ?_
  refine j_iadd dJ5_add_2_18 ?_
  obtain ⟨la0, h⟩ := h
  obtain ⟨ha0, h⟩ := h
  refine j_putfiE (fp_J5_48_17 _) rfl rfl rfl la0 ha0 dJ5_add_2_19 (fun A6 eA6 => ?_)
  replace h := h A6 eA6
  refine j_vret rfl ?_ dJ5_add_2_22
  rw [hP]
  exact ⟨n, K, A6, Lg, G5, rfl, rfl, h⟩
def fJ5_add_2E_X18 (a0 : Nat) (a1 : Nat) (n : Nat) (K : Nat → pKd) (A : pA) (Lg : pL) (G : pG) (kc : Nat) (ks : Nat) (p3 : Int32) (Q : Nat → (Nat → pKd) → pA → pL → pG → Prop) : Prop :=
    (if p3 = 0 then ∃ kY7 sY8 : Nat, kY7 ≤ kc ∧ sY8 ≤ ks ∧ ((n ≤ 1000000) ∧ ((a0 < n) ∧ ((K a0 = .inl 17) ∧ (fJ5_grow a0 n K A Lg G kY7 sY8 (fun r9 n10 K11 A12 Lg13 G14 => fJ5_add_2E_X18_J11 a0 a1  Q r9 p3 n10 K11 A12 Lg13 G14 (kc - kY7) (ks - sY8)))))) else fJ5_add_2E_X18_J11 a0 a1  Q 1000200 p3 n K A Lg G kc ks)
theorem tJ5_add_2E_X18 {Γ : jG} {n : Nat} {K : Nat → pKd} {G : pG} {A : pA} {Lg : pL} {kc ks : Nat} (a0 : Nat) (a1 : Nat) (p3 : Int32) (Q : Nat → (Nat → pKd) → pA → pL → pG → Prop) (h : fJ5_add_2E_X18 a0 a1 n K A Lg G kc ks p3 Q) : jMet Γ yJ5_add_2 cJ5_add_2 4 none [] 3 kc ks [.ref a0, .ref a1, .ref 1000200, .int p3] (n, K, A, Lg, G) (fun o u => ∃ (n' : Nat) (K' : Nat → pKd) (A' : pA) (Lg' : pL) (G' : pG), o = .inl none ∧ u = (n', K', A', Lg', G') ∧ Q n' K' A' Lg' G') := by
  unfold fJ5_add_2E_X18 at h
  obtain ⟨P, hP⟩ : ∃ P : jO → pS → Prop, P = (fun o u => ∃ (n' : Nat) (K' : Nat → pKd) (A' : pA) (Lg' : pL) (G' : pG), o = .inl none ∧ u = (n', K', A', Lg', G') ∧ Q n' K' A' Lg' G') := ⟨_, rfl⟩
  rw [← hP]
  refine jMet_of rfl rfl rfl (Nat.le_of_ble_eq_true rfl) ?_
  show J Γ RJ5 cJ5_add_2 4 none "add" [] 3 kc ks 0 [(0, .ref a0), (1, .ref a1), (2, .ref 1000200), (3, .int p3)] [] (n, K, A, Lg, G) P
  refine j_iload_n 3 rfl dJ5_add_2_0 ?_
  refine j_aload_n 2 rfl dJ5_add_2_1 ?_
  refine j_xlen0 dJ5_add_2_2 ?_
  refine j_icmp_ne (tgt := 11) dJ5_add_2_3 (by decide) (fun c => ?_) (fun c => ?_)
  · rw [if_neg c] at h
    exact fJ5_add_2E_X18_J11_ok  a0 a1 Q P hP   1000200 p3 n K A Lg G kc ks h
  · rw [if_pos c] at h
    refine j_aload_n 0 rfl dJ5_add_2_6 ?_
    obtain ⟨kY7, sY8, kY7h, sY8h, h⟩ := h
    obtain ⟨hn6, h⟩ := h
    obtain ⟨la0, h⟩ := h
    obtain ⟨ha0, h⟩ := h
    refine j_callV (b := a0) (As := []) (st := []) (C := RJ5) (kc' := kc - kY7) (ks' := ks - sY8) (tJ5_grow  a0 _ h) myJ5_grow rfl q1059 q1061 qs26 (j_l2 hn6 la0) (fun s9 H9 hK9 hR9 h69 => jIs_in hK9 hR9 h69 la0 ha0 rfl) rfl (Nat.le_of_ble_eq_true rfl) rfl (by decide) (by omega) (by omega) dJ5_add_2_7 (fun v9 u9 hq => ?_) (fun k9 u9 hq => by obtain ⟨_, _, _, _, _, _, e9, _⟩ := hq; cases e9)
    obtain ⟨r9, n10, K11, A12, Lg13, G14, e9, rfl, h⟩ := hq
    obtain rfl := Sum.inl.inj e9
    show J Γ RJ5 cJ5_add_2 4 none "add" [] 3 (kc - kY7) (ks - sY8) 10 [(0, .ref a0), (1, .ref a1), (2, .ref 1000200), (3, .int p3)] [.ref r9] (n10, K11, A12, Lg13, G14) P
    refine j_astore_n (by decide) rfl dJ5_add_2_10 ?_
    refine j_ls [1, 2, 0, 3] rfl ?_
    exact fJ5_add_2E_X18_J11_ok  a0 a1 Q P hP   r9 p3 n10 K11 A12 Lg13 G14 (kc - kY7) (ks - sY8) h

def fJ5_add_2I_X18_J11 (a0 : Nat) (a1 : Nat) (a2 : Nat) (z2 : Nat)  (Q : Nat → (Nat → pKd) → pA → pL → pG → Prop) (l2 : Nat) (l3 : Int32) (n : Nat) (K : Nat → pKd) (A : pA) (Lg : pL) (G : pG) (kc : Nat) (ks : Nat) : Prop :=
    ∃ z2 : Nat, K l2 = .inr (6, z2) ∧ ((vp_in l3 z2) ∧ ((n ≤ 1000000) ∧ ((a1 < n) ∧ ((K a1 = .inl 15) ∧ ((l2 < n) ∧ (∀ G5 : pG, G5 = pup G l2 (l3).toNatClampNeg (.ref a1) → (a0 < n) ∧ ((K a0 = .inl 17) ∧ (∀ A6 : pA, A6 = pup A a0 2 (l3 + 1) → Q n K A6 Lg G5))))))))
theorem fJ5_add_2I_X18_J11_ok {Γ : jG} (a0 : Nat) (a1 : Nat) (a2 : Nat) (z2 : Nat) (Q : Nat → (Nat → pKd) → pA → pL → pG → Prop) (P : jO → pS → Prop) (hP : P = (fun o u => ∃ (n' : Nat) (K' : Nat → pKd) (A' : pA) (Lg' : pL) (G' : pG), o = .inl none ∧ u = (n', K', A', Lg', G') ∧ Q n' K' A' Lg' G'))   (l2 : Nat) (l3 : Int32) (n : Nat) (K : Nat → pKd) (A : pA) (Lg : pL) (G : pG) (kc : Nat) (ks : Nat) (h : fJ5_add_2I_X18_J11 a0 a1 a2 z2  Q l2 l3 n K A Lg G kc ks) : J Γ RJ5 cJ5_add_2 4 none "add" [] 3 kc ks 11 [(0, .ref a0), (1, .ref a1), (2, .ref l2), (3, .int l3)] [] (n, K, A, Lg, G) P := by
  unfold fJ5_add_2I_X18_J11 at h
  refine j_aload_n 2 rfl dJ5_add_2_11 ?_
  refine j_iload_n 3 rfl dJ5_add_2_12 ?_
  refine j_aload_n 1 rfl dJ5_add_2_13 ?_
  obtain ⟨z2, b3, h⟩ := h
  obtain ⟨b4, h⟩ := h
  obtain ⟨hn6, h⟩ := h
  obtain ⟨la1, h⟩ := h
  obtain ⟨ha1, h⟩ := h
  obtain ⟨b1, h⟩ := h
  refine j_aastE (t := 6) (j := (l3).toNatClampNeg) (C := "DogsHour$Dog") rfl rfl b1 b3 b4 rfl (j_l2 hn6 la1) (fun s9 H9 hK9 hR9 h69 => jIs_in hK9 hR9 h69 la1 ha1 rfl) (Or.inr (by decide)) dJ5_add_2_14 (fun G5 eG5 => ?_)
  replace h := h G5 eG5
  refine j_aload_n 0 rfl dJ5_add_2_15 ?_
  refine j_iload_n 3 rfl dJ5_add_2_16 ?_
  refine j_iconst (v := 1) dJ5_add_2_17 (by decide) ?_
  refine j_iadd dJ5_add_2_18 ?_
  obtain ⟨la0, h⟩ := h
  obtain ⟨ha0, h⟩ := h
  refine j_putfiE (fp_J5_48_17 _) rfl rfl rfl la0 ha0 dJ5_add_2_19 (fun A6 eA6 => ?_)
  replace h := h A6 eA6
  refine j_vret rfl ?_ dJ5_add_2_22
  rw [hP]
  exact ⟨n, K, A6, Lg, G5, rfl, rfl, h⟩
def fJ5_add_2I_X18 (a0 : Nat) (a1 : Nat) (a2 : Nat) (z2 : Nat) (n : Nat) (K : Nat → pKd) (A : pA) (Lg : pL) (G : pG) (kc : Nat) (ks : Nat) (p3 : Int32) (Q : Nat → (Nat → pKd) → pA → pL → pG → Prop) : Prop :=
    (a2 < n) ∧ ((K a2 = .inr (6, z2)) ∧ ((if p3 = (Int32.ofNat z2) then False else fJ5_add_2I_X18_J11 a0 a1 a2 z2  Q a2 p3 n K A Lg G kc ks)))
theorem tJ5_add_2I_X18 {Γ : jG} {n : Nat} {K : Nat → pKd} {G : pG} {A : pA} {Lg : pL} {kc ks : Nat} (a0 : Nat) (a1 : Nat) (a2 : Nat) (z2 : Nat) (p3 : Int32) (Q : Nat → (Nat → pKd) → pA → pL → pG → Prop) (h : fJ5_add_2I_X18 a0 a1 a2 z2 n K A Lg G kc ks p3 Q) : jMet Γ yJ5_add_2 cJ5_add_2 4 none [] 3 kc ks [.ref a0, .ref a1, .ref a2, .int p3] (n, K, A, Lg, G) (fun o u => ∃ (n' : Nat) (K' : Nat → pKd) (A' : pA) (Lg' : pL) (G' : pG), o = .inl none ∧ u = (n', K', A', Lg', G') ∧ Q n' K' A' Lg' G') := by
  unfold fJ5_add_2I_X18 at h
  obtain ⟨P, hP⟩ : ∃ P : jO → pS → Prop, P = (fun o u => ∃ (n' : Nat) (K' : Nat → pKd) (A' : pA) (Lg' : pL) (G' : pG), o = .inl none ∧ u = (n', K', A', Lg', G') ∧ Q n' K' A' Lg' G') := ⟨_, rfl⟩
  rw [← hP]
  refine jMet_of rfl rfl rfl (Nat.le_of_ble_eq_true rfl) ?_
  show J Γ RJ5 cJ5_add_2 4 none "add" [] 3 kc ks 0 [(0, .ref a0), (1, .ref a1), (2, .ref a2), (3, .int p3)] [] (n, K, A, Lg, G) P
  refine j_iload_n 3 rfl dJ5_add_2_0 ?_
  refine j_aload_n 2 rfl dJ5_add_2_1 ?_
  obtain ⟨la2, h⟩ := h
  obtain ⟨ha2, h⟩ := h
  refine j_alen (t := 6) rfl la2 ha2 dJ5_add_2_2 ?_
  refine j_icmp_ne (tgt := 11) dJ5_add_2_3 (by decide) (fun c => ?_) (fun c => ?_)
  · rw [if_neg c] at h
    exact fJ5_add_2I_X18_J11_ok  a0 a1 a2 z2 Q P hP   a2 p3 n K A Lg G kc ks h
  · rw [if_pos c] at h
    exact h.elim

def fJ5_addE_X18 (a0 : Nat) (a1 : Nat) (n : Nat) (K : Nat → pKd) (A : pA) (Lg : pL) (G : pG) (kc : Nat) (ks : Nat) (Q : Int32 → Nat → (Nat → pKd) → pA → pL → pG → Prop) : Prop :=
    (a0 < n) ∧ ((K a0 = .inl 17) ∧ (∀ A1 : pA, A1 = pup A a0 0 ((A a0 0) + 1) → (G a0 1 = .ref 1000200) ∧ (∃ kY2 sY3 : Nat, kY2 ≤ kc ∧ sY3 ≤ ks ∧ ((n ≤ 1000000) ∧ (fJ5_add_2E_X18 a0 a1 n K A1 Lg G kY2 sY3 (A1 a0 2) (fun n4 K5 A6 Lg7 G8 => Q 1 n4 K5 A6 Lg7 G8))))))
theorem tJ5_addE_X18 {Γ : jG} {n : Nat} {K : Nat → pKd} {G : pG} {A : pA} {Lg : pL} {kc ks : Nat} (a0 : Nat) (a1 : Nat)  (Q : Int32 → Nat → (Nat → pKd) → pA → pL → pG → Prop) (h : fJ5_addE_X18 a0 a1 n K A Lg G kc ks Q) : jMet Γ yJ5_add cJ5_add 2 (some .boolean) [] 4 kc ks [.ref a0, .ref a1] (n, K, A, Lg, G) (fun o u => ∃ (r : Int32) (n' : Nat) (K' : Nat → pKd) (A' : pA) (Lg' : pL) (G' : pG), o = .inl (some (.int r)) ∧ u = (n', K', A', Lg', G') ∧ Q r n' K' A' Lg' G') := by
  unfold fJ5_addE_X18 at h
  obtain ⟨P, hP⟩ : ∃ P : jO → pS → Prop, P = (fun o u => ∃ (r : Int32) (n' : Nat) (K' : Nat → pKd) (A' : pA) (Lg' : pL) (G' : pG), o = .inl (some (.int r)) ∧ u = (n', K', A', Lg', G') ∧ Q r n' K' A' Lg' G') := ⟨_, rfl⟩
  rw [← hP]
  refine jMet_of rfl rfl rfl (Nat.le_of_ble_eq_true rfl) ?_
  show J Γ RJ5 cJ5_add 2 (some .boolean) "add" [] 4 kc ks 0 [(0, .ref a0), (1, .ref a1)] [] (n, K, A, Lg, G) P
  refine j_aload_n 0 rfl dJ5_add_0 ?_
  refine j_dup rfl dJ5_add_1 ?_
  obtain ⟨la0, h⟩ := h
  obtain ⟨ha0, h⟩ := h
  refine j_getfi fl_J5_63_17 rfl la0 ha0 dJ5_add_2 ?_
  refine j_iconst (v := 1) dJ5_add_5 (by decide) ?_
  refine j_iadd dJ5_add_6 ?_
  refine j_putfiE (fp_J5_63_17 _) rfl rfl rfl la0 ha0 dJ5_add_7 (fun A1 eA1 => ?_)
  replace h := h A1 eA1
  refine j_aload_n 0 rfl dJ5_add_10 ?_
  refine j_aload_n 1 rfl dJ5_add_11 ?_
  refine j_aload_n 0 rfl dJ5_add_12 ?_
  obtain ⟨ea0, h⟩ := h
  refine j_getfr fl_J5_9_17 rfl la0 ha0 ea0 dJ5_add_13 ?_
  refine j_aload_n 0 rfl dJ5_add_16 ?_
  refine j_getfi fl_J5_48_17 rfl la0 ha0 dJ5_add_17 ?_
  obtain ⟨kY2, sY3, kY2h, sY3h, h⟩ := h
  obtain ⟨hn6, h⟩ := h
  refine j_callV (b := a0) (As := [.ref a1, .ref 1000200, .int (A1 a0 2)]) (st := []) (C := RJ5) (kc' := kc - kY2) (ks' := ks - sY3) (tJ5_add_2E_X18  a0 a1 (A1 a0 2) _ h) myJ5_add_2 rfl q1055 q1057 qs25 (j_l2 hn6 la0) (fun s9 H9 hK9 hR9 h69 => jIs_in hK9 hR9 h69 la0 ha0 rfl) rfl (Nat.le_of_ble_eq_true rfl) rfl (by decide) (by omega) (by omega) dJ5_add_20 (fun v9 u9 hq => ?_) (fun k9 u9 hq => by obtain ⟨_, _, _, _, _, e9, _⟩ := hq; cases e9)
  obtain ⟨n4, K5, A6, Lg7, G8, e9, rfl, h⟩ := hq
  obtain rfl := Sum.inl.inj e9
  show J Γ RJ5 cJ5_add 2 (some .boolean) "add" [] 4 (kc - kY2) (ks - sY3) 23 [(0, .ref a0), (1, .ref a1)] [] (n4, K5, A6, Lg7, G8) P
  refine j_iconst (v := 1) dJ5_add_23 (by decide) ?_
  refine j_zret rfl (by decide) ?_ dJ5_add_24
  rw [hP]
  exact ⟨1, n4, K5, A6, Lg7, G8, rfl, rfl, h⟩

def fJ5_addI_X18 (a0 : Nat) (a1 : Nat) (n : Nat) (K : Nat → pKd) (A : pA) (Lg : pL) (G : pG) (kc : Nat) (ks : Nat) (Q : Int32 → Nat → (Nat → pKd) → pA → pL → pG → Prop) : Prop :=
    (a0 < n) ∧ ((K a0 = .inl 17) ∧ (∀ A1 : pA, A1 = pup A a0 0 ((A a0 0) + 1) → ∃ e2 : Nat, G a0 1 = .ref e2 ∧ (∃ z4 : Nat, K e2 = .inr (6, z4) ∧ (∃ kY6 sY7 : Nat, kY6 ≤ kc ∧ sY7 ≤ ks ∧ ((n ≤ 1000000) ∧ (fJ5_add_2I_X18 a0 a1 e2 z4 n K A1 Lg G kY6 sY7 (A1 a0 2) (fun n8 K9 A10 Lg11 G12 => Q 1 n8 K9 A10 Lg11 G12)))))))
theorem tJ5_addI_X18 {Γ : jG} {n : Nat} {K : Nat → pKd} {G : pG} {A : pA} {Lg : pL} {kc ks : Nat} (a0 : Nat) (a1 : Nat)  (Q : Int32 → Nat → (Nat → pKd) → pA → pL → pG → Prop) (h : fJ5_addI_X18 a0 a1 n K A Lg G kc ks Q) : jMet Γ yJ5_add cJ5_add 2 (some .boolean) [] 4 kc ks [.ref a0, .ref a1] (n, K, A, Lg, G) (fun o u => ∃ (r : Int32) (n' : Nat) (K' : Nat → pKd) (A' : pA) (Lg' : pL) (G' : pG), o = .inl (some (.int r)) ∧ u = (n', K', A', Lg', G') ∧ Q r n' K' A' Lg' G') := by
  unfold fJ5_addI_X18 at h
  obtain ⟨P, hP⟩ : ∃ P : jO → pS → Prop, P = (fun o u => ∃ (r : Int32) (n' : Nat) (K' : Nat → pKd) (A' : pA) (Lg' : pL) (G' : pG), o = .inl (some (.int r)) ∧ u = (n', K', A', Lg', G') ∧ Q r n' K' A' Lg' G') := ⟨_, rfl⟩
  rw [← hP]
  refine jMet_of rfl rfl rfl (Nat.le_of_ble_eq_true rfl) ?_
  show J Γ RJ5 cJ5_add 2 (some .boolean) "add" [] 4 kc ks 0 [(0, .ref a0), (1, .ref a1)] [] (n, K, A, Lg, G) P
  refine j_aload_n 0 rfl dJ5_add_0 ?_
  refine j_dup rfl dJ5_add_1 ?_
  obtain ⟨la0, h⟩ := h
  obtain ⟨ha0, h⟩ := h
  refine j_getfi fl_J5_63_17 rfl la0 ha0 dJ5_add_2 ?_
  refine j_iconst (v := 1) dJ5_add_5 (by decide) ?_
  refine j_iadd dJ5_add_6 ?_
  refine j_putfiE (fp_J5_63_17 _) rfl rfl rfl la0 ha0 dJ5_add_7 (fun A1 eA1 => ?_)
  replace h := h A1 eA1
  refine j_aload_n 0 rfl dJ5_add_10 ?_
  refine j_aload_n 1 rfl dJ5_add_11 ?_
  refine j_aload_n 0 rfl dJ5_add_12 ?_
  obtain ⟨e2, e2h, h⟩ := h
  refine j_getfr fl_J5_9_17 rfl la0 ha0 e2h dJ5_add_13 ?_
  refine j_aload_n 0 rfl dJ5_add_16 ?_
  refine j_getfi fl_J5_48_17 rfl la0 ha0 dJ5_add_17 ?_
  obtain ⟨z4, b5, h⟩ := h
  obtain ⟨kY6, sY7, kY6h, sY7h, h⟩ := h
  obtain ⟨hn6, h⟩ := h
  refine j_callV (b := a0) (As := [.ref a1, .ref e2, .int (A1 a0 2)]) (st := []) (C := RJ5) (kc' := kc - kY6) (ks' := ks - sY7) (tJ5_add_2I_X18  a0 a1 e2 z4 (A1 a0 2) _ h) myJ5_add_2 rfl q1055 q1057 qs25 (j_l2 hn6 la0) (fun s9 H9 hK9 hR9 h69 => jIs_in hK9 hR9 h69 la0 ha0 rfl) rfl (Nat.le_of_ble_eq_true rfl) rfl (by decide) (by omega) (by omega) dJ5_add_20 (fun v9 u9 hq => ?_) (fun k9 u9 hq => by obtain ⟨_, _, _, _, _, e9, _⟩ := hq; cases e9)
  obtain ⟨n8, K9, A10, Lg11, G12, e9, rfl, h⟩ := hq
  obtain rfl := Sum.inl.inj e9
  show J Γ RJ5 cJ5_add 2 (some .boolean) "add" [] 4 (kc - kY6) (ks - sY7) 23 [(0, .ref a0), (1, .ref a1)] [] (n8, K9, A10, Lg11, G12) P
  refine j_iconst (v := 1) dJ5_add_23 (by decide) ?_
  refine j_zret rfl (by decide) ?_ dJ5_add_24
  rw [hP]
  exact ⟨1, n8, K9, A10, Lg11, G12, rfl, rfl, h⟩

def fJ5_add_2E_X19_J11 (a0 : Nat) (a1 : Nat)  (Q : Nat → (Nat → pKd) → pA → pL → pG → Prop) (l2 : Nat) (l3 : Int32) (n : Nat) (K : Nat → pKd) (A : pA) (Lg : pL) (G : pG) (kc : Nat) (ks : Nat) : Prop :=
    ∃ z2 : Nat, K l2 = .inr (6, z2) ∧ ((vp_in l3 z2) ∧ ((n ≤ 1000000) ∧ ((a1 < n) ∧ ((K a1 = .inl 16) ∧ ((l2 < n) ∧ (∀ G5 : pG, G5 = pup G l2 (l3).toNatClampNeg (.ref a1) → (a0 < n) ∧ ((K a0 = .inl 17) ∧ (∀ A6 : pA, A6 = pup A a0 2 (l3 + 1) → Q n K A6 Lg G5))))))))
theorem fJ5_add_2E_X19_J11_ok {Γ : jG} (a0 : Nat) (a1 : Nat) (Q : Nat → (Nat → pKd) → pA → pL → pG → Prop) (P : jO → pS → Prop) (hP : P = (fun o u => ∃ (n' : Nat) (K' : Nat → pKd) (A' : pA) (Lg' : pL) (G' : pG), o = .inl none ∧ u = (n', K', A', Lg', G') ∧ Q n' K' A' Lg' G'))   (l2 : Nat) (l3 : Int32) (n : Nat) (K : Nat → pKd) (A : pA) (Lg : pL) (G : pG) (kc : Nat) (ks : Nat) (h : fJ5_add_2E_X19_J11 a0 a1  Q l2 l3 n K A Lg G kc ks) : J Γ RJ5 cJ5_add_2 4 none "add" [] 3 kc ks 11 [(0, .ref a0), (1, .ref a1), (2, .ref l2), (3, .int l3)] [] (n, K, A, Lg, G) P := by
  unfold fJ5_add_2E_X19_J11 at h
  refine j_aload_n 2 rfl dJ5_add_2_11 ?_
  refine j_iload_n 3 rfl dJ5_add_2_12 ?_
  refine j_aload_n 1 rfl dJ5_add_2_13 ?_
  obtain ⟨z2, b3, h⟩ := h
  obtain ⟨b4, h⟩ := h
  obtain ⟨hn6, h⟩ := h
  obtain ⟨la1, h⟩ := h
  obtain ⟨ha1, h⟩ := h
  obtain ⟨b1, h⟩ := h
  refine j_aastE (t := 6) (j := (l3).toNatClampNeg) (C := "DogsHour$Person") rfl rfl b1 b3 b4 rfl (j_l2 hn6 la1) (fun s9 H9 hK9 hR9 h69 => jIs_in hK9 hR9 h69 la1 ha1 rfl) (Or.inr (by decide)) dJ5_add_2_14 (fun G5 eG5 => ?_)
  replace h := h G5 eG5
  refine j_aload_n 0 rfl dJ5_add_2_15 ?_
  refine j_iload_n 3 rfl dJ5_add_2_16 ?_
  refine j_iconst (v := 1) dJ5_add_2_17 (by decide) ?_
  refine j_iadd dJ5_add_2_18 ?_
  obtain ⟨la0, h⟩ := h
  obtain ⟨ha0, h⟩ := h
  refine j_putfiE (fp_J5_48_17 _) rfl rfl rfl la0 ha0 dJ5_add_2_19 (fun A6 eA6 => ?_)
  replace h := h A6 eA6
  refine j_vret rfl ?_ dJ5_add_2_22
  rw [hP]
  exact ⟨n, K, A6, Lg, G5, rfl, rfl, h⟩
def fJ5_add_2E_X19 (a0 : Nat) (a1 : Nat) (n : Nat) (K : Nat → pKd) (A : pA) (Lg : pL) (G : pG) (kc : Nat) (ks : Nat) (p3 : Int32) (Q : Nat → (Nat → pKd) → pA → pL → pG → Prop) : Prop :=
    (if p3 = 0 then ∃ kY7 sY8 : Nat, kY7 ≤ kc ∧ sY8 ≤ ks ∧ ((n ≤ 1000000) ∧ ((a0 < n) ∧ ((K a0 = .inl 17) ∧ (fJ5_grow a0 n K A Lg G kY7 sY8 (fun r9 n10 K11 A12 Lg13 G14 => fJ5_add_2E_X19_J11 a0 a1  Q r9 p3 n10 K11 A12 Lg13 G14 (kc - kY7) (ks - sY8)))))) else fJ5_add_2E_X19_J11 a0 a1  Q 1000200 p3 n K A Lg G kc ks)
theorem tJ5_add_2E_X19 {Γ : jG} {n : Nat} {K : Nat → pKd} {G : pG} {A : pA} {Lg : pL} {kc ks : Nat} (a0 : Nat) (a1 : Nat) (p3 : Int32) (Q : Nat → (Nat → pKd) → pA → pL → pG → Prop) (h : fJ5_add_2E_X19 a0 a1 n K A Lg G kc ks p3 Q) : jMet Γ yJ5_add_2 cJ5_add_2 4 none [] 3 kc ks [.ref a0, .ref a1, .ref 1000200, .int p3] (n, K, A, Lg, G) (fun o u => ∃ (n' : Nat) (K' : Nat → pKd) (A' : pA) (Lg' : pL) (G' : pG), o = .inl none ∧ u = (n', K', A', Lg', G') ∧ Q n' K' A' Lg' G') := by
  unfold fJ5_add_2E_X19 at h
  obtain ⟨P, hP⟩ : ∃ P : jO → pS → Prop, P = (fun o u => ∃ (n' : Nat) (K' : Nat → pKd) (A' : pA) (Lg' : pL) (G' : pG), o = .inl none ∧ u = (n', K', A', Lg', G') ∧ Q n' K' A' Lg' G') := ⟨_, rfl⟩
  rw [← hP]
  refine jMet_of rfl rfl rfl (Nat.le_of_ble_eq_true rfl) ?_
  show J Γ RJ5 cJ5_add_2 4 none "add" [] 3 kc ks 0 [(0, .ref a0), (1, .ref a1), (2, .ref 1000200), (3, .int p3)] [] (n, K, A, Lg, G) P
  refine j_iload_n 3 rfl dJ5_add_2_0 ?_
  refine j_aload_n 2 rfl dJ5_add_2_1 ?_
  refine j_xlen0 dJ5_add_2_2 ?_
  refine j_icmp_ne (tgt := 11) dJ5_add_2_3 (by decide) (fun c => ?_) (fun c => ?_)
  · rw [if_neg c] at h
    exact fJ5_add_2E_X19_J11_ok  a0 a1 Q P hP   1000200 p3 n K A Lg G kc ks h
  · rw [if_pos c] at h
    refine j_aload_n 0 rfl dJ5_add_2_6 ?_
    obtain ⟨kY7, sY8, kY7h, sY8h, h⟩ := h
    obtain ⟨hn6, h⟩ := h
    obtain ⟨la0, h⟩ := h
    obtain ⟨ha0, h⟩ := h
    refine j_callV (b := a0) (As := []) (st := []) (C := RJ5) (kc' := kc - kY7) (ks' := ks - sY8) (tJ5_grow  a0 _ h) myJ5_grow rfl q1059 q1061 qs26 (j_l2 hn6 la0) (fun s9 H9 hK9 hR9 h69 => jIs_in hK9 hR9 h69 la0 ha0 rfl) rfl (Nat.le_of_ble_eq_true rfl) rfl (by decide) (by omega) (by omega) dJ5_add_2_7 (fun v9 u9 hq => ?_) (fun k9 u9 hq => by obtain ⟨_, _, _, _, _, _, e9, _⟩ := hq; cases e9)
    obtain ⟨r9, n10, K11, A12, Lg13, G14, e9, rfl, h⟩ := hq
    obtain rfl := Sum.inl.inj e9
    show J Γ RJ5 cJ5_add_2 4 none "add" [] 3 (kc - kY7) (ks - sY8) 10 [(0, .ref a0), (1, .ref a1), (2, .ref 1000200), (3, .int p3)] [.ref r9] (n10, K11, A12, Lg13, G14) P
    refine j_astore_n (by decide) rfl dJ5_add_2_10 ?_
    refine j_ls [1, 2, 0, 3] rfl ?_
    exact fJ5_add_2E_X19_J11_ok  a0 a1 Q P hP   r9 p3 n10 K11 A12 Lg13 G14 (kc - kY7) (ks - sY8) h

def fJ5_add_2I_X19_J11 (a0 : Nat) (a1 : Nat) (a2 : Nat) (z2 : Nat)  (Q : Nat → (Nat → pKd) → pA → pL → pG → Prop) (l2 : Nat) (l3 : Int32) (n : Nat) (K : Nat → pKd) (A : pA) (Lg : pL) (G : pG) (kc : Nat) (ks : Nat) : Prop :=
    ∃ z2 : Nat, K l2 = .inr (6, z2) ∧ ((vp_in l3 z2) ∧ ((n ≤ 1000000) ∧ ((a1 < n) ∧ ((K a1 = .inl 16) ∧ ((l2 < n) ∧ (∀ G5 : pG, G5 = pup G l2 (l3).toNatClampNeg (.ref a1) → (a0 < n) ∧ ((K a0 = .inl 17) ∧ (∀ A6 : pA, A6 = pup A a0 2 (l3 + 1) → Q n K A6 Lg G5))))))))
theorem fJ5_add_2I_X19_J11_ok {Γ : jG} (a0 : Nat) (a1 : Nat) (a2 : Nat) (z2 : Nat) (Q : Nat → (Nat → pKd) → pA → pL → pG → Prop) (P : jO → pS → Prop) (hP : P = (fun o u => ∃ (n' : Nat) (K' : Nat → pKd) (A' : pA) (Lg' : pL) (G' : pG), o = .inl none ∧ u = (n', K', A', Lg', G') ∧ Q n' K' A' Lg' G'))   (l2 : Nat) (l3 : Int32) (n : Nat) (K : Nat → pKd) (A : pA) (Lg : pL) (G : pG) (kc : Nat) (ks : Nat) (h : fJ5_add_2I_X19_J11 a0 a1 a2 z2  Q l2 l3 n K A Lg G kc ks) : J Γ RJ5 cJ5_add_2 4 none "add" [] 3 kc ks 11 [(0, .ref a0), (1, .ref a1), (2, .ref l2), (3, .int l3)] [] (n, K, A, Lg, G) P := by
  unfold fJ5_add_2I_X19_J11 at h
  refine j_aload_n 2 rfl dJ5_add_2_11 ?_
  refine j_iload_n 3 rfl dJ5_add_2_12 ?_
  refine j_aload_n 1 rfl dJ5_add_2_13 ?_
  obtain ⟨z2, b3, h⟩ := h
  obtain ⟨b4, h⟩ := h
  obtain ⟨hn6, h⟩ := h
  obtain ⟨la1, h⟩ := h
  obtain ⟨ha1, h⟩ := h
  obtain ⟨b1, h⟩ := h
  refine j_aastE (t := 6) (j := (l3).toNatClampNeg) (C := "DogsHour$Person") rfl rfl b1 b3 b4 rfl (j_l2 hn6 la1) (fun s9 H9 hK9 hR9 h69 => jIs_in hK9 hR9 h69 la1 ha1 rfl) (Or.inr (by decide)) dJ5_add_2_14 (fun G5 eG5 => ?_)
  replace h := h G5 eG5
  refine j_aload_n 0 rfl dJ5_add_2_15 ?_
  refine j_iload_n 3 rfl dJ5_add_2_16 ?_
  refine j_iconst (v := 1) dJ5_add_2_17 (by decide) ?_
  refine j_iadd dJ5_add_2_18 ?_
  obtain ⟨la0, h⟩ := h
  obtain ⟨ha0, h⟩ := h
  refine j_putfiE (fp_J5_48_17 _) rfl rfl rfl la0 ha0 dJ5_add_2_19 (fun A6 eA6 => ?_)
  replace h := h A6 eA6
  refine j_vret rfl ?_ dJ5_add_2_22
  rw [hP]
  exact ⟨n, K, A6, Lg, G5, rfl, rfl, h⟩
def fJ5_add_2I_X19 (a0 : Nat) (a1 : Nat) (a2 : Nat) (z2 : Nat) (n : Nat) (K : Nat → pKd) (A : pA) (Lg : pL) (G : pG) (kc : Nat) (ks : Nat) (p3 : Int32) (Q : Nat → (Nat → pKd) → pA → pL → pG → Prop) : Prop :=
    (a2 < n) ∧ ((K a2 = .inr (6, z2)) ∧ ((if p3 = (Int32.ofNat z2) then False else fJ5_add_2I_X19_J11 a0 a1 a2 z2  Q a2 p3 n K A Lg G kc ks)))
theorem tJ5_add_2I_X19 {Γ : jG} {n : Nat} {K : Nat → pKd} {G : pG} {A : pA} {Lg : pL} {kc ks : Nat} (a0 : Nat) (a1 : Nat) (a2 : Nat) (z2 : Nat) (p3 : Int32) (Q : Nat → (Nat → pKd) → pA → pL → pG → Prop) (h : fJ5_add_2I_X19 a0 a1 a2 z2 n K A Lg G kc ks p3 Q) : jMet Γ yJ5_add_2 cJ5_add_2 4 none [] 3 kc ks [.ref a0, .ref a1, .ref a2, .int p3] (n, K, A, Lg, G) (fun o u => ∃ (n' : Nat) (K' : Nat → pKd) (A' : pA) (Lg' : pL) (G' : pG), o = .inl none ∧ u = (n', K', A', Lg', G') ∧ Q n' K' A' Lg' G') := by
  unfold fJ5_add_2I_X19 at h
  obtain ⟨P, hP⟩ : ∃ P : jO → pS → Prop, P = (fun o u => ∃ (n' : Nat) (K' : Nat → pKd) (A' : pA) (Lg' : pL) (G' : pG), o = .inl none ∧ u = (n', K', A', Lg', G') ∧ Q n' K' A' Lg' G') := ⟨_, rfl⟩
  rw [← hP]
  refine jMet_of rfl rfl rfl (Nat.le_of_ble_eq_true rfl) ?_
  show J Γ RJ5 cJ5_add_2 4 none "add" [] 3 kc ks 0 [(0, .ref a0), (1, .ref a1), (2, .ref a2), (3, .int p3)] [] (n, K, A, Lg, G) P
  refine j_iload_n 3 rfl dJ5_add_2_0 ?_
  refine j_aload_n 2 rfl dJ5_add_2_1 ?_
  obtain ⟨la2, h⟩ := h
  obtain ⟨ha2, h⟩ := h
  refine j_alen (t := 6) rfl la2 ha2 dJ5_add_2_2 ?_
  refine j_icmp_ne (tgt := 11) dJ5_add_2_3 (by decide) (fun c => ?_) (fun c => ?_)
  · rw [if_neg c] at h
    exact fJ5_add_2I_X19_J11_ok  a0 a1 a2 z2 Q P hP   a2 p3 n K A Lg G kc ks h
  · rw [if_pos c] at h
    exact h.elim

def fJ5_addE_X19 (a0 : Nat) (a1 : Nat) (n : Nat) (K : Nat → pKd) (A : pA) (Lg : pL) (G : pG) (kc : Nat) (ks : Nat) (Q : Int32 → Nat → (Nat → pKd) → pA → pL → pG → Prop) : Prop :=
    (a0 < n) ∧ ((K a0 = .inl 17) ∧ (∀ A1 : pA, A1 = pup A a0 0 ((A a0 0) + 1) → (G a0 1 = .ref 1000200) ∧ (∃ kY2 sY3 : Nat, kY2 ≤ kc ∧ sY3 ≤ ks ∧ ((n ≤ 1000000) ∧ (fJ5_add_2E_X19 a0 a1 n K A1 Lg G kY2 sY3 (A1 a0 2) (fun n4 K5 A6 Lg7 G8 => Q 1 n4 K5 A6 Lg7 G8))))))
theorem tJ5_addE_X19 {Γ : jG} {n : Nat} {K : Nat → pKd} {G : pG} {A : pA} {Lg : pL} {kc ks : Nat} (a0 : Nat) (a1 : Nat)  (Q : Int32 → Nat → (Nat → pKd) → pA → pL → pG → Prop) (h : fJ5_addE_X19 a0 a1 n K A Lg G kc ks Q) : jMet Γ yJ5_add cJ5_add 2 (some .boolean) [] 4 kc ks [.ref a0, .ref a1] (n, K, A, Lg, G) (fun o u => ∃ (r : Int32) (n' : Nat) (K' : Nat → pKd) (A' : pA) (Lg' : pL) (G' : pG), o = .inl (some (.int r)) ∧ u = (n', K', A', Lg', G') ∧ Q r n' K' A' Lg' G') := by
  unfold fJ5_addE_X19 at h
  obtain ⟨P, hP⟩ : ∃ P : jO → pS → Prop, P = (fun o u => ∃ (r : Int32) (n' : Nat) (K' : Nat → pKd) (A' : pA) (Lg' : pL) (G' : pG), o = .inl (some (.int r)) ∧ u = (n', K', A', Lg', G') ∧ Q r n' K' A' Lg' G') := ⟨_, rfl⟩
  rw [← hP]
  refine jMet_of rfl rfl rfl (Nat.le_of_ble_eq_true rfl) ?_
  show J Γ RJ5 cJ5_add 2 (some .boolean) "add" [] 4 kc ks 0 [(0, .ref a0), (1, .ref a1)] [] (n, K, A, Lg, G) P
  refine j_aload_n 0 rfl dJ5_add_0 ?_
  refine j_dup rfl dJ5_add_1 ?_
  obtain ⟨la0, h⟩ := h
  obtain ⟨ha0, h⟩ := h
  refine j_getfi fl_J5_63_17 rfl la0 ha0 dJ5_add_2 ?_
  refine j_iconst (v := 1) dJ5_add_5 (by decide) ?_
  refine j_iadd dJ5_add_6 ?_
  refine j_putfiE (fp_J5_63_17 _) rfl rfl rfl la0 ha0 dJ5_add_7 (fun A1 eA1 => ?_)
  replace h := h A1 eA1
  refine j_aload_n 0 rfl dJ5_add_10 ?_
  refine j_aload_n 1 rfl dJ5_add_11 ?_
  refine j_aload_n 0 rfl dJ5_add_12 ?_
  obtain ⟨ea0, h⟩ := h
  refine j_getfr fl_J5_9_17 rfl la0 ha0 ea0 dJ5_add_13 ?_
  refine j_aload_n 0 rfl dJ5_add_16 ?_
  refine j_getfi fl_J5_48_17 rfl la0 ha0 dJ5_add_17 ?_
  obtain ⟨kY2, sY3, kY2h, sY3h, h⟩ := h
  obtain ⟨hn6, h⟩ := h
  refine j_callV (b := a0) (As := [.ref a1, .ref 1000200, .int (A1 a0 2)]) (st := []) (C := RJ5) (kc' := kc - kY2) (ks' := ks - sY3) (tJ5_add_2E_X19  a0 a1 (A1 a0 2) _ h) myJ5_add_2 rfl q1055 q1057 qs25 (j_l2 hn6 la0) (fun s9 H9 hK9 hR9 h69 => jIs_in hK9 hR9 h69 la0 ha0 rfl) rfl (Nat.le_of_ble_eq_true rfl) rfl (by decide) (by omega) (by omega) dJ5_add_20 (fun v9 u9 hq => ?_) (fun k9 u9 hq => by obtain ⟨_, _, _, _, _, e9, _⟩ := hq; cases e9)
  obtain ⟨n4, K5, A6, Lg7, G8, e9, rfl, h⟩ := hq
  obtain rfl := Sum.inl.inj e9
  show J Γ RJ5 cJ5_add 2 (some .boolean) "add" [] 4 (kc - kY2) (ks - sY3) 23 [(0, .ref a0), (1, .ref a1)] [] (n4, K5, A6, Lg7, G8) P
  refine j_iconst (v := 1) dJ5_add_23 (by decide) ?_
  refine j_zret rfl (by decide) ?_ dJ5_add_24
  rw [hP]
  exact ⟨1, n4, K5, A6, Lg7, G8, rfl, rfl, h⟩

def fJ5_addI_X19 (a0 : Nat) (a1 : Nat) (n : Nat) (K : Nat → pKd) (A : pA) (Lg : pL) (G : pG) (kc : Nat) (ks : Nat) (Q : Int32 → Nat → (Nat → pKd) → pA → pL → pG → Prop) : Prop :=
    (a0 < n) ∧ ((K a0 = .inl 17) ∧ (∀ A1 : pA, A1 = pup A a0 0 ((A a0 0) + 1) → ∃ e2 : Nat, G a0 1 = .ref e2 ∧ (∃ z4 : Nat, K e2 = .inr (6, z4) ∧ (∃ kY6 sY7 : Nat, kY6 ≤ kc ∧ sY7 ≤ ks ∧ ((n ≤ 1000000) ∧ (fJ5_add_2I_X19 a0 a1 e2 z4 n K A1 Lg G kY6 sY7 (A1 a0 2) (fun n8 K9 A10 Lg11 G12 => Q 1 n8 K9 A10 Lg11 G12)))))))
theorem tJ5_addI_X19 {Γ : jG} {n : Nat} {K : Nat → pKd} {G : pG} {A : pA} {Lg : pL} {kc ks : Nat} (a0 : Nat) (a1 : Nat)  (Q : Int32 → Nat → (Nat → pKd) → pA → pL → pG → Prop) (h : fJ5_addI_X19 a0 a1 n K A Lg G kc ks Q) : jMet Γ yJ5_add cJ5_add 2 (some .boolean) [] 4 kc ks [.ref a0, .ref a1] (n, K, A, Lg, G) (fun o u => ∃ (r : Int32) (n' : Nat) (K' : Nat → pKd) (A' : pA) (Lg' : pL) (G' : pG), o = .inl (some (.int r)) ∧ u = (n', K', A', Lg', G') ∧ Q r n' K' A' Lg' G') := by
  unfold fJ5_addI_X19 at h
  obtain ⟨P, hP⟩ : ∃ P : jO → pS → Prop, P = (fun o u => ∃ (r : Int32) (n' : Nat) (K' : Nat → pKd) (A' : pA) (Lg' : pL) (G' : pG), o = .inl (some (.int r)) ∧ u = (n', K', A', Lg', G') ∧ Q r n' K' A' Lg' G') := ⟨_, rfl⟩
  rw [← hP]
  refine jMet_of rfl rfl rfl (Nat.le_of_ble_eq_true rfl) ?_
  show J Γ RJ5 cJ5_add 2 (some .boolean) "add" [] 4 kc ks 0 [(0, .ref a0), (1, .ref a1)] [] (n, K, A, Lg, G) P
  refine j_aload_n 0 rfl dJ5_add_0 ?_
  refine j_dup rfl dJ5_add_1 ?_
  obtain ⟨la0, h⟩ := h
  obtain ⟨ha0, h⟩ := h
  refine j_getfi fl_J5_63_17 rfl la0 ha0 dJ5_add_2 ?_
  refine j_iconst (v := 1) dJ5_add_5 (by decide) ?_
  refine j_iadd dJ5_add_6 ?_
  refine j_putfiE (fp_J5_63_17 _) rfl rfl rfl la0 ha0 dJ5_add_7 (fun A1 eA1 => ?_)
  replace h := h A1 eA1
  refine j_aload_n 0 rfl dJ5_add_10 ?_
  refine j_aload_n 1 rfl dJ5_add_11 ?_
  refine j_aload_n 0 rfl dJ5_add_12 ?_
  obtain ⟨e2, e2h, h⟩ := h
  refine j_getfr fl_J5_9_17 rfl la0 ha0 e2h dJ5_add_13 ?_
  refine j_aload_n 0 rfl dJ5_add_16 ?_
  refine j_getfi fl_J5_48_17 rfl la0 ha0 dJ5_add_17 ?_
  obtain ⟨z4, b5, h⟩ := h
  obtain ⟨kY6, sY7, kY6h, sY7h, h⟩ := h
  obtain ⟨hn6, h⟩ := h
  refine j_callV (b := a0) (As := [.ref a1, .ref e2, .int (A1 a0 2)]) (st := []) (C := RJ5) (kc' := kc - kY6) (ks' := ks - sY7) (tJ5_add_2I_X19  a0 a1 e2 z4 (A1 a0 2) _ h) myJ5_add_2 rfl q1055 q1057 qs25 (j_l2 hn6 la0) (fun s9 H9 hK9 hR9 h69 => jIs_in hK9 hR9 h69 la0 ha0 rfl) rfl (Nat.le_of_ble_eq_true rfl) rfl (by decide) (by omega) (by omega) dJ5_add_20 (fun v9 u9 hq => ?_) (fun k9 u9 hq => by obtain ⟨_, _, _, _, _, e9, _⟩ := hq; cases e9)
  obtain ⟨n8, K9, A10, Lg11, G12, e9, rfl, h⟩ := hq
  obtain rfl := Sum.inl.inj e9
  show J Γ RJ5 cJ5_add 2 (some .boolean) "add" [] 4 (kc - kY6) (ks - sY7) 23 [(0, .ref a0), (1, .ref a1)] [] (n8, K9, A10, Lg11, G12) P
  refine j_iconst (v := 1) dJ5_add_23 (by decide) ?_
  refine j_zret rfl (by decide) ?_ dJ5_add_24
  rw [hP]
  exact ⟨1, n8, K9, A10, Lg11, G12, rfl, rfl, h⟩
theorem myX4_at : jY yX4_at cX4_at 3 (some .int)  2 := ⟨q1018, q128, by decide +kernel, by decide +kernel, by decide⟩
def fX4_at_L2 (a0 : Nat) (a1 : Nat)  (Q : Int32 → Nat → (Nat → pKd) → pA → pL → pG → Prop) : Nat → Int32 → Nat → (Nat → pKd) → pA → pL → pG → Nat → Nat → Prop
  | 0, _, _, _, _, _, _, _, _ => False
  | n9 + 1, l2, n, K, A, Lg, G, kc, ks =>
    (a0 < n) ∧ ((K a0 = .inl 17) ∧ ((fOK n K G) ∧ ((n ≤ 1000000) ∧ (fJ5_size a0 A (fun r1 => (if r1 ≤ l2 then Q (-1) n K A Lg G else fJ5_get a0 n K A G l2 (fun r2 => (r2 < n) ∧ (∃ ci3 : Nat, (ci3 = 14 ∨ ci3 = 15 ∨ ci3 = 16) ∧ K r2 = .inl ci3 ∧ ((r2 < n) ∧ (∃ ci6 : Nat, (ci6 = 14 ∨ ci6 = 15 ∨ ci6 = 16) ∧ K r2 = .inl ci6 ∧ (∃ e9 : Nat, G r2 0 = .ref e9 ∧ (∃ kY10 sY11 : Nat, kY10 ≤ kc ∧ sY11 ≤ ks ∧ ((e9 < n) ∧ ((K e9 = .inl 18) ∧ (fJ8_equals e9 a1 n K A Lg G kY10 sY11 (fun r12 n13 K14 A15 Lg16 G17 => (if r12 = 0 then fX4_at_L2 a0 a1  Q n9 (l2 + 1) n13 K14 A15 Lg16 G17 (kc - kY10) (ks - sY11) else Q l2 n13 K14 A15 Lg16 G17)))))))))))))))))
theorem fX4_at_L2_ok {Γ : jG} (a0 : Nat) (a1 : Nat) (Q : Int32 → Nat → (Nat → pKd) → pA → pL → pG → Prop) (P : jO → pS → Prop) (hP : P = (fun o u => ∃ (r : Int32) (n' : Nat) (K' : Nat → pKd) (A' : pA) (Lg' : pL) (G' : pG), o = .inl (some (.int r)) ∧ u = (n', K', A', Lg', G') ∧ Q r n' K' A' Lg' G'))    : ∀ (n9 : Nat) (l2 : Int32) (n : Nat) (K : Nat → pKd) (A : pA) (Lg : pL) (G : pG) (kc : Nat) (ks : Nat), fX4_at_L2 a0 a1  Q n9 l2 n K A Lg G kc ks → J Γ RX4 cX4_at 3 (some .int) "at" [] 4 kc ks 2 [(0, .ref a0), (1, .ref a1), (2, .int l2)] [] (n, K, A, Lg, G) P := by
  intro n9
  induction n9 with
  | zero => intro l2 n K A Lg G kc ks h; exact h.elim
  | succ n9 ih =>
    intro l2 n K A Lg G kc ks h
    unfold fX4_at_L2 at h
    refine j_iload_n 2 rfl dX4_at_2 ?_
    refine j_aload_n 0 rfl dX4_at_3 ?_
    obtain ⟨la0, h⟩ := h
    obtain ⟨ha0, h⟩ := h
    obtain ⟨hf, h⟩ := h
    obtain ⟨hn6, h⟩ := h
    refine j_callV (b := a0) (As := []) (st := [.int l2]) (C := RJ5) (kc' := kc) (ks' := ks) (tJ5_size hf a0 la0 ha0 _ h) myJ5_size rfl q1019 q536 q537 (j_l2 hn6 la0) (fun s9 H9 hK9 hR9 h69 => jIs_in hK9 hR9 h69 la0 ha0 rfl) rfl (Nat.le_of_ble_eq_true rfl) rfl (by decide) (Nat.le_refl _) (Nat.le_refl _) dX4_at_4 (fun v9 u9 hq => ?_) (fun k9 u9 hq => by obtain ⟨_, e9, _⟩ := hq; cases e9)
    obtain ⟨r1, e9, rfl, h⟩ := hq
    obtain rfl := Sum.inl.inj e9
    show J Γ RX4 cX4_at 3 (some .int) "at" [] 4 kc ks 7 [(0, .ref a0), (1, .ref a1), (2, .int l2)] [.int r1, .int l2] (n, K, A, Lg, G) P
    refine j_icmp_ge (tgt := 36) dX4_at_7 (by decide) (fun c => ?_) (fun c => ?_)
    · rw [if_pos c] at h
      refine j_iconst (v := (-1)) dX4_at_36 (by decide) ?_
      refine j_iret rfl ?_ dX4_at_37
      rw [hP]
      exact ⟨(-1), n, K, A, Lg, G, rfl, rfl, h⟩
    · rw [if_neg c] at h
      refine j_aload_n 0 rfl dX4_at_10 ?_
      refine j_iload_n 2 rfl dX4_at_11 ?_
      refine j_callV (b := a0) (As := [.int l2]) (st := []) (C := RJ5) (kc' := kc) (ks' := ks) (tJ5_get hf a0 la0 ha0 l2 _ h) myJ5_get rfl q1020 q540 q541 (j_l2 hn6 la0) (fun s9 H9 hK9 hR9 h69 => jIs_in hK9 hR9 h69 la0 ha0 rfl) rfl (Nat.le_of_ble_eq_true rfl) rfl (by decide) (Nat.le_refl _) (Nat.le_refl _) dX4_at_12 (fun v9 u9 hq => ?_) (fun k9 u9 hq => by obtain ⟨_, e9, _⟩ := hq; cases e9)
      obtain ⟨r2, e9, rfl, h⟩ := hq
      obtain rfl := Sum.inl.inj e9
      show J Γ RX4 cX4_at 3 (some .int) "at" [] 4 kc ks 15 [(0, .ref a0), (1, .ref a1), (2, .int l2)] [.ref r2] (n, K, A, Lg, G) P
      obtain ⟨b5, h⟩ := h
      obtain ⟨ci3, b4, b4k, h⟩ := h
      refine (by rcases b4 with rfl | rfl | rfl <;> first | exact j_castN14 q1021 b5 b4k dX4_at_15 | exact j_castN15 q1021 b5 b4k dX4_at_15 | exact j_castN16 q1021 b5 b4k dX4_at_15 : (J Γ RX4 cX4_at 3 (some .int) "at" [] 4 kc ks 18 [(0, .ref a0), (1, .ref a1), (2, .int l2)] [.ref r2] (n, K, A, Lg, G) P) → (J Γ RX4 cX4_at 3 (some .int) "at" [] 4 kc ks 15 [(0, .ref a0), (1, .ref a1), (2, .int l2)] [.ref r2] (n, K, A, Lg, G) P)) ?_
      obtain ⟨b8, h⟩ := h
      obtain ⟨ci6, b7, b7k, h⟩ := h
      obtain ⟨e9, e9h, h⟩ := h
      refine j_getfr (ci := ci6) (j := 0) (by rcases b7 with rfl | rfl | rfl <;> first | exact fl_X4_59_14 | exact fl_X4_59_15 | exact fl_X4_59_16) (by rcases b7 with rfl | rfl | rfl <;> rfl) b8 b7k e9h dX4_at_18 ?_
      refine j_aload_n 1 rfl dX4_at_21 ?_
      obtain ⟨kY10, sY11, kY10h, sY11h, h⟩ := h
      obtain ⟨b18, h⟩ := h
      obtain ⟨b19, h⟩ := h
      refine j_callV (b := e9) (As := [.ref a1]) (st := []) (C := RJ8) (kc' := kc - kY10) (ks' := ks - sY11) (tJ8_equals  e9 a1 _ h) myJ8_equals rfl q1022 q1023 q1024 (j_l2 hn6 b18) (fun s9 H9 hK9 hR9 h69 => jIs_in hK9 hR9 h69 b18 b19 rfl) rfl (Nat.le_of_ble_eq_true rfl) rfl (by decide) (by omega) (by omega) dX4_at_22 (fun v9 u9 hq => ?_) (fun k9 u9 hq => by obtain ⟨_, _, _, _, _, _, e9, _⟩ := hq; cases e9)
      obtain ⟨r12, n13, K14, A15, Lg16, G17, e9, rfl, h⟩ := hq
      obtain rfl := Sum.inl.inj e9
      show J Γ RX4 cX4_at 3 (some .int) "at" [] 4 (kc - kY10) (ks - sY11) 25 [(0, .ref a0), (1, .ref a1), (2, .int l2)] [.int r12] (n13, K14, A15, Lg16, G17) P
      refine j_if_eq (tgt := 30) dX4_at_25 (by decide) (fun c => ?_) (fun c => ?_)
      · rw [if_pos c] at h
        refine j_iinc (v := l2 + 1) 2 rfl rfl (by decide) rfl dX4_at_30 ?_
        refine j_goto (tgt := 2) dX4_at_33 (by decide) ?_
        refine j_ls [1, 2, 0] rfl ?_
        exact ih (l2 + 1) n13 K14 A15 Lg16 G17 (kc - kY10) (ks - sY11) h
      · rw [if_neg c] at h
        refine j_iload_n 2 rfl dX4_at_28 ?_
        refine j_iret rfl ?_ dX4_at_29
        rw [hP]
        exact ⟨l2, n13, K14, A15, Lg16, G17, rfl, rfl, h⟩
def fX4_at (a0 : Nat) (a1 : Nat) (n : Nat) (K : Nat → pKd) (A : pA) (Lg : pL) (G : pG) (kc : Nat) (ks : Nat) (Q : Int32 → Nat → (Nat → pKd) → pA → pL → pG → Prop) : Prop :=
    ∃ m20, fX4_at_L2 a0 a1  Q m20 0 n K A Lg G kc ks
theorem tX4_at {Γ : jG} {n : Nat} {K : Nat → pKd} {G : pG} {A : pA} {Lg : pL} {kc ks : Nat} (a0 : Nat) (a1 : Nat)  (Q : Int32 → Nat → (Nat → pKd) → pA → pL → pG → Prop) (h : fX4_at a0 a1 n K A Lg G kc ks Q) : jMet Γ yX4_at cX4_at 3 (some .int) [] 4 kc ks [.ref a0, .ref a1] (n, K, A, Lg, G) (fun o u => ∃ (r : Int32) (n' : Nat) (K' : Nat → pKd) (A' : pA) (Lg' : pL) (G' : pG), o = .inl (some (.int r)) ∧ u = (n', K', A', Lg', G') ∧ Q r n' K' A' Lg' G') := by
  unfold fX4_at at h
  obtain ⟨P, hP⟩ : ∃ P : jO → pS → Prop, P = (fun o u => ∃ (r : Int32) (n' : Nat) (K' : Nat → pKd) (A' : pA) (Lg' : pL) (G' : pG), o = .inl (some (.int r)) ∧ u = (n', K', A', Lg', G') ∧ Q r n' K' A' Lg' G') := ⟨_, rfl⟩
  rw [← hP]
  refine jMet_of rfl rfl rfl (Nat.le_of_ble_eq_true rfl) ?_
  show J Γ RX4 cX4_at 3 (some .int) "at" [] 4 kc ks 0 [(0, .ref a0), (1, .ref a1)] [] (n, K, A, Lg, G) P
  refine j_iconst (v := 0) dX4_at_0 (by decide) ?_
  refine j_istore_n (by decide) rfl dX4_at_1 ?_
  refine j_ls [1, 2, 0] rfl ?_
  obtain ⟨m20, h⟩ := h
  exact fX4_at_L2_ok  a0 a1 Q P hP   m20 0 n K A Lg G kc ks h
theorem myX4_has : jY yX4_has cX4_has 2 (some .boolean)  1 := ⟨q1015, q128, by decide +kernel, by decide +kernel, by decide⟩
def fX4_has (a0 : Nat) (a1 : Nat) (n : Nat) (K : Nat → pKd) (A : pA) (Lg : pL) (G : pG) (kc : Nat) (ks : Nat) (Q : Int32 → Nat → (Nat → pKd) → pA → pL → pG → Prop) : Prop :=
    (xOK n K G a0) ∧ (∃ kY1 sY2 : Nat, kY1 ≤ kc ∧ sY2 ≤ ks ∧ (fX4_at (a0 + 1) a1 n K A Lg G kY1 sY2 (fun r3 n4 K5 A6 Lg7 G8 => (if 0 ≤ r3 then Q 1 n4 K5 A6 Lg7 G8 else (xOK n4 K5 G8 a0) ∧ (∃ kY9 sY10 : Nat, kY9 ≤ kc - kY1 ∧ sY10 ≤ ks - sY2 ∧ (fX4_at (a0 + 2) a1 n4 K5 A6 Lg7 G8 kY9 sY10 (fun r11 n12 K13 A14 Lg15 G16 => (if 0 ≤ r11 then Q 1 n12 K13 A14 Lg15 G16 else (xOK n12 K13 G16 a0) ∧ (∃ kY17 sY18 : Nat, kY17 ≤ kc - kY1 - kY9 ∧ sY18 ≤ ks - sY2 - sY10 ∧ (fX4_at (a0 + 3) a1 n12 K13 A14 Lg15 G16 kY17 sY18 (fun r19 n20 K21 A22 Lg23 G24 => (if r19 < 0 then Q 0 n20 K21 A22 Lg23 G24 else Q 1 n20 K21 A22 Lg23 G24))))))))))))
theorem tX4_has {Γ : jG} {n : Nat} {K : Nat → pKd} {G : pG} {A : pA} {Lg : pL} {kc ks : Nat} (a0 : Nat) (a1 : Nat)  (Q : Int32 → Nat → (Nat → pKd) → pA → pL → pG → Prop) (h : fX4_has a0 a1 n K A Lg G kc ks Q) : jMet Γ yX4_has cX4_has 2 (some .boolean) [] 5 kc ks [.ref a0, .ref a1] (n, K, A, Lg, G) (fun o u => ∃ (r : Int32) (n' : Nat) (K' : Nat → pKd) (A' : pA) (Lg' : pL) (G' : pG), o = .inl (some (.int r)) ∧ u = (n', K', A', Lg', G') ∧ Q r n' K' A' Lg' G') := by
  unfold fX4_has at h
  obtain ⟨P, hP⟩ : ∃ P : jO → pS → Prop, P = (fun o u => ∃ (r : Int32) (n' : Nat) (K' : Nat → pKd) (A' : pA) (Lg' : pL) (G' : pG), o = .inl (some (.int r)) ∧ u = (n', K', A', Lg', G') ∧ Q r n' K' A' Lg' G') := ⟨_, rfl⟩
  rw [← hP]
  refine jMet_of rfl rfl rfl (Nat.le_of_ble_eq_true rfl) ?_
  show J Γ RX4 cX4_has 2 (some .boolean) "has" [] 5 kc ks 0 [(0, .ref a0), (1, .ref a1)] [] (n, K, A, Lg, G) P
  refine j_aload_n 0 rfl dX4_has_0 ?_
  obtain ⟨ha0, h⟩ := h
  refine j_getfr fl_X4_12_4 rfl (x_lt ha0 (j := 0) (by decide)) (xk_0 ha0) (xg_0_0 ha0) dX4_has_1 ?_
  refine j_aload_n 1 rfl dX4_has_4 ?_
  obtain ⟨kY1, sY2, kY1h, sY2h, h⟩ := h
  refine j_callS (As := [.ref (a0 + 1), .ref a1]) (st := []) (kc' := kc - kY1) (ks' := ks - sY2) (tX4_at  (a0 + 1) a1 _ h) myX4_at q1016 q1017 rfl (Nat.le_of_ble_eq_true rfl) rfl (by decide) (by omega) (by omega) dX4_has_5 (fun v9 u9 hq => ?_) (fun k9 u9 hq => by obtain ⟨_, _, _, _, _, _, e9, _⟩ := hq; cases e9)
  obtain ⟨r3, n4, K5, A6, Lg7, G8, e9, rfl, h⟩ := hq
  obtain rfl := Sum.inl.inj e9
  show J Γ RX4 cX4_has 2 (some .boolean) "has" [] 5 (kc - kY1) (ks - sY2) 8 [(0, .ref a0), (1, .ref a1)] [.int r3] (n4, K5, A6, Lg7, G8) P
  refine j_if_ge (tgt := 33) dX4_has_8 (by decide) (fun c => ?_) (fun c => ?_)
  · rw [if_pos c] at h
    refine j_iconst (v := 1) dX4_has_33 (by decide) ?_
    refine j_goto (tgt := 38) dX4_has_34 (by decide) ?_
    refine j_zret rfl (by decide) ?_ dX4_has_38
    rw [hP]
    exact ⟨1, n4, K5, A6, Lg7, G8, rfl, rfl, h⟩
  · rw [if_neg c] at h
    refine j_aload_n 0 rfl dX4_has_11 ?_
    obtain ⟨ha0, h⟩ := h
    refine j_getfr fl_X4_18_4 rfl (x_lt ha0 (j := 0) (by decide)) (xk_0 ha0) (xg_0_1 ha0) dX4_has_12 ?_
    refine j_aload_n 1 rfl dX4_has_15 ?_
    obtain ⟨kY9, sY10, kY9h, sY10h, h⟩ := h
    refine j_callS (As := [.ref (a0 + 2), .ref a1]) (st := []) (kc' := kc - kY1 - kY9) (ks' := ks - sY2 - sY10) (tX4_at  (a0 + 2) a1 _ h) myX4_at q1016 q1017 rfl (Nat.le_of_ble_eq_true rfl) rfl (by decide) (by omega) (by omega) dX4_has_16 (fun v9 u9 hq => ?_) (fun k9 u9 hq => by obtain ⟨_, _, _, _, _, _, e9, _⟩ := hq; cases e9)
    obtain ⟨r11, n12, K13, A14, Lg15, G16, e9, rfl, h⟩ := hq
    obtain rfl := Sum.inl.inj e9
    show J Γ RX4 cX4_has 2 (some .boolean) "has" [] 5 (kc - kY1 - kY9) (ks - sY2 - sY10) 19 [(0, .ref a0), (1, .ref a1)] [.int r11] (n12, K13, A14, Lg15, G16) P
    refine j_if_ge (tgt := 33) dX4_has_19 (by decide) (fun c => ?_) (fun c => ?_)
    · rw [if_pos c] at h
      refine j_iconst (v := 1) dX4_has_33 (by decide) ?_
      refine j_goto (tgt := 38) dX4_has_34 (by decide) ?_
      refine j_zret rfl (by decide) ?_ dX4_has_38
      rw [hP]
      exact ⟨1, n12, K13, A14, Lg15, G16, rfl, rfl, h⟩
    · rw [if_neg c] at h
      refine j_aload_n 0 rfl dX4_has_22 ?_
      obtain ⟨ha0, h⟩ := h
      refine j_getfr fl_X4_21_4 rfl (x_lt ha0 (j := 0) (by decide)) (xk_0 ha0) (xg_0_2 ha0) dX4_has_23 ?_
      refine j_aload_n 1 rfl dX4_has_26 ?_
      obtain ⟨kY17, sY18, kY17h, sY18h, h⟩ := h
      refine j_callS (As := [.ref (a0 + 3), .ref a1]) (st := []) (kc' := kc - kY1 - kY9 - kY17) (ks' := ks - sY2 - sY10 - sY18) (tX4_at  (a0 + 3) a1 _ h) myX4_at q1016 q1017 rfl (Nat.le_of_ble_eq_true rfl) rfl (by decide) (by omega) (by omega) dX4_has_27 (fun v9 u9 hq => ?_) (fun k9 u9 hq => by obtain ⟨_, _, _, _, _, _, e9, _⟩ := hq; cases e9)
      obtain ⟨r19, n20, K21, A22, Lg23, G24, e9, rfl, h⟩ := hq
      obtain rfl := Sum.inl.inj e9
      show J Γ RX4 cX4_has 2 (some .boolean) "has" [] 5 (kc - kY1 - kY9 - kY17) (ks - sY2 - sY10 - sY18) 30 [(0, .ref a0), (1, .ref a1)] [.int r19] (n20, K21, A22, Lg23, G24) P
      refine j_if_lt (tgt := 37) dX4_has_30 (by decide) (fun c => ?_) (fun c => ?_)
      · rw [if_pos c] at h
        refine j_iconst (v := 0) dX4_has_37 (by decide) ?_
        refine j_zret rfl (by decide) ?_ dX4_has_38
        rw [hP]
        exact ⟨0, n20, K21, A22, Lg23, G24, rfl, rfl, h⟩
      · rw [if_neg c] at h
        refine j_iconst (v := 1) dX4_has_33 (by decide) ?_
        refine j_goto (tgt := 38) dX4_has_34 (by decide) ?_
        refine j_zret rfl (by decide) ?_ dX4_has_38
        rw [hP]
        exact ⟨1, n20, K21, A22, Lg23, G24, rfl, rfl, h⟩
theorem myX2_text : jY yX2_text cX2_text 4 (some (.object "java/lang/String"))  1 := ⟨q849, q126, by decide +kernel, by decide +kernel, by decide⟩
def fX2_text_L15   (X : Nat → (Nat → pKd) → pA → pL → pG → Prop) (Q : Nat → Nat → (Nat → pKd) → pA → pL → pG → Prop) : Nat → Int32 → Nat → Int32 → Nat → (Nat → pKd) → pA → pL → pG → Nat → Nat → Prop
  | 0, _, _, _, _, _, _, _, _, _, _ => False
  | n9 + 1, l1, l2, l3, n, K, A, Lg, G, kc, ks =>
    (fOK n K G) ∧ ((vp_in l1 2001) ∧ ((if (A 7 (l1).toNatClampNeg) ≤ l3 then ∃ kY2 sY3 : Nat, kY2 ≤ kc ∧ sY3 ≤ ks ∧ ((n ≤ 1000000) ∧ ((l2 < n) ∧ ((K l2 = .inl 19) ∧ (fJ12_toString l2 n K A Lg G kY2 sY3 X (fun r4 n5 K6 A7 Lg8 G9 => Q r4 n5 K6 A7 Lg8 G9))))) else (vp_in l3 2000) ∧ (∃ kY13 sY14 : Nat, kY13 ≤ kc ∧ sY14 ≤ ks ∧ ((n ≤ 1000000) ∧ ((l2 < n) ∧ ((K l2 = .inl 19) ∧ (fJ12_append l2 n K A Lg G kY13 sY14 ((((A 4 (l3).toNatClampNeg) : Int32).toUInt32 % 65536).toInt32) (fun r15 n16 K17 A18 Lg19 G20 => fX2_text_L15   X Q n9 l1 l2 (l3 + 1) n16 K17 A18 Lg19 G20 (kc - kY13) (ks - sY14))))))))))
theorem fX2_text_L15_ok {Γ : jG} (X : Nat → (Nat → pKd) → pA → pL → pG → Prop) (Q : Nat → Nat → (Nat → pKd) → pA → pL → pG → Prop) (P : jO → pS → Prop) (hP : P = (fun o u => (∃ (r : Nat) (n' : Nat) (K' : Nat → pKd) (A' : pA) (Lg' : pL) (G' : pG), o = .inl (some (.ref r)) ∧ u = (n', K', A', Lg', G') ∧ Q r n' K' A' Lg' G') ∨ (∃ (n' : Nat) (K' : Nat → pKd) (A' : pA) (Lg' : pL) (G' : pG), o = .inr 1 ∧ u = (n', K', A', Lg', G') ∧ X n' K' A' Lg' G')))    : ∀ (n9 : Nat) (l1 : Int32) (l2 : Nat) (l3 : Int32) (n : Nat) (K : Nat → pKd) (A : pA) (Lg : pL) (G : pG) (kc : Nat) (ks : Nat), fX2_text_L15   X Q n9 l1 l2 l3 n K A Lg G kc ks → J Γ RX2 cX2_text 4 (some (.object "java/lang/String")) "text" [] 7 kc ks 15 [(0, .ref 2), (1, .int l1), (2, .ref l2), (3, .int l3)] [] (n, K, A, Lg, G) P := by
  intro n9
  induction n9 with
  | zero => intro l1 l2 l3 n K A Lg G kc ks h; exact h.elim
  | succ n9 ih =>
    intro l1 l2 l3 n K A Lg G kc ks h
    unfold fX2_text_L15 at h
    refine j_iload_n 3 rfl dX2_text_15 ?_
    refine j_aload_n 0 rfl dX2_text_16 ?_
    obtain ⟨hf, h⟩ := h
    refine j_getfr fl_X2_74_2 rfl (f_lt hf (by decide)) (fk_2 hf) (fg_2_5 hf) dX2_text_17 ?_
    refine j_iload_n 1 rfl dX2_text_20 ?_
    obtain ⟨b1, h⟩ := h
    refine j_saldJ (j := (l1).toNatClampNeg) (f_lt hf (by decide)) (fk_7 hf) b1 rfl dX2_text_21 ?_
    refine j_icmp_ge (tgt := 43) dX2_text_22 (by decide) (fun c => ?_) (fun c => ?_)
    · rw [if_pos c] at h
      refine j_aload_n 2 rfl dX2_text_43 ?_
      obtain ⟨kY2, sY3, kY2h, sY3h, h⟩ := h
      obtain ⟨hn6, h⟩ := h
      obtain ⟨b10, h⟩ := h
      obtain ⟨b11, h⟩ := h
      refine j_callV (b := l2) (As := []) (st := []) (C := RJ12) (kc' := kc - kY2) (ks' := ks - sY3) (tJ12_toString  l2 X _ h) myJ12_toString rfl q955 q956 q957 (j_l2 hn6 b10) (fun s9 H9 hK9 hR9 h69 => jIs_in hK9 hR9 h69 b10 b11 rfl) rfl (Nat.le_of_ble_eq_true rfl) rfl (by decide) (by omega) (by omega) dX2_text_44 (fun v9 u9 hq => ?_) (fun k9 u9 hq => by rcases hq with ⟨_, _, _, _, _, _, e9, _⟩ | ⟨n9, K9, A9, L9, G9, e9, e8, hX⟩; exact nomatch e9; rw [hP]; exact Or.inr ⟨n9, K9, A9, L9, G9, e9, e8, hX⟩)
      rcases hq with hq | ⟨n9, K9, A9, L9, G9, e9, e8, hX⟩
      rotate_left
      · exact nomatch e9
      obtain ⟨r4, n5, K6, A7, Lg8, G9, e9, rfl, h⟩ := hq
      obtain rfl := Sum.inl.inj e9
      show J Γ RX2 cX2_text 4 (some (.object "java/lang/String")) "text" [] 7 (kc - kY2) (ks - sY3) 47 [(0, .ref 2), (1, .int l1), (2, .ref l2), (3, .int l3)] [.ref r4] (n5, K6, A7, Lg8, G9) P
      refine j_aret rfl (by first | exact Or.inl ⟨_, rfl⟩ | exact Or.inr ⟨_, rfl⟩) (Or.inr ⟨_, rfl⟩) ?_ dX2_text_47
      rw [hP]
      exact Or.inl ⟨r4, n5, K6, A7, Lg8, G9, rfl, rfl, h⟩
    · rw [if_neg c] at h
      refine j_aload_n 2 rfl dX2_text_25 ?_
      refine j_aload_n 0 rfl dX2_text_26 ?_
      refine j_getfr fl_X2_63_2 rfl (f_lt hf (by decide)) (fk_2 hf) (fg_2_1 hf) dX2_text_27 ?_
      refine j_iload_n 3 rfl dX2_text_30 ?_
      obtain ⟨b12, h⟩ := h
      refine j_baldJ (j := (l3).toNatClampNeg) (f_lt hf (by decide)) (fk_4 hf) b12 rfl dX2_text_31 ?_
      refine j_i2c dX2_text_32 ?_
      obtain ⟨kY13, sY14, kY13h, sY14h, h⟩ := h
      obtain ⟨hn6, h⟩ := h
      obtain ⟨b21, h⟩ := h
      obtain ⟨b22, h⟩ := h
      refine j_callV (b := l2) (As := [.int ((((A 4 (l3).toNatClampNeg) : Int32).toUInt32 % 65536).toInt32)]) (st := []) (C := RJ12) (kc' := kc - kY13) (ks' := ks - sY14) (tJ12_append  l2 ((((A 4 (l3).toNatClampNeg) : Int32).toUInt32 % 65536).toInt32) _ h) myJ12_append rfl q880 q881 q882 (j_l2 hn6 b21) (fun s9 H9 hK9 hR9 h69 => jIs_in hK9 hR9 h69 b21 b22 rfl) rfl (Nat.le_of_ble_eq_true rfl) rfl (by decide) (by omega) (by omega) dX2_text_33 (fun v9 u9 hq => ?_) (fun k9 u9 hq => by obtain ⟨_, _, _, _, _, _, e9, _⟩ := hq; cases e9)
      obtain ⟨r15, n16, K17, A18, Lg19, G20, e9, rfl, h⟩ := hq
      obtain rfl := Sum.inl.inj e9
      show J Γ RX2 cX2_text 4 (some (.object "java/lang/String")) "text" [] 7 (kc - kY13) (ks - sY14) 36 [(0, .ref 2), (1, .int l1), (2, .ref l2), (3, .int l3)] [.ref r15] (n16, K17, A18, Lg19, G20) P
      refine j_pop rfl dX2_text_36 ?_
      refine j_iinc (v := l3 + 1) 3 rfl rfl (by decide) rfl dX2_text_37 ?_
      refine j_goto (tgt := 15) dX2_text_40 (by decide) ?_
      refine j_ls [1, 2, 3, 0] rfl ?_
      exact ih l1 l2 (l3 + 1) n16 K17 A18 Lg19 G20 (kc - kY13) (ks - sY14) h
def fX2_text (n : Nat) (K : Nat → pKd) (A : pA) (Lg : pL) (G : pG) (kc : Nat) (ks : Nat) (p1 : Int32) (X : Nat → (Nat → pKd) → pA → pL → pG → Prop) (Q : Nat → Nat → (Nat → pKd) → pA → pL → pG → Prop) : Prop :=
    (1 ≤ kc) ∧ ((4 ≤ ks) ∧ (∀ (K23 : Nat → pKd) (A24 : pA) (L25 : pL) (G26 : pG), K23 = pkup K n (.inl 19) → A24 = prow A n (fun _ => 0) → L25 = prow Lg n (fun _ => 0) → G26 = prow G n (fun _ => .null) → ∃ kY31 sY32 : Nat, kY31 ≤ kc - 1 ∧ sY32 ≤ ks - 4 ∧ (((n + 1) ≤ 1000000) ∧ (fJ12_init n (n + 1) K23 A24 L25 G26 kY31 sY32 (fun n33 K34 A35 Lg36 G37 => (fOK n33 K34 G37) ∧ ((vp_in p1 2001) ∧ (∃ m39, fX2_text_L15   X Q m39 p1 n (A35 6 (p1).toNatClampNeg) n33 K34 A35 Lg36 G37 (kc - 1 - kY31) (ks - 4 - sY32))))))))
theorem tX2_text {Γ : jG} {n : Nat} {K : Nat → pKd} {G : pG} {A : pA} {Lg : pL} {kc ks : Nat} (p1 : Int32) (X : Nat → (Nat → pKd) → pA → pL → pG → Prop) (Q : Nat → Nat → (Nat → pKd) → pA → pL → pG → Prop) (h : fX2_text n K A Lg G kc ks p1 X Q) : jMet Γ yX2_text cX2_text 4 (some (.object "java/lang/String")) [] 7 kc ks [.ref 2, .int p1] (n, K, A, Lg, G) (fun o u => (∃ (r : Nat) (n' : Nat) (K' : Nat → pKd) (A' : pA) (Lg' : pL) (G' : pG), o = .inl (some (.ref r)) ∧ u = (n', K', A', Lg', G') ∧ Q r n' K' A' Lg' G') ∨ (∃ (n' : Nat) (K' : Nat → pKd) (A' : pA) (Lg' : pL) (G' : pG), o = .inr 1 ∧ u = (n', K', A', Lg', G') ∧ X n' K' A' Lg' G')) := by
  unfold fX2_text at h
  obtain ⟨P, hP⟩ : ∃ P : jO → pS → Prop, P = (fun o u => (∃ (r : Nat) (n' : Nat) (K' : Nat → pKd) (A' : pA) (Lg' : pL) (G' : pG), o = .inl (some (.ref r)) ∧ u = (n', K', A', Lg', G') ∧ Q r n' K' A' Lg' G') ∨ (∃ (n' : Nat) (K' : Nat → pKd) (A' : pA) (Lg' : pL) (G' : pG), o = .inr 1 ∧ u = (n', K', A', Lg', G') ∧ X n' K' A' Lg' G')) := ⟨_, rfl⟩
  rw [← hP]
  refine jMet_of rfl rfl rfl (Nat.le_of_ble_eq_true rfl) ?_
  show J Γ RX2 cX2_text 4 (some (.object "java/lang/String")) "text" [] 7 kc ks 0 [(0, .ref 2), (1, .int p1)] [] (n, K, A, Lg, G) P
  obtain ⟨b27, h⟩ := h
  obtain ⟨b28, h⟩ := h
  refine j_newE cn_X2_117 b27 b28 dX2_text_0 (fun K23 A24 L25 G26 eK23 eA24 eL25 eG26 => ?_)
  replace h := h K23 A24 L25 G26 eK23 eA24 eL25 eG26
  have b29 : n < (n + 1) := (by omega)
  have b30 : K23 n = .inl 19 := (by rw [eK23]; exact pkup_self)
  refine j_dup rfl dX2_text_3 ?_
  obtain ⟨kY31, sY32, kY31h, sY32h, h⟩ := h
  obtain ⟨hn6, h⟩ := h
  refine j_callI (b := n) (As := []) (st := [.ref n]) (kc' := kc - 1 - kY31) (ks' := ks - 4 - sY32) (tJ12_init  n _ h) myJ12_init rfl q852 q853 (j_l2 hn6 b29) rfl (Nat.le_of_ble_eq_true rfl) rfl (by decide) (by omega) (by omega) dX2_text_4 (fun v9 u9 hq => ?_) (fun k9 u9 hq => by obtain ⟨_, _, _, _, _, e9, _⟩ := hq; cases e9)
  obtain ⟨n33, K34, A35, Lg36, G37, e9, rfl, h⟩ := hq
  obtain rfl := Sum.inl.inj e9
  show J Γ RX2 cX2_text 4 (some (.object "java/lang/String")) "text" [] 7 (kc - 1 - kY31) (ks - 4 - sY32) 7 [(0, .ref 2), (1, .int p1)] [.ref n] (n33, K34, A35, Lg36, G37) P
  refine j_astore_n (by decide) rfl dX2_text_7 ?_
  refine j_aload_n 1 rfl dX2_text_8 ?_
  obtain ⟨hf, h⟩ := h
  refine j_getfr fl_X2_70_2 rfl (f_lt hf (by decide)) (fk_2 hf) (fg_2_4 hf) dX2_text_9 ?_
  refine j_iload_n 2 rfl dX2_text_12 ?_
  obtain ⟨b38, h⟩ := h
  refine j_saldJ (j := (p1).toNatClampNeg) (f_lt hf (by decide)) (fk_6 hf) b38 rfl dX2_text_13 ?_
  refine j_istore_n (by decide) rfl dX2_text_14 ?_
  refine j_ls [2, 3, 1, 0] rfl ?_
  obtain ⟨m39, h⟩ := h
  exact fX2_text_L15_ok  X Q P hP   m39 p1 n (A35 6 (p1).toNatClampNeg) n33 K34 A35 Lg36 G37 (kc - 1 - kY31) (ks - 4 - sY32) h
