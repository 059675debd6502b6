set_option maxRecDepth 100000
set_option maxHeartbeats 4000000
theorem myX0_read : jYW yX0_read cX0_read 3 (some .int) [(7, 59, 62, 16)] 0 := ⟨q626, q121, by decide +kernel, by decide +kernel, by decide, by decide⟩
def fX0_read_J76   (Q : Int32 → Nat → (Nat → pKd) → pA → pL → pG → Prop) (l1 : Int32) (n : Nat) (K : Nat → pKd) (A : pA) (Lg : pL) (G : pG) (kc : Nat) (ks : Nat) : Prop :=
    (fOK n K G) ∧ (∀ A1 : pA, A1 = pup A 2 2 0 → Q l1 n K A1 Lg G)
theorem fX0_read_J76_ok {Γ : jG} (Q : Int32 → Nat → (Nat → pKd) → pA → pL → pG → Prop) (P : jO → pS → Prop) (hP : P = (fun o u => ∃ (r : Int32) (n' : Nat) (K' : Nat → pKd) (A' : pA) (Lg' : pL) (G' : pG), o = .inl (some (.int r)) ∧ u = (n', K', A', Lg', G') ∧ Q r n' K' A' Lg' G'))   (l1 : Int32) (n : Nat) (K : Nat → pKd) (A : pA) (Lg : pL) (G : pG) (kc : Nat) (ks : Nat) (h : fX0_read_J76   Q l1 n K A Lg G kc ks) : J Γ RX0 cX0_read 3 (some .int) "read" [(7, 59, 62, 16)] 144 kc ks 76 [(0, .ref 0), (1, .int l1)] [] (n, K, A, Lg, G) P := by
  unfold fX0_read_J76 at h
  refine j_aload_n 0 rfl dX0_read_76 ?_
  obtain ⟨hf, h⟩ := h
  refine j_getfr fl_X0_28_0 rfl (f_lt hf (by decide)) (fk_0 hf) (fg_0_1 hf) dX0_read_77 ?_
  refine j_iconst (v := 0) dX0_read_80 (by decide) ?_
  refine j_putfiE (fp_X0_104_2 _) rfl rfl rfl (f_lt hf (by decide)) (fk_2 hf) dX0_read_81 (fun A1 eA1 => ?_)
  replace h := h A1 eA1
  refine j_iload_n 1 rfl dX0_read_84 ?_
  refine j_iret rfl ?_ dX0_read_85
  rw [hP]
  exact ⟨l1, n, K, A1, Lg, G, rfl, rfl, h⟩
def fX0_read_L41   (Q : Int32 → Nat → (Nat → pKd) → pA → pL → pG → Prop) : Nat → Int32 → Int32 → Nat → (Nat → pKd) → pA → pL → pG → Nat → Nat → Prop
  | 0, _, _, _, _, _, _, _, _, _ => False
  | n9 + 1, l1, l2, n, K, A, Lg, G, kc, ks =>
    (if 3 ≤ l2 then fX0_read_J76   Q l1 n K A Lg G kc ks else (fOK n K G) ∧ ((vp_in l2 3) ∧ (∀ A3 : pA, A3 = pup A 145 (l2).toNatClampNeg (vp_nar .boolean 0) → fX0_read_L41   Q n9 l1 (l2 + 1) n K A3 Lg G kc ks)))
theorem fX0_read_L41_ok {Γ : jG} (Q : Int32 → Nat → (Nat → pKd) → pA → pL → pG → Prop) (P : jO → pS → Prop) (hP : P = (fun o u => ∃ (r : Int32) (n' : Nat) (K' : Nat → pKd) (A' : pA) (Lg' : pL) (G' : pG), o = .inl (some (.int r)) ∧ u = (n', K', A', Lg', G') ∧ Q r n' K' A' Lg' G'))    : ∀ (n9 : Nat) (l1 : Int32) (l2 : Int32) (n : Nat) (K : Nat → pKd) (A : pA) (Lg : pL) (G : pG) (kc : Nat) (ks : Nat), fX0_read_L41   Q n9 l1 l2 n K A Lg G kc ks → J Γ RX0 cX0_read 3 (some .int) "read" [(7, 59, 62, 16)] 144 kc ks 41 [(0, .ref 0), (1, .int l1), (2, .int l2)] [] (n, K, A, Lg, G) P := by
  intro n9
  induction n9 with
  | zero => intro l1 l2 n K A Lg G kc ks h; exact h.elim
  | succ n9 ih =>
    intro l1 l2 n K A Lg G kc ks h
    unfold fX0_read_L41 at h
    refine j_iload_n 2 rfl dX0_read_41 ?_
    refine j_iconst (v := 3) dX0_read_42 (by decide) ?_
    refine j_icmp_ge (tgt := 59) dX0_read_43 (by decide) (fun c => ?_) (fun c => ?_)
    · rw [if_pos c] at h
      refine j_goto (tgt := 76) dX0_read_59 (by decide) ?_
      refine j_ls [0, 1] rfl ?_
      exact fX0_read_J76_ok  Q P hP   l1 n K A Lg G kc ks h
    · rw [if_neg c] at h
      refine j_aload_n 0 rfl dX0_read_46 ?_
      obtain ⟨hf, h⟩ := h
      refine j_getfr fl_X0_81_0 rfl (f_lt hf (by decide)) (fk_0 hf) (fg_0_12 hf) dX0_read_47 ?_
      refine j_iload_n 2 rfl dX0_read_50 ?_
      refine j_iconst (v := 0) dX0_read_51 (by decide) ?_
      obtain ⟨b2, h⟩ := h
      refine j_zastJ (j := (l2).toNatClampNeg) (f_lt hf (by decide)) (fk_145 hf) b2 rfl dX0_read_52 (fun A3 eA3 => ?_)
      replace h := h A3 eA3
      refine j_iinc (v := l2 + 1) 2 rfl rfl (by decide) rfl dX0_read_53 ?_
      refine j_goto (tgt := 41) dX0_read_56 (by decide) ?_
      refine j_ls [1, 2, 0] rfl ?_
      exact ih l1 (l2 + 1) n K A3 Lg G kc ks h
def fX0_read_J62   (Q : Int32 → Nat → (Nat → pKd) → pA → pL → pG → Prop) (n : Nat) (K : Nat → pKd) (A : pA) (Lg : pL) (G : pG) (kc : Nat) (ks : Nat) : Prop :=
    (fOK n K G) ∧ (∀ A4 : pA, A4 = pup A 0 4 (A 1 7) → fX0_read_J76   Q (A 1 6) n K A4 Lg G kc ks)
theorem fX0_read_J62_ok {Γ : jG} (Q : Int32 → Nat → (Nat → pKd) → pA → pL → pG → Prop) (P : jO → pS → Prop) (hP : P = (fun o u => ∃ (r : Int32) (n' : Nat) (K' : Nat → pKd) (A' : pA) (Lg' : pL) (G' : pG), o = .inl (some (.int r)) ∧ u = (n', K', A', Lg', G') ∧ Q r n' K' A' Lg' G'))   (n : Nat) (K : Nat → pKd) (A : pA) (Lg : pL) (G : pG) (kc : Nat) (ks : Nat) (h : fX0_read_J62   Q n K A Lg G kc ks) : J Γ RX0 cX0_read 3 (some .int) "read" [(7, 59, 62, 16)] 144 kc ks 62 [(0, .ref 0)] [.ref 1] (n, K, A, Lg, G) P := by
  unfold fX0_read_J62 at h
  refine j_astore_n (by decide) rfl dX0_read_62 ?_
  refine j_aload_n 0 rfl dX0_read_63 ?_
  obtain ⟨hf, h⟩ := h
  refine j_getfi fl_X0_125_1 rfl (f_lt hf (by decide)) (fk_1 hf) dX0_read_64 ?_
  refine j_istore_n (by decide) rfl dX0_read_67 ?_
  refine j_aload_n 2 rfl dX0_read_68 ?_
  refine j_aload_n 1 rfl dX0_read_69 ?_
  refine j_getfi fl_X0_128_1 rfl (f_lt hf (by decide)) (fk_1 hf) dX0_read_70 ?_
  refine j_putfiE (fp_X0_48_0 _) rfl rfl rfl (f_lt hf (by decide)) (fk_0 hf) dX0_read_73 (fun A4 eA4 => ?_)
  replace h := h A4 eA4
  refine j_ls [2, 0] rfl ?_
  exact fX0_read_J76_ok  Q P hP   (A 1 6) n K A4 Lg G kc ks h
def fX0_read (n : Nat) (K : Nat → pKd) (A : pA) (Lg : pL) (G : pG) (kc : Nat) (ks : Nat) (Q : Int32 → Nat → (Nat → pKd) → pA → pL → pG → Prop) : Prop :=
    (fOK n K G) ∧ (∀ A5 : pA, A5 = pup A 0 4 (-1) → ∃ kY6 sY7 : Nat, kY6 ≤ kc ∧ sY7 ≤ ks ∧ (fX3_read n K A5 Lg G kY6 sY7 (fun n9 K9 A9 L9 G9 => fX0_read_J62   Q n9 K9 A9 L9 G9 (kc - kY6) (ks - sY7)) (fun r8 n9 K10 A11 Lg12 G13 => (fOK n9 K10 G13) ∧ (∀ G14 : pG, G14 = pup G13 0 3 (.ref r8) → (fOK n9 K10 G14) ∧ (∃ e15 : Nat, G14 0 3 = .ref e15 ∧ ((xOK n9 K10 G14 e15) ∧ ((n9 ≤ 1000000) ∧ (fX5_begins 25 e15 n9 K10 A11 G14 (fun A17 => ∀ A18 : pA, A18 = pup A17 0 5 0 → ∀ A19 : pA, A19 = pup A18 0 14 0 → ∃ m20, fX0_read_L41   Q m20 0 0 n9 K10 A19 Lg12 G14 (kc - kY6) (ks - sY7))))))))))
theorem tX0_read {Γ : jG} {n : Nat} {K : Nat → pKd} {G : pG} {A : pA} {Lg : pL} {kc ks : Nat}  (Q : Int32 → Nat → (Nat → pKd) → pA → pL → pG → Prop) (h : fX0_read n K A Lg G kc ks Q) : jMet Γ yX0_read cX0_read 3 (some .int) [(7, 59, 62, 16)] 144 kc ks [.ref 0] (n, K, A, Lg, G) (fun o u => ∃ (r : Int32) (n' : Nat) (K' : Nat → pKd) (A' : pA) (Lg' : pL) (G' : pG), o = .inl (some (.int r)) ∧ u = (n', K', A', Lg', G') ∧ Q r n' K' A' Lg' G') := by
  unfold fX0_read at h
  obtain ⟨P, hP⟩ : ∃ P : jO → pS → Prop, P = (fun o u => ∃ (r : Int32) (n' : Nat) (K' : Nat → pKd) (A' : pA) (Lg' : pL) (G' : pG), o = .inl (some (.int r)) ∧ u = (n', K', A', Lg', G') ∧ Q r n' K' A' Lg' G') := ⟨_, rfl⟩
  rw [← hP]
  refine jMet_ofH (by decide) rfl rfl rfl (Nat.le_of_ble_eq_true rfl) ?_
  show J Γ RX0 cX0_read 3 (some .int) "read" [(7, 59, 62, 16)] 144 kc ks 0 [(0, .ref 0)] [] (n, K, A, Lg, G) P
  refine j_iconst (v := 0) dX0_read_0 (by decide) ?_
  refine j_istore_n (by decide) rfl dX0_read_1 ?_
  refine j_aload_n 1 rfl dX0_read_2 ?_
  refine j_iconst (v := (-1)) dX0_read_3 (by decide) ?_
  obtain ⟨hf, h⟩ := h
  refine j_putfiE (fp_X0_48_0 _) rfl rfl rfl (f_lt hf (by decide)) (fk_0 hf) dX0_read_4 (fun A5 eA5 => ?_)
  replace h := h A5 eA5
  refine j_aload_n 1 rfl dX0_read_7 ?_
  refine j_aload_n 1 rfl dX0_read_8 ?_
  refine j_getfr fl_X0_37_0 rfl (f_lt hf (by decide)) (fk_0 hf) (fg_0_2 hf) dX0_read_9 ?_
  obtain ⟨kY6, sY7, kY6h, sY7h, h⟩ := h
  refine j_callVH (b := 9) (As := []) (st := [.ref 0]) (C := RX3) (kc' := kc - kY6) (ks' := ks - sY7) (by decide) q167 (by decide) (by decide) (tX3_read   (fun n9 K9 A9 L9 G9 => fX0_read_J62   Q n9 K9 A9 L9 G9 (kc - kY6) (ks - sY7)) _ h) myX3_read rfl q627 q628 q629 (by decide) (fun s9 H9 hK9 hR9 h69 => jIs_in hK9 hR9 h69 (f_lt hf (by decide)) (fk_9 hf) rfl) rfl (Nat.le_of_ble_eq_true rfl) rfl (by decide) (by omega) (by omega) dX0_read_12 (fun v9 u9 hq => ?_) (fun k9 u9 hq => ?_)
  rotate_left
  · rcases hq with ⟨_, _, _, _, _, _, e9, _⟩ | ⟨n9, K9, A9, L9, G9, e9, e8, h⟩
    · exact nomatch e9
    · obtain rfl := Sum.inr.inj e9
      subst e8
      show J Γ RX0 cX0_read 3 (some .int) "read" [(7, 59, 62, 16)] 144 (kc - kY6) (ks - sY7) 62 [(1, .int 0), (0, .ref 0)] [.ref 1] (n9, K9, A9, L9, G9) P
      refine j_ls [1] rfl ?_
      exact fX0_read_J62_ok  Q P hP   n9 K9 A9 L9 G9 (kc - kY6) (ks - sY7) h
  rcases hq with hq | ⟨n9, K9, A9, L9, G9, e9, e8, hX⟩
  rotate_left
  · exact nomatch e9
  obtain ⟨r8, n9, K10, A11, Lg12, G13, e9, rfl, h⟩ := hq
  obtain rfl := Sum.inl.inj e9
  show J Γ RX0 cX0_read 3 (some .int) "read" [(7, 59, 62, 16)] 144 (kc - kY6) (ks - sY7) 15 [(1, .int 0), (0, .ref 0)] [.ref r8, .ref 0] (n9, K10, A11, Lg12, G13) P
  obtain ⟨hf, h⟩ := h
  refine j_putfrE (fp_X0_44_0 _) rfl (Or.inl ⟨_, rfl⟩) (Or.inr ⟨_, rfl⟩) (f_lt hf (by decide)) (fk_0 hf) dX0_read_15 (fun G14 eG14 => ?_)
  replace h := h G14 eG14
  refine j_aload_n 1 rfl dX0_read_18 ?_
  obtain ⟨hf, h⟩ := h
  refine j_getfr fl_X0_55_0 rfl (f_lt hf (by decide)) (fk_0 hf) (fg_0_7 hf) dX0_read_19 ?_
  refine j_aload_n 1 rfl dX0_read_22 ?_
  obtain ⟨e15, e15h, h⟩ := h
  refine j_getfr fl_X0_44_0 rfl (f_lt hf (by decide)) (fk_0 hf) e15h dX0_read_23 ?_
  obtain ⟨b16, h⟩ := h
  obtain ⟨hn6, h⟩ := h
  refine j_callVH (b := 25) (As := [.ref e15]) (st := []) (C := RX5) (kc' := kc - kY6) (ks' := ks - sY7) (by decide) q167 (by decide) (by decide) (tX5_begins hf 25 isT_town e15 b16 _ h) myX5_begins rfl q531 q532 q533 (j_l2 hn6 (t_lt hf isT_town (j := 0) (by decide))) (fun s9 H9 hK9 hR9 h69 => jIs_in hK9 hR9 h69 (t_lt hf isT_town (j := 0) (by decide)) (tk_0 hf isT_town) rfl) rfl (Nat.le_of_ble_eq_true rfl) rfl (by decide) (Nat.le_refl _) (Nat.le_refl _) dX0_read_26 (fun v9 u9 hq => ?_) (fun k9 u9 hq => by obtain ⟨_, e9, _⟩ := hq; cases e9)
  obtain ⟨A17, e9, rfl, h⟩ := hq
  obtain rfl := Sum.inl.inj e9
  show J Γ RX0 cX0_read 3 (some .int) "read" [(7, 59, 62, 16)] 144 (kc - kY6) (ks - sY7) 29 [(1, .int 0), (0, .ref 0)] [] (n9, K10, A17, Lg12, G14) P
  refine j_aload_n 1 rfl dX0_read_29 ?_
  refine j_iconst (v := 0) dX0_read_30 (by decide) ?_
  refine j_putfiE (fp_X0_119_0 _) rfl rfl rfl (f_lt hf (by decide)) (fk_0 hf) dX0_read_31 (fun A18 eA18 => ?_)
  replace h := h A18 eA18
  refine j_aload_n 1 rfl dX0_read_34 ?_
  refine j_iconst (v := 0) dX0_read_35 (by decide) ?_
  refine j_putfiE (fp_X0_122_0 _) rfl rfl rfl (f_lt hf (by decide)) (fk_0 hf) dX0_read_36 (fun A19 eA19 => ?_)
  replace h := h A19 eA19
  refine j_iconst (v := 0) dX0_read_39 (by decide) ?_
  refine j_istore_n (by decide) rfl dX0_read_40 ?_
  refine j_ls [2, 1, 0] rfl ?_
  obtain ⟨m20, h⟩ := h
  exact fX0_read_L41_ok  Q P hP   m20 0 0 n9 K10 A19 Lg12 G14 (kc - kY6) (ks - sY7) h
