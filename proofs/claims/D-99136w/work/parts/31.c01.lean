set_option maxRecDepth 100000
set_option maxHeartbeats 4000000
theorem myX0_isPerson : jY yX0_isPerson cX0_isPerson 2 (some .boolean) 1 := ⟨q1227, q121, by decide +kernel, by decide +kernel, by decide⟩
def fX0_isPerson (tx : Nat) (A : pA) (p1 : Int32) (Q : Int32 → Prop) : Prop :=
    fX0_people tx A (fun r1 => fX0_isIn A p1 0 (r1 - 1) (fun r2 => (narrow .boolean (.int r2) = .int r2) ∧ (Q r2)))
theorem tX0_isPerson {Γ : jG} {n : Nat} {K : Nat → pKd} {G : pG} {A : pA} {Lg : pL} (hf : fOK n K G) (tx : Nat) (ht : G 0 3 = .ref tx) (hx : xOK n K G tx) (p1 : Int32) (Q : Int32 → Prop) (h : fX0_isPerson tx A p1 Q) : jMet Γ yX0_isPerson cX0_isPerson 2 (some .boolean) [] 3 0 0 [.ref 0, .int p1] (n, K, A, Lg, G) (fun o u => ∃ (r : Int32), o = .inl (some (.int r)) ∧ u = (n, K, A, Lg, G) ∧ Q r) := by
  unfold fX0_isPerson at h
  obtain ⟨P, hP⟩ : ∃ P : jO → pS → Prop, P = (fun o u => ∃ (r : Int32), o = .inl (some (.int r)) ∧ u = (n, K, A, Lg, G) ∧ Q r) := ⟨_, rfl⟩
  rw [← hP]
  refine jMet_of rfl rfl rfl (Nat.le_of_ble_eq_true rfl) ?_
  show J Γ RX0 cX0_isPerson 2 (some .boolean) "isPerson" [] 3 0 0 0 [(0, .ref 0), (1, .int p1)] [] (n, K, A, Lg, G) P
  refine j_iload_n 1 rfl dX0_isPerson_0 ?_
  refine j_iconst (v := 0) dX0_isPerson_1 (by decide) ?_
  refine j_aload_n 0 rfl dX0_isPerson_2 ?_
  refine j_callV (b := 0) (As := []) (st := [.int 0, .int p1]) (C := RX0) (kc' := 0) (ks' := 0) (tX0_people hf tx ht hx _ h) myX0_people rfl q1203 q1205 qs35 (by decide) (fun s9 H9 hK9 hR9 h69 => jIs_in hK9 hR9 h69 (f_lt hf (by decide)) (fk_0 hf) rfl) rfl (Nat.le_of_ble_eq_true rfl) rfl (by decide) (Nat.le_refl 0) (Nat.le_refl 0) dX0_isPerson_3 (fun v9 u9 hq => ?_) (fun k9 u9 hq => by obtain ⟨_, e9, _⟩ := hq; cases e9)
  obtain ⟨r1, e9, rfl, h⟩ := hq
  obtain rfl := Sum.inl.inj e9
  show J Γ RX0 cX0_isPerson 2 (some .boolean) "isPerson" [] 3 0 0 6 [(0, .ref 0), (1, .int p1)] [.int r1, .int 0, .int p1] (n, K, A, Lg, G) P
  refine j_iconst (v := 1) dX0_isPerson_6 (by decide) ?_
  refine j_isub dX0_isPerson_7 ?_
  refine j_callS (As := [.int p1, .int 0, .int (r1 - 1)]) (st := []) (kc' := 0) (ks' := 0) (tX0_isIn hf p1 0 (r1 - 1) _ h) myX0_isIn q1194 q1195 rfl (Nat.le_of_ble_eq_true rfl) rfl (by decide) (Nat.le_refl 0) (Nat.le_refl 0) dX0_isPerson_8 (fun v9 u9 hq => ?_) (fun k9 u9 hq => by obtain ⟨_, e9, _⟩ := hq; cases e9)
  obtain ⟨r2, e9, rfl, h⟩ := hq
  obtain rfl := Sum.inl.inj e9
  show J Γ RX0 cX0_isPerson 2 (some .boolean) "isPerson" [] 3 0 0 11 [(0, .ref 0), (1, .int p1)] [.int r2] (n, K, A, Lg, G) P
  obtain ⟨b3, h⟩ := h
  refine j_zret rfl b3 ?_ dX0_isPerson_11
  rw [hP]
  exact ⟨r2, rfl, rfl, h⟩
theorem myX0_isDone : jY yX0_isDone cX0_isDone 2 (some .boolean) 1 := ⟨q1210, q121, by decide +kernel, by decide +kernel, by decide⟩
def fX0_isDone (tx : Nat) (A : pA) (p1 : Int32) (Q : Int32 → Prop) : Prop :=
    (if (((A 25 10) >>> (p1 &&& 31)) &&& 1) = 1 then Q 1 else Q 0)
theorem tX0_isDone {Γ : jG} {n : Nat} {K : Nat → pKd} {G : pG} {A : pA} {Lg : pL} (hf : fOK n K G) (tx : Nat) (ht : G 0 3 = .ref tx) (hx : xOK n K G tx) (p1 : Int32) (Q : Int32 → Prop) (h : fX0_isDone tx A p1 Q) : jMet Γ yX0_isDone cX0_isDone 2 (some .boolean) [] 1 0 0 [.ref 0, .int p1] (n, K, A, Lg, G) (fun o u => ∃ (r : Int32), o = .inl (some (.int r)) ∧ u = (n, K, A, Lg, G) ∧ Q r) := by
  unfold fX0_isDone at h
  obtain ⟨P, hP⟩ : ∃ P : jO → pS → Prop, P = (fun o u => ∃ (r : Int32), o = .inl (some (.int r)) ∧ u = (n, K, A, Lg, G) ∧ Q r) := ⟨_, rfl⟩
  rw [← hP]
  refine jMet_of rfl rfl rfl (Nat.le_of_ble_eq_true rfl) ?_
  show J Γ RX0 cX0_isDone 2 (some .boolean) "isDone" [] 1 0 0 0 [(0, .ref 0), (1, .int p1)] [] (n, K, A, Lg, G) P
  refine j_aload_n 0 rfl dX0_isDone_0 ?_
  refine j_getfr fl_X0_55_0 rfl (f_lt hf (by decide)) (fk_0 hf) (fg_0_7 hf) dX0_isDone_1 ?_
  refine j_getfi fl_X0_156_5 rfl (t_lt hf isT_town (j := 0) (by decide)) (tk_0 hf isT_town) dX0_isDone_4 ?_
  refine j_iload_n 1 rfl dX0_isDone_7 ?_
  refine j_ishr dX0_isDone_8 ?_
  refine j_iconst (v := 1) dX0_isDone_9 (by decide) ?_
  refine j_iand dX0_isDone_10 ?_
  refine j_iconst (v := 1) dX0_isDone_11 (by decide) ?_
  refine j_icmp_ne (tgt := 19) dX0_isDone_12 (by decide) (fun c => ?_) (fun c => ?_)
  · rw [if_neg c] at h
    refine j_iconst (v := 0) dX0_isDone_19 (by decide) ?_
    refine j_zret rfl (by decide) ?_ dX0_isDone_20
    rw [hP]
    exact ⟨0, rfl, rfl, h⟩
  · rw [if_pos c] at h
    refine j_iconst (v := 1) dX0_isDone_15 (by decide) ?_
    refine j_goto (tgt := 20) dX0_isDone_16 (by decide) ?_
    refine j_zret rfl (by decide) ?_ dX0_isDone_20
    rw [hP]
    exact ⟨1, rfl, rfl, h⟩
theorem myX0_typed : jY yX0_typed cX0_typed 3 none 1 := ⟨q618, q121, by decide +kernel, by decide +kernel, by decide⟩
def fX0_typed_L3 (tx : Nat)  (Q : pA → Prop) : Nat → Int32 → Int32 → pA → Prop
  | 0, _, _, _ => False
  | n9 + 1, l1, l2, A =>
    (if l2 < 0 then Q A else (vp_in (A 2 2) 2000) ∧ (∀ A2 : pA, A2 = pup A 4 (A 2 2).toNatClampNeg (vp_nar .byte (((l1 >>> (l2 &&& 31)) : Int32).toInt8.toInt32)) → ∀ A3 : pA, A3 = pup A2 2 2 ((A2 2 2) + 1) → fX0_typed_L3 tx  Q n9 l1 (l2 + (-8)) A3))
theorem fX0_typed_L3_ok {Γ : jG} {n : Nat} {K : Nat → pKd} {G : pG} {Lg : pL} (hf : fOK n K G) (tx : Nat) (ht : G 0 3 = .ref tx) (hx : xOK n K G tx) (Q : pA → Prop) (P : jO → pS → Prop) (hP : P = (fun o u => ∃ (A' : pA), o = .inl none ∧ u = (n, K, A', Lg, G) ∧ Q A'))    : ∀ (n9 : Nat) (l1 : Int32) (l2 : Int32) (A : pA), fX0_typed_L3 tx  Q n9 l1 l2 A → J Γ RX0 cX0_typed 3 none "typed" [] 1 0 0 3 [(0, .ref 0), (1, .int l1), (2, .int l2)] [] (n, K, A, Lg, G) P := by
  intro n9
  induction n9 with
  | zero => intro l1 l2 A h; exact h.elim
  | succ n9 ih =>
    intro l1 l2 A h
    unfold fX0_typed_L3 at h
    refine j_iload_n 2 rfl dX0_typed_3 ?_
    refine j_if_lt (tgt := 45) dX0_typed_4 (by decide) (fun c => ?_) (fun c => ?_)
    · rw [if_pos c] at h
      refine j_vret rfl ?_ dX0_typed_45
      rw [hP]
      exact ⟨A, rfl, rfl, h⟩
    · rw [if_neg c] at h
      refine j_aload_n 0 rfl dX0_typed_7 ?_
      refine j_getfr fl_X0_28_0 rfl (f_lt hf (by decide)) (fk_0 hf) (fg_0_1 hf) dX0_typed_8 ?_
      refine j_getfr fl_X0_111_2 rfl (f_lt hf (by decide)) (fk_2 hf) (fg_2_1 hf) dX0_typed_11 ?_
      refine j_aload_n 0 rfl dX0_typed_14 ?_
      refine j_getfr fl_X0_28_0 rfl (f_lt hf (by decide)) (fk_0 hf) (fg_0_1 hf) dX0_typed_15 ?_
      refine j_getfi fl_X0_104_2 rfl (f_lt hf (by decide)) (fk_2 hf) dX0_typed_18 ?_
      refine j_iload_n 1 rfl dX0_typed_21 ?_
      refine j_iload_n 2 rfl dX0_typed_22 ?_
      refine j_ishr dX0_typed_23 ?_
      refine j_i2b dX0_typed_24 ?_
      obtain ⟨b1, h⟩ := h
      refine j_bastJ (j := (A 2 2).toNatClampNeg) (f_lt hf (by decide)) (fk_4 hf) b1 rfl dX0_typed_25 (fun A2 eA2 => ?_)
      replace h := h A2 eA2
      refine j_aload_n 0 rfl dX0_typed_26 ?_
      refine j_getfr fl_X0_28_0 rfl (f_lt hf (by decide)) (fk_0 hf) (fg_0_1 hf) dX0_typed_27 ?_
      refine j_dup rfl dX0_typed_30 ?_
      refine j_getfi fl_X0_104_2 rfl (f_lt hf (by decide)) (fk_2 hf) dX0_typed_31 ?_
      refine j_iconst (v := 1) dX0_typed_34 (by decide) ?_
      refine j_iadd dX0_typed_35 ?_
      refine j_putfiE (fp_X0_104_2 _) rfl rfl rfl (f_lt hf (by decide)) (fk_2 hf) dX0_typed_36 (fun A3 eA3 => ?_)
      replace h := h A3 eA3
      refine j_iinc (v := l2 + (-8)) 2 rfl (congrArg (fun z => l2 + z) (by decide)) (by decide) rfl dX0_typed_39 ?_
      refine j_goto (tgt := 3) dX0_typed_42 (by decide) ?_
      refine j_ls [1, 2, 0] rfl ?_
      exact ih l1 (l2 + (-8)) A3 h
def fX0_typed (tx : Nat) (A : pA) (p1 : Int32) (Q : pA → Prop) : Prop :=
    ∃ m4, fX0_typed_L3 tx  Q m4 p1 24 A
theorem tX0_typed {Γ : jG} {n : Nat} {K : Nat → pKd} {G : pG} {A : pA} {Lg : pL} (hf : fOK n K G) (tx : Nat) (ht : G 0 3 = .ref tx) (hx : xOK n K G tx) (p1 : Int32) (Q : pA → Prop) (h : fX0_typed tx A p1 Q) : jMet Γ yX0_typed cX0_typed 3 none [] 1 0 0 [.ref 0, .int p1] (n, K, A, Lg, G) (fun o u => ∃ (A' : pA), o = .inl none ∧ u = (n, K, A', Lg, G) ∧ Q A') := by
  unfold fX0_typed at h
  obtain ⟨P, hP⟩ : ∃ P : jO → pS → Prop, P = (fun o u => ∃ (A' : pA), o = .inl none ∧ u = (n, K, A', Lg, G) ∧ Q A') := ⟨_, rfl⟩
  rw [← hP]
  refine jMet_of rfl rfl rfl (Nat.le_of_ble_eq_true rfl) ?_
  show J Γ RX0 cX0_typed 3 none "typed" [] 1 0 0 0 [(0, .ref 0), (1, .int p1)] [] (n, K, A, Lg, G) P
  refine j_bipush (v := 24) dX0_typed_0 (by decide) ?_
  refine j_istore_n (by decide) rfl dX0_typed_2 ?_
  refine j_ls [1, 2, 0] rfl ?_
  obtain ⟨m4, h⟩ := h
  exact fX0_typed_L3_ok hf tx ht hx Q P hP   m4 p1 24 A h
theorem myX0_feed : jY yX0_feed cX0_feed 6 (some .int) 5 := ⟨q614, q121, by decide +kernel, by decide +kernel, by decide⟩
def fX0_feed (tx : Nat) (A : pA) (p1 : Int32) (p2 : Int32) (p3 : Int32) (p4 : Int32) (p5 : Int32) (Q : Int32 → pA → Prop) : Prop :=
    (if ((A 2 2) + 20) ≤ 2000 then fX0_typed tx A p1 (fun A1 => fX0_typed tx A1 p2 (fun A2 => fX0_typed tx A2 p3 (fun A3 => fX0_typed tx A3 p4 (fun A4 => fX0_typed tx A4 p5 (fun A5 => Q (A5 2 2) A5))))) else Q (-1) A)
theorem tX0_feed {Γ : jG} {n : Nat} {K : Nat → pKd} {G : pG} {A : pA} {Lg : pL} (hf : fOK n K G) (tx : Nat) (ht : G 0 3 = .ref tx) (hx : xOK n K G tx) (p1 : Int32) (p2 : Int32) (p3 : Int32) (p4 : Int32) (p5 : Int32) (Q : Int32 → pA → Prop) (h : fX0_feed tx A p1 p2 p3 p4 p5 Q) : jMet Γ yX0_feed cX0_feed 6 (some .int) [] 2 0 0 [.ref 0, .int p1, .int p2, .int p3, .int p4, .int p5] (n, K, A, Lg, G) (fun o u => ∃ (r : Int32) (A' : pA), o = .inl (some (.int r)) ∧ u = (n, K, A', Lg, G) ∧ Q r A') := by
  unfold fX0_feed at h
  obtain ⟨P, hP⟩ : ∃ P : jO → pS → Prop, P = (fun o u => ∃ (r : Int32) (A' : pA), o = .inl (some (.int r)) ∧ u = (n, K, A', Lg, G) ∧ Q r A') := ⟨_, rfl⟩
  rw [← hP]
  refine jMet_of rfl rfl rfl (Nat.le_of_ble_eq_true rfl) ?_
  show J Γ RX0 cX0_feed 6 (some .int) "feed" [] 2 0 0 0 [(0, .ref 0), (1, .int p1), (2, .int p2), (3, .int p3), (4, .int p4), (5, .int p5)] [] (n, K, A, Lg, G) P
  refine j_aload_n 0 rfl dX0_feed_0 ?_
  refine j_getfr fl_X0_28_0 rfl (f_lt hf (by decide)) (fk_0 hf) (fg_0_1 hf) dX0_feed_1 ?_
  refine j_getfi fl_X0_104_2 rfl (f_lt hf (by decide)) (fk_2 hf) dX0_feed_4 ?_
  refine j_bipush (v := 20) dX0_feed_7 (by decide) ?_
  refine j_iadd dX0_feed_9 ?_
  refine j_sipush (v := 2000) dX0_feed_10 (by decide) ?_
  refine j_icmp_le (tgt := 18) dX0_feed_13 (by decide) (fun c => ?_) (fun c => ?_)
  · rw [if_pos c] at h
    refine j_aload_n 0 rfl dX0_feed_18 ?_
    refine j_iload_n 1 rfl dX0_feed_19 ?_
    refine j_callV (b := 0) (As := [.int p1]) (st := []) (C := RX0) (kc' := 0) (ks' := 0) (tX0_typed hf tx ht hx p1 _ h) myX0_typed rfl q615 q617 qs1 (by decide) (fun s9 H9 hK9 hR9 h69 => jIs_in hK9 hR9 h69 (f_lt hf (by decide)) (fk_0 hf) rfl) rfl (Nat.le_of_ble_eq_true rfl) rfl (by decide) (Nat.le_refl 0) (Nat.le_refl 0) dX0_feed_20 (fun v9 u9 hq => ?_) (fun k9 u9 hq => by obtain ⟨_, e9, _⟩ := hq; cases e9)
    obtain ⟨A1, e9, rfl, h⟩ := hq
    obtain rfl := Sum.inl.inj e9
    show J Γ RX0 cX0_feed 6 (some .int) "feed" [] 2 0 0 23 [(0, .ref 0), (1, .int p1), (2, .int p2), (3, .int p3), (4, .int p4), (5, .int p5)] [] (n, K, A1, Lg, G) P
    refine j_aload_n 0 rfl dX0_feed_23 ?_
    refine j_iload_n 2 rfl dX0_feed_24 ?_
    refine j_callV (b := 0) (As := [.int p2]) (st := []) (C := RX0) (kc' := 0) (ks' := 0) (tX0_typed hf tx ht hx p2 _ h) myX0_typed rfl q615 q617 qs1 (by decide) (fun s9 H9 hK9 hR9 h69 => jIs_in hK9 hR9 h69 (f_lt hf (by decide)) (fk_0 hf) rfl) rfl (Nat.le_of_ble_eq_true rfl) rfl (by decide) (Nat.le_refl 0) (Nat.le_refl 0) dX0_feed_25 (fun v9 u9 hq => ?_) (fun k9 u9 hq => by obtain ⟨_, e9, _⟩ := hq; cases e9)
    obtain ⟨A2, e9, rfl, h⟩ := hq
    obtain rfl := Sum.inl.inj e9
    show J Γ RX0 cX0_feed 6 (some .int) "feed" [] 2 0 0 28 [(0, .ref 0), (1, .int p1), (2, .int p2), (3, .int p3), (4, .int p4), (5, .int p5)] [] (n, K, A2, Lg, G) P
    refine j_aload_n 0 rfl dX0_feed_28 ?_
    refine j_iload_n 3 rfl dX0_feed_29 ?_
    refine j_callV (b := 0) (As := [.int p3]) (st := []) (C := RX0) (kc' := 0) (ks' := 0) (tX0_typed hf tx ht hx p3 _ h) myX0_typed rfl q615 q617 qs1 (by decide) (fun s9 H9 hK9 hR9 h69 => jIs_in hK9 hR9 h69 (f_lt hf (by decide)) (fk_0 hf) rfl) rfl (Nat.le_of_ble_eq_true rfl) rfl (by decide) (Nat.le_refl 0) (Nat.le_refl 0) dX0_feed_30 (fun v9 u9 hq => ?_) (fun k9 u9 hq => by obtain ⟨_, e9, _⟩ := hq; cases e9)
    obtain ⟨A3, e9, rfl, h⟩ := hq
    obtain rfl := Sum.inl.inj e9
    show J Γ RX0 cX0_feed 6 (some .int) "feed" [] 2 0 0 33 [(0, .ref 0), (1, .int p1), (2, .int p2), (3, .int p3), (4, .int p4), (5, .int p5)] [] (n, K, A3, Lg, G) P
    refine j_aload_n 0 rfl dX0_feed_33 ?_
    refine j_iload 4 rfl dX0_feed_34 ?_
    refine j_callV (b := 0) (As := [.int p4]) (st := []) (C := RX0) (kc' := 0) (ks' := 0) (tX0_typed hf tx ht hx p4 _ h) myX0_typed rfl q615 q617 qs1 (by decide) (fun s9 H9 hK9 hR9 h69 => jIs_in hK9 hR9 h69 (f_lt hf (by decide)) (fk_0 hf) rfl) rfl (Nat.le_of_ble_eq_true rfl) rfl (by decide) (Nat.le_refl 0) (Nat.le_refl 0) dX0_feed_36 (fun v9 u9 hq => ?_) (fun k9 u9 hq => by obtain ⟨_, e9, _⟩ := hq; cases e9)
    obtain ⟨A4, e9, rfl, h⟩ := hq
    obtain rfl := Sum.inl.inj e9
    show J Γ RX0 cX0_feed 6 (some .int) "feed" [] 2 0 0 39 [(0, .ref 0), (1, .int p1), (2, .int p2), (3, .int p3), (4, .int p4), (5, .int p5)] [] (n, K, A4, Lg, G) P
    refine j_aload_n 0 rfl dX0_feed_39 ?_
    refine j_iload 5 rfl dX0_feed_40 ?_
    refine j_callV (b := 0) (As := [.int p5]) (st := []) (C := RX0) (kc' := 0) (ks' := 0) (tX0_typed hf tx ht hx p5 _ h) myX0_typed rfl q615 q617 qs1 (by decide) (fun s9 H9 hK9 hR9 h69 => jIs_in hK9 hR9 h69 (f_lt hf (by decide)) (fk_0 hf) rfl) rfl (Nat.le_of_ble_eq_true rfl) rfl (by decide) (Nat.le_refl 0) (Nat.le_refl 0) dX0_feed_42 (fun v9 u9 hq => ?_) (fun k9 u9 hq => by obtain ⟨_, e9, _⟩ := hq; cases e9)
    obtain ⟨A5, e9, rfl, h⟩ := hq
    obtain rfl := Sum.inl.inj e9
    show J Γ RX0 cX0_feed 6 (some .int) "feed" [] 2 0 0 45 [(0, .ref 0), (1, .int p1), (2, .int p2), (3, .int p3), (4, .int p4), (5, .int p5)] [] (n, K, A5, Lg, G) P
    refine j_aload_n 0 rfl dX0_feed_45 ?_
    refine j_getfr fl_X0_28_0 rfl (f_lt hf (by decide)) (fk_0 hf) (fg_0_1 hf) dX0_feed_46 ?_
    refine j_getfi fl_X0_104_2 rfl (f_lt hf (by decide)) (fk_2 hf) dX0_feed_49 ?_
    refine j_iret rfl ?_ dX0_feed_52
    rw [hP]
    exact ⟨A5 2 2, A5, rfl, rfl, h⟩
  · rw [if_neg c] at h
    refine j_iconst (v := (-1)) dX0_feed_16 (by decide) ?_
    refine j_iret rfl ?_ dX0_feed_17
    rw [hP]
    exact ⟨(-1), A, rfl, rfl, h⟩
theorem myX0_back : jY yX0_back cX0_back 2 (some .int) 1 := ⟨q622, q121, by decide +kernel, by decide +kernel, by decide⟩
def fX0_back (tx : Nat) (A : pA) (p1 : Int32) (Q : Int32 → pA → Prop) : Prop :=
    (if p1 < 0 then Q (-1) A else (if p1 ≤ (A 2 2) then ∀ A1 : pA, A1 = pup A 2 2 ((A 2 2) - p1) → Q (A1 2 2) A1 else Q (-1) A))
theorem tX0_back {Γ : jG} {n : Nat} {K : Nat → pKd} {G : pG} {A : pA} {Lg : pL} (hf : fOK n K G) (tx : Nat) (ht : G 0 3 = .ref tx) (hx : xOK n K G tx) (p1 : Int32) (Q : Int32 → pA → Prop) (h : fX0_back tx A p1 Q) : jMet Γ yX0_back cX0_back 2 (some .int) [] 1 0 0 [.ref 0, .int p1] (n, K, A, Lg, G) (fun o u => ∃ (r : Int32) (A' : pA), o = .inl (some (.int r)) ∧ u = (n, K, A', Lg, G) ∧ Q r A') := by
  unfold fX0_back at h
  obtain ⟨P, hP⟩ : ∃ P : jO → pS → Prop, P = (fun o u => ∃ (r : Int32) (A' : pA), o = .inl (some (.int r)) ∧ u = (n, K, A', Lg, G) ∧ Q r A') := ⟨_, rfl⟩
  rw [← hP]
  refine jMet_of rfl rfl rfl (Nat.le_of_ble_eq_true rfl) ?_
  show J Γ RX0 cX0_back 2 (some .int) "back" [] 1 0 0 0 [(0, .ref 0), (1, .int p1)] [] (n, K, A, Lg, G) P
  refine j_iload_n 1 rfl dX0_back_0 ?_
  refine j_if_lt (tgt := 15) dX0_back_1 (by decide) (fun c => ?_) (fun c => ?_)
  · rw [if_pos c] at h
    refine j_iconst (v := (-1)) dX0_back_15 (by decide) ?_
    refine j_iret rfl ?_ dX0_back_16
    rw [hP]
    exact ⟨(-1), A, rfl, rfl, h⟩
  · rw [if_neg c] at h
    refine j_iload_n 1 rfl dX0_back_4 ?_
    refine j_aload_n 0 rfl dX0_back_5 ?_
    refine j_getfr fl_X0_28_0 rfl (f_lt hf (by decide)) (fk_0 hf) (fg_0_1 hf) dX0_back_6 ?_
    refine j_getfi fl_X0_104_2 rfl (f_lt hf (by decide)) (fk_2 hf) dX0_back_9 ?_
    refine j_icmp_le (tgt := 17) dX0_back_12 (by decide) (fun c => ?_) (fun c => ?_)
    · rw [if_pos c] at h
      refine j_aload_n 0 rfl dX0_back_17 ?_
      refine j_getfr fl_X0_28_0 rfl (f_lt hf (by decide)) (fk_0 hf) (fg_0_1 hf) dX0_back_18 ?_
      refine j_dup rfl dX0_back_21 ?_
      refine j_getfi fl_X0_104_2 rfl (f_lt hf (by decide)) (fk_2 hf) dX0_back_22 ?_
      refine j_iload_n 1 rfl dX0_back_25 ?_
      refine j_isub dX0_back_26 ?_
      refine j_putfiE (fp_X0_104_2 _) rfl rfl rfl (f_lt hf (by decide)) (fk_2 hf) dX0_back_27 (fun A1 eA1 => ?_)
      replace h := h A1 eA1
      refine j_aload_n 0 rfl dX0_back_30 ?_
      refine j_getfr fl_X0_28_0 rfl (f_lt hf (by decide)) (fk_0 hf) (fg_0_1 hf) dX0_back_31 ?_
      refine j_getfi fl_X0_104_2 rfl (f_lt hf (by decide)) (fk_2 hf) dX0_back_34 ?_
      refine j_iret rfl ?_ dX0_back_37
      rw [hP]
      exact ⟨A1 2 2, A1, rfl, rfl, h⟩
    · rw [if_neg c] at h
      refine j_iconst (v := (-1)) dX0_back_15 (by decide) ?_
      refine j_iret rfl ?_ dX0_back_16
      rw [hP]
      exact ⟨(-1), A, rfl, rfl, h⟩
theorem myX0_place : jY yX0_place cX0_place 1 (some .int) 0 := ⟨q1180, q121, by decide +kernel, by decide +kernel, by decide⟩
def fX0_place (tx : Nat) (A : pA) (Q : Int32 → Prop) : Prop :=
    Q (A 0 4)
theorem tX0_place {Γ : jG} {n : Nat} {K : Nat → pKd} {G : pG} {A : pA} {Lg : pL} (hf : fOK n K G) (tx : Nat) (ht : G 0 3 = .ref tx) (hx : xOK n K G tx)  (Q : Int32 → Prop) (h : fX0_place tx A Q) : jMet Γ yX0_place cX0_place 1 (some .int) [] 1 0 0 [.ref 0] (n, K, A, Lg, G) (fun o u => ∃ (r : Int32), o = .inl (some (.int r)) ∧ u = (n, K, A, Lg, G) ∧ Q r) := by
  unfold fX0_place at h
  obtain ⟨P, hP⟩ : ∃ P : jO → pS → Prop, P = (fun o u => ∃ (r : Int32), o = .inl (some (.int r)) ∧ u = (n, K, A, Lg, G) ∧ Q r) := ⟨_, rfl⟩
  rw [← hP]
  refine jMet_of rfl rfl rfl (Nat.le_of_ble_eq_true rfl) ?_
  show J Γ RX0 cX0_place 1 (some .int) "place" [] 1 0 0 0 [(0, .ref 0)] [] (n, K, A, Lg, G) P
  refine j_aload_n 0 rfl dX0_place_0 ?_
  refine j_getfi fl_X0_48_0 rfl (f_lt hf (by decide)) (fk_0 hf) dX0_place_1 ?_
  refine j_iret rfl ?_ dX0_place_4
  rw [hP]
  exact ⟨A 0 4, rfl, rfl, h⟩
theorem myX0_spot : jY yX0_spot cX0_spot 5 (some .int) 2 := ⟨q1184, q121, by decide +kernel, by decide +kernel, by decide⟩
def fX0_spot_J97 (tx : Nat) (n : Nat) (K : Nat → pKd) (A : pA) (G : pG) (k65 : Int32 → Int32 → Int32 → Prop) (Q : Int32 → Prop) (l1 : Int32) (l4 : Int32) (s0 : Int32) (s1 : Int32) : Prop :=
    k65 l1 (s1 ||| s0) (l4 + 1)
theorem fX0_spot_J97_ok {Γ : jG} {n : Nat} {K : Nat → pKd} {G : pG} {A : pA} {Lg : pL} (hf : fOK n K G) (tx : Nat) (ht : G 0 3 = .ref tx) (hx : xOK n K G tx) (Q : Int32 → Prop) (P : jO → pS → Prop) (hP : P = (fun o u => ∃ (r : Int32), o = .inl (some (.int r)) ∧ u = (n, K, A, Lg, G) ∧ Q r)) (k65 : Int32 → Int32 → Int32 → Prop) (ok65 : ∀ (l1 : Int32) (l3 : Int32) (l4 : Int32), k65 l1 l3 l4 → J Γ RX0 cX0_spot 5 (some .int) "spot" [] 4 0 0 65 [(0, .ref 0), (1, .int l1), (3, .int l3), (4, .int l4)] [] (n, K, A, Lg, G) P) (l1 : Int32) (l4 : Int32) (s0 : Int32) (s1 : Int32) (h : fX0_spot_J97 tx n K A G k65 Q l1 l4 s0 s1) : J Γ RX0 cX0_spot 5 (some .int) "spot" [] 4 0 0 97 [(0, .ref 0), (1, .int l1), (4, .int l4)] [.int s0, .int s1] (n, K, A, Lg, G) P := by
  unfold fX0_spot_J97 at h
  refine j_ior dX0_spot_97 ?_
  refine j_istore_n (by decide) rfl dX0_spot_98 ?_
  refine j_iinc (v := l4 + 1) 3 rfl rfl (by decide) rfl dX0_spot_99 ?_
  refine j_goto (tgt := 65) dX0_spot_102 (by decide) ?_
  refine j_ls [2, 3, 1, 0] rfl ?_
  exact ok65 l1 (s1 ||| s0) (l4 + 1) h
def fX0_spot_L65 (tx : Nat) (n : Nat) (K : Nat → pKd) (A : pA) (G : pG)  (Q : Int32 → Prop) : Nat → Int32 → Int32 → Int32 → Prop
  | 0, _, _, _ => False
  | n9 + 1, l1, l3, l4 =>
    fX0_dogs tx A (fun r1 => (if r1 ≤ l4 then Q l3 else (vp_in l4 5) ∧ ((if (A (25 + 1) (l4).toNatClampNeg) = l1 then fX0_spot_J97 tx n K A G (fun x0 x1 x2 => fX0_spot_L65 tx n K A G  Q n9 x0 x1 x2) Q l1 l4 ((1 : Int32) <<< (l4 &&& 31)) l3 else fX0_spot_J97 tx n K A G (fun x0 x1 x2 => fX0_spot_L65 tx n K A G  Q n9 x0 x1 x2) Q l1 l4 0 l3))))
theorem fX0_spot_L65_ok {Γ : jG} {n : Nat} {K : Nat → pKd} {G : pG} {A : pA} {Lg : pL} (hf : fOK n K G) (tx : Nat) (ht : G 0 3 = .ref tx) (hx : xOK n K G tx) (Q : Int32 → Prop) (P : jO → pS → Prop) (hP : P = (fun o u => ∃ (r : Int32), o = .inl (some (.int r)) ∧ u = (n, K, A, Lg, G) ∧ Q r))    : ∀ (n9 : Nat) (l1 : Int32) (l3 : Int32) (l4 : Int32), fX0_spot_L65 tx n K A G  Q n9 l1 l3 l4 → J Γ RX0 cX0_spot 5 (some .int) "spot" [] 4 0 0 65 [(0, .ref 0), (1, .int l1), (3, .int l3), (4, .int l4)] [] (n, K, A, Lg, G) P := by
  intro n9
  induction n9 with
  | zero => intro l1 l3 l4 h; exact h.elim
  | succ n9 ih =>
    intro l1 l3 l4 h
    unfold fX0_spot_L65 at h
    refine j_iload 3 rfl dX0_spot_65 ?_
    refine j_aload_n 0 rfl dX0_spot_67 ?_
    refine j_callV (b := 0) (As := []) (st := [.int l4]) (C := RX0) (kc' := 0) (ks' := 0) (tX0_dogs hf tx ht hx _ h) myX0_dogs rfl q1199 q1201 qs34 (by decide) (fun s9 H9 hK9 hR9 h69 => jIs_in hK9 hR9 h69 (f_lt hf (by decide)) (fk_0 hf) rfl) rfl (Nat.le_of_ble_eq_true rfl) rfl (by decide) (Nat.le_refl 0) (Nat.le_refl 0) dX0_spot_68 (fun v9 u9 hq => ?_) (fun k9 u9 hq => by obtain ⟨_, e9, _⟩ := hq; cases e9)
    obtain ⟨r1, e9, rfl, h⟩ := hq
    obtain rfl := Sum.inl.inj e9
    show J Γ RX0 cX0_spot 5 (some .int) "spot" [] 4 0 0 71 [(0, .ref 0), (1, .int l1), (3, .int l3), (4, .int l4)] [.int r1, .int l4] (n, K, A, Lg, G) P
    refine j_icmp_ge (tgt := 105) dX0_spot_71 (by decide) (fun c => ?_) (fun c => ?_)
    · rw [if_pos c] at h
      refine j_iload_n 2 rfl dX0_spot_105 ?_
      refine j_iret rfl ?_ dX0_spot_106
      rw [hP]
      exact ⟨l3, rfl, rfl, h⟩
    · rw [if_neg c] at h
      refine j_iload_n 2 rfl dX0_spot_74 ?_
      refine j_aload_n 0 rfl dX0_spot_75 ?_
      refine j_getfr fl_X0_55_0 rfl (f_lt hf (by decide)) (fk_0 hf) (fg_0_7 hf) dX0_spot_76 ?_
      refine j_getfr fl_X0_172_5 rfl (t_lt hf isT_town (j := 0) (by decide)) (tk_0 hf isT_town) (tg_0_0 hf isT_town) dX0_spot_79 ?_
      refine j_iload 3 rfl dX0_spot_82 ?_
      obtain ⟨b2, h⟩ := h
      refine j_ialdJ (j := (l4).toNatClampNeg) (t_lt hf isT_town (j := 1) (by decide)) (tk_1 hf isT_town) b2 rfl dX0_spot_84 ?_
      refine j_iload_n 1 rfl dX0_spot_85 ?_
      refine j_icmp_ne (tgt := 96) dX0_spot_86 (by decide) (fun c => ?_) (fun c => ?_)
      · rw [if_neg c] at h
        refine j_iconst (v := 0) dX0_spot_96 (by decide) ?_
        refine j_ls [0, 1, 3] rfl ?_
        exact fX0_spot_J97_ok hf tx ht hx Q P hP (fun x0 x1 x2 => fX0_spot_L65 tx n K A G  Q n9 x0 x1 x2) (fun x0 x1 x2 h9 => ih x0 x1 x2 h9) l1 l4 0 l3 h
      · rw [if_pos c] at h
        refine j_iconst (v := 1) dX0_spot_89 (by decide) ?_
        refine j_iload 3 rfl dX0_spot_90 ?_
        refine j_ishl dX0_spot_92 ?_
        refine j_goto (tgt := 97) dX0_spot_93 (by decide) ?_
        refine j_ls [0, 1, 3] rfl ?_
        exact fX0_spot_J97_ok hf tx ht hx Q P hP (fun x0 x1 x2 => fX0_spot_L65 tx n K A G  Q n9 x0 x1 x2) (fun x0 x1 x2 h9 => ih x0 x1 x2 h9) l1 l4 ((1 : Int32) <<< (l4 &&& 31)) l3 h
def fX0_spot_J142 (tx : Nat) (n : Nat) (K : Nat → pKd) (A : pA) (G : pG) (k110 : Int32 → Int32 → Int32 → Prop) (Q : Int32 → Prop) (l1 : Int32) (l4 : Int32) (s0 : Int32) (s1 : Int32) : Prop :=
    k110 l1 (s1 ||| s0) (l4 + 1)
theorem fX0_spot_J142_ok {Γ : jG} {n : Nat} {K : Nat → pKd} {G : pG} {A : pA} {Lg : pL} (hf : fOK n K G) (tx : Nat) (ht : G 0 3 = .ref tx) (hx : xOK n K G tx) (Q : Int32 → Prop) (P : jO → pS → Prop) (hP : P = (fun o u => ∃ (r : Int32), o = .inl (some (.int r)) ∧ u = (n, K, A, Lg, G) ∧ Q r)) (k110 : Int32 → Int32 → Int32 → Prop) (ok110 : ∀ (l1 : Int32) (l3 : Int32) (l4 : Int32), k110 l1 l3 l4 → J Γ RX0 cX0_spot 5 (some .int) "spot" [] 4 0 0 110 [(0, .ref 0), (1, .int l1), (3, .int l3), (4, .int l4)] [] (n, K, A, Lg, G) P) (l1 : Int32) (l4 : Int32) (s0 : Int32) (s1 : Int32) (h : fX0_spot_J142 tx n K A G k110 Q l1 l4 s0 s1) : J Γ RX0 cX0_spot 5 (some .int) "spot" [] 4 0 0 142 [(0, .ref 0), (1, .int l1), (4, .int l4)] [.int s0, .int s1] (n, K, A, Lg, G) P := by
  unfold fX0_spot_J142 at h
  refine j_ior dX0_spot_142 ?_
  refine j_istore_n (by decide) rfl dX0_spot_143 ?_
  refine j_iinc (v := l4 + 1) 3 rfl rfl (by decide) rfl dX0_spot_144 ?_
  refine j_goto (tgt := 110) dX0_spot_147 (by decide) ?_
  refine j_ls [2, 3, 1, 0] rfl ?_
  exact ok110 l1 (s1 ||| s0) (l4 + 1) h
def fX0_spot_L110 (tx : Nat) (n : Nat) (K : Nat → pKd) (A : pA) (G : pG)  (Q : Int32 → Prop) : Nat → Int32 → Int32 → Int32 → Prop
  | 0, _, _, _ => False
  | n9 + 1, l1, l3, l4 =>
    fX0_people tx A (fun r3 => (if r3 ≤ l4 then Q l3 else (vp_in l4 4) ∧ ((if (A (25 + 4) (l4).toNatClampNeg) = l1 then fX0_spot_J142 tx n K A G (fun x0 x1 x2 => fX0_spot_L110 tx n K A G  Q n9 x0 x1 x2) Q l1 l4 ((1 : Int32) <<< (l4 &&& 31)) l3 else fX0_spot_J142 tx n K A G (fun x0 x1 x2 => fX0_spot_L110 tx n K A G  Q n9 x0 x1 x2) Q l1 l4 0 l3))))
theorem fX0_spot_L110_ok {Γ : jG} {n : Nat} {K : Nat → pKd} {G : pG} {A : pA} {Lg : pL} (hf : fOK n K G) (tx : Nat) (ht : G 0 3 = .ref tx) (hx : xOK n K G tx) (Q : Int32 → Prop) (P : jO → pS → Prop) (hP : P = (fun o u => ∃ (r : Int32), o = .inl (some (.int r)) ∧ u = (n, K, A, Lg, G) ∧ Q r))    : ∀ (n9 : Nat) (l1 : Int32) (l3 : Int32) (l4 : Int32), fX0_spot_L110 tx n K A G  Q n9 l1 l3 l4 → J Γ RX0 cX0_spot 5 (some .int) "spot" [] 4 0 0 110 [(0, .ref 0), (1, .int l1), (3, .int l3), (4, .int l4)] [] (n, K, A, Lg, G) P := by
  intro n9
  induction n9 with
  | zero => intro l1 l3 l4 h; exact h.elim
  | succ n9 ih =>
    intro l1 l3 l4 h
    unfold fX0_spot_L110 at h
    refine j_iload 3 rfl dX0_spot_110 ?_
    refine j_aload_n 0 rfl dX0_spot_112 ?_
    refine j_callV (b := 0) (As := []) (st := [.int l4]) (C := RX0) (kc' := 0) (ks' := 0) (tX0_people hf tx ht hx _ h) myX0_people rfl q1203 q1205 qs35 (by decide) (fun s9 H9 hK9 hR9 h69 => jIs_in hK9 hR9 h69 (f_lt hf (by decide)) (fk_0 hf) rfl) rfl (Nat.le_of_ble_eq_true rfl) rfl (by decide) (Nat.le_refl 0) (Nat.le_refl 0) dX0_spot_113 (fun v9 u9 hq => ?_) (fun k9 u9 hq => by obtain ⟨_, e9, _⟩ := hq; cases e9)
    obtain ⟨r3, e9, rfl, h⟩ := hq
    obtain rfl := Sum.inl.inj e9
    show J Γ RX0 cX0_spot 5 (some .int) "spot" [] 4 0 0 116 [(0, .ref 0), (1, .int l1), (3, .int l3), (4, .int l4)] [.int r3, .int l4] (n, K, A, Lg, G) P
    refine j_icmp_ge (tgt := 150) dX0_spot_116 (by decide) (fun c => ?_) (fun c => ?_)
    · rw [if_pos c] at h
      refine j_iload_n 2 rfl dX0_spot_150 ?_
      refine j_iret rfl ?_ dX0_spot_151
      rw [hP]
      exact ⟨l3, rfl, rfl, h⟩
    · rw [if_neg c] at h
      refine j_iload_n 2 rfl dX0_spot_119 ?_
      refine j_aload_n 0 rfl dX0_spot_120 ?_
      refine j_getfr fl_X0_55_0 rfl (f_lt hf (by decide)) (fk_0 hf) (fg_0_7 hf) dX0_spot_121 ?_
      refine j_getfr fl_X0_175_5 rfl (t_lt hf isT_town (j := 0) (by decide)) (tk_0 hf isT_town) (tg_0_3 hf isT_town) dX0_spot_124 ?_
      refine j_iload 3 rfl dX0_spot_127 ?_
      obtain ⟨b4, h⟩ := h
      refine j_ialdJ (j := (l4).toNatClampNeg) (t_lt hf isT_town (j := 4) (by decide)) (tk_4 hf isT_town) b4 rfl dX0_spot_129 ?_
      refine j_iload_n 1 rfl dX0_spot_130 ?_
      refine j_icmp_ne (tgt := 141) dX0_spot_131 (by decide) (fun c => ?_) (fun c => ?_)
      · rw [if_neg c] at h
        refine j_iconst (v := 0) dX0_spot_141 (by decide) ?_
        refine j_ls [0, 1, 3] rfl ?_
        exact fX0_spot_J142_ok hf tx ht hx Q P hP (fun x0 x1 x2 => fX0_spot_L110 tx n K A G  Q n9 x0 x1 x2) (fun x0 x1 x2 h9 => ih x0 x1 x2 h9) l1 l4 0 l3 h
      · rw [if_pos c] at h
        refine j_iconst (v := 1) dX0_spot_134 (by decide) ?_
        refine j_iload 3 rfl dX0_spot_135 ?_
        refine j_ishl dX0_spot_137 ?_
        refine j_goto (tgt := 142) dX0_spot_138 (by decide) ?_
        refine j_ls [0, 1, 3] rfl ?_
        exact fX0_spot_J142_ok hf tx ht hx Q P hP (fun x0 x1 x2 => fX0_spot_L110 tx n K A G  Q n9 x0 x1 x2) (fun x0 x1 x2 h9 => ih x0 x1 x2 h9) l1 l4 ((1 : Int32) <<< (l4 &&& 31)) l3 h
def fX0_spot_J196 (tx : Nat) (n : Nat) (K : Nat → pKd) (A : pA) (G : pG) (k155 : Int32 → Int32 → Int32 → Prop) (Q : Int32 → Prop) (l1 : Int32) (l4 : Int32) (s0 : Int32) (s1 : Int32) : Prop :=
    k155 l1 (s1 + s0) (l4 + 1)
theorem fX0_spot_J196_ok {Γ : jG} {n : Nat} {K : Nat → pKd} {G : pG} {A : pA} {Lg : pL} (hf : fOK n K G) (tx : Nat) (ht : G 0 3 = .ref tx) (hx : xOK n K G tx) (Q : Int32 → Prop) (P : jO → pS → Prop) (hP : P = (fun o u => ∃ (r : Int32), o = .inl (some (.int r)) ∧ u = (n, K, A, Lg, G) ∧ Q r)) (k155 : Int32 → Int32 → Int32 → Prop) (ok155 : ∀ (l1 : Int32) (l3 : Int32) (l4 : Int32), k155 l1 l3 l4 → J Γ RX0 cX0_spot 5 (some .int) "spot" [] 4 0 0 155 [(0, .ref 0), (1, .int l1), (3, .int l3), (4, .int l4)] [] (n, K, A, Lg, G) P) (l1 : Int32) (l4 : Int32) (s0 : Int32) (s1 : Int32) (h : fX0_spot_J196 tx n K A G k155 Q l1 l4 s0 s1) : J Γ RX0 cX0_spot 5 (some .int) "spot" [] 4 0 0 196 [(0, .ref 0), (1, .int l1), (4, .int l4)] [.int s0, .int s1] (n, K, A, Lg, G) P := by
  unfold fX0_spot_J196 at h
  refine j_iadd dX0_spot_196 ?_
  refine j_istore_n (by decide) rfl dX0_spot_197 ?_
  refine j_iinc (v := l4 + 1) 3 rfl rfl (by decide) rfl dX0_spot_198 ?_
  refine j_goto (tgt := 155) dX0_spot_201 (by decide) ?_
  refine j_ls [2, 3, 1, 0] rfl ?_
  exact ok155 l1 (s1 + s0) (l4 + 1) h
def fX0_spot_J195 (tx : Nat) (n : Nat) (K : Nat → pKd) (A : pA) (G : pG) (k155 : Int32 → Int32 → Int32 → Prop) (Q : Int32 → Prop) (l1 : Int32) (l4 : Int32) (s0 : Int32) : Prop :=
    fX0_spot_J196 tx n K A G k155 Q l1 l4 0 s0
theorem fX0_spot_J195_ok {Γ : jG} {n : Nat} {K : Nat → pKd} {G : pG} {A : pA} {Lg : pL} (hf : fOK n K G) (tx : Nat) (ht : G 0 3 = .ref tx) (hx : xOK n K G tx) (Q : Int32 → Prop) (P : jO → pS → Prop) (hP : P = (fun o u => ∃ (r : Int32), o = .inl (some (.int r)) ∧ u = (n, K, A, Lg, G) ∧ Q r)) (k155 : Int32 → Int32 → Int32 → Prop) (ok155 : ∀ (l1 : Int32) (l3 : Int32) (l4 : Int32), k155 l1 l3 l4 → J Γ RX0 cX0_spot 5 (some .int) "spot" [] 4 0 0 155 [(0, .ref 0), (1, .int l1), (3, .int l3), (4, .int l4)] [] (n, K, A, Lg, G) P) (l1 : Int32) (l4 : Int32) (s0 : Int32) (h : fX0_spot_J195 tx n K A G k155 Q l1 l4 s0) : J Γ RX0 cX0_spot 5 (some .int) "spot" [] 4 0 0 195 [(0, .ref 0), (1, .int l1), (4, .int l4)] [.int s0] (n, K, A, Lg, G) P := by
  unfold fX0_spot_J195 at h
  refine j_iconst (v := 0) dX0_spot_195 (by decide) ?_
  exact fX0_spot_J196_ok hf tx ht hx Q P hP k155 ok155 l1 l4 0 s0 h
def fX0_spot_L155 (tx : Nat) (n : Nat) (K : Nat → pKd) (A : pA) (G : pG)  (Q : Int32 → Prop) : Nat → Int32 → Int32 → Int32 → Prop
  | 0, _, _, _ => False
  | n9 + 1, l1, l3, l4 =>
    (if (A tx 8) ≤ l4 then Q l3 else (vp_in l4 8) ∧ ((if (A (tx + 5) (l4).toNatClampNeg) = l1 then fX0_isDone tx A l4 (fun r6 => (if r6 = 0 then fX0_spot_J196 tx n K A G (fun x0 x1 x2 => fX0_spot_L155 tx n K A G  Q n9 x0 x1 x2) Q l1 l4 1 l3 else fX0_spot_J195 tx n K A G (fun x0 x1 x2 => fX0_spot_L155 tx n K A G  Q n9 x0 x1 x2) Q l1 l4 l3)) else fX0_spot_J195 tx n K A G (fun x0 x1 x2 => fX0_spot_L155 tx n K A G  Q n9 x0 x1 x2) Q l1 l4 l3)))
theorem fX0_spot_L155_ok {Γ : jG} {n : Nat} {K : Nat → pKd} {G : pG} {A : pA} {Lg : pL} (hf : fOK n K G) (tx : Nat) (ht : G 0 3 = .ref tx) (hx : xOK n K G tx) (Q : Int32 → Prop) (P : jO → pS → Prop) (hP : P = (fun o u => ∃ (r : Int32), o = .inl (some (.int r)) ∧ u = (n, K, A, Lg, G) ∧ Q r))    : ∀ (n9 : Nat) (l1 : Int32) (l3 : Int32) (l4 : Int32), fX0_spot_L155 tx n K A G  Q n9 l1 l3 l4 → J Γ RX0 cX0_spot 5 (some .int) "spot" [] 4 0 0 155 [(0, .ref 0), (1, .int l1), (3, .int l3), (4, .int l4)] [] (n, K, A, Lg, G) P := by
  intro n9
  induction n9 with
  | zero => intro l1 l3 l4 h; exact h.elim
  | succ n9 ih =>
    intro l1 l3 l4 h
    unfold fX0_spot_L155 at h
    refine j_iload 3 rfl dX0_spot_155 ?_
    refine j_aload_n 0 rfl dX0_spot_157 ?_
    refine j_getfr fl_X0_44_0 rfl (f_lt hf (by decide)) (fk_0 hf) ht dX0_spot_158 ?_
    refine j_getfi fl_X0_178_4 rfl (x_lt hx (j := 0) (by decide)) (xk_0 hx) dX0_spot_161 ?_
    refine j_icmp_ge (tgt := 204) dX0_spot_164 (by decide) (fun c => ?_) (fun c => ?_)
    · rw [if_pos c] at h
      refine j_iload_n 2 rfl dX0_spot_204 ?_
      refine j_iret rfl ?_ dX0_spot_205
      rw [hP]
      exact ⟨l3, rfl, rfl, h⟩
    · rw [if_neg c] at h
      refine j_iload_n 2 rfl dX0_spot_167 ?_
      refine j_aload_n 0 rfl dX0_spot_168 ?_
      refine j_getfr fl_X0_44_0 rfl (f_lt hf (by decide)) (fk_0 hf) ht dX0_spot_169 ?_
      refine j_getfr fl_X0_181_4 rfl (x_lt hx (j := 0) (by decide)) (xk_0 hx) (xg_0_4 hx) dX0_spot_172 ?_
      refine j_iload 3 rfl dX0_spot_175 ?_
      obtain ⟨b5, h⟩ := h
      refine j_ialdJ (j := (l4).toNatClampNeg) (x_lt hx (j := 5) (by decide)) (xk_5 hx) b5 rfl dX0_spot_177 ?_
      refine j_iload_n 1 rfl dX0_spot_178 ?_
      refine j_icmp_ne (tgt := 195) dX0_spot_179 (by decide) (fun c => ?_) (fun c => ?_)
      · rw [if_neg c] at h
        refine j_ls [0, 1, 3] rfl ?_
        exact fX0_spot_J195_ok hf tx ht hx Q P hP (fun x0 x1 x2 => fX0_spot_L155 tx n K A G  Q n9 x0 x1 x2) (fun x0 x1 x2 h9 => ih x0 x1 x2 h9) l1 l4 l3 h
      · rw [if_pos c] at h
        refine j_aload_n 0 rfl dX0_spot_182 ?_
        refine j_iload 3 rfl dX0_spot_183 ?_
        refine j_callV (b := 0) (As := [.int l4]) (st := [.int l3]) (C := RX0) (kc' := 0) (ks' := 0) (tX0_isDone hf tx ht hx l4 _ h) myX0_isDone rfl q1207 q1209 qs36 (by decide) (fun s9 H9 hK9 hR9 h69 => jIs_in hK9 hR9 h69 (f_lt hf (by decide)) (fk_0 hf) rfl) rfl (Nat.le_of_ble_eq_true rfl) rfl (by decide) (Nat.le_refl 0) (Nat.le_refl 0) dX0_spot_185 (fun v9 u9 hq => ?_) (fun k9 u9 hq => by obtain ⟨_, e9, _⟩ := hq; cases e9)
        obtain ⟨r6, e9, rfl, h⟩ := hq
        obtain rfl := Sum.inl.inj e9
        show J Γ RX0 cX0_spot 5 (some .int) "spot" [] 4 0 0 188 [(0, .ref 0), (1, .int l1), (3, .int l3), (4, .int l4)] [.int r6, .int l3] (n, K, A, Lg, G) P
        refine j_if_ne (tgt := 195) dX0_spot_188 (by decide) (fun c => ?_) (fun c => ?_)
        · rw [if_neg c] at h
          refine j_ls [0, 1, 3] rfl ?_
          exact fX0_spot_J195_ok hf tx ht hx Q P hP (fun x0 x1 x2 => fX0_spot_L155 tx n K A G  Q n9 x0 x1 x2) (fun x0 x1 x2 h9 => ih x0 x1 x2 h9) l1 l4 l3 h
        · rw [if_pos c] at h
          refine j_iconst (v := 1) dX0_spot_191 (by decide) ?_
          refine j_goto (tgt := 196) dX0_spot_192 (by decide) ?_
          refine j_ls [0, 1, 3] rfl ?_
          exact fX0_spot_J196_ok hf tx ht hx Q P hP (fun x0 x1 x2 => fX0_spot_L155 tx n K A G  Q n9 x0 x1 x2) (fun x0 x1 x2 h9 => ih x0 x1 x2 h9) l1 l4 1 l3 h
def fX0_spot (tx : Nat) (n : Nat) (K : Nat → pKd) (A : pA) (G : pG) (p1 : Int32) (p2 : Int32) (Q : Int32 → Prop) : Prop :=
    fX0_isPlace tx A p1 (fun r7 => (if r7 = 0 then Q (-1) else (if p2 = 0 then fJ5_get (tx + 1) n K A G p1 (fun r9 => (r9 < n) ∧ ((K r9 = .inl 14) ∧ (Q (A r9 1)))) else (if p2 = 1 then ∃ m13, fX0_spot_L65 tx n K A G  Q m13 p1 0 0 else (if p2 = 2 then ∃ m15, fX0_spot_L110 tx n K A G  Q m15 p1 0 0 else (if p2 = 3 then ∃ m17, fX0_spot_L155 tx n K A G  Q m17 p1 0 0 else (Q (-1))))))))
theorem tX0_spot {Γ : jG} {n : Nat} {K : Nat → pKd} {G : pG} {A : pA} {Lg : pL} (hf : fOK n K G) (tx : Nat) (ht : G 0 3 = .ref tx) (hx : xOK n K G tx) (p1 : Int32) (p2 : Int32) (Q : Int32 → Prop) (h : fX0_spot tx n K A G p1 p2 Q) : jMet Γ yX0_spot cX0_spot 5 (some .int) [] 4 0 0 [.ref 0, .int p1, .int p2] (n, K, A, Lg, G) (fun o u => ∃ (r : Int32), o = .inl (some (.int r)) ∧ u = (n, K, A, Lg, G) ∧ Q r) := by
  unfold fX0_spot at h
  obtain ⟨P, hP⟩ : ∃ P : jO → pS → Prop, P = (fun o u => ∃ (r : Int32), o = .inl (some (.int r)) ∧ u = (n, K, A, Lg, G) ∧ Q r) := ⟨_, rfl⟩
  rw [← hP]
  refine jMet_of rfl rfl rfl (Nat.le_of_ble_eq_true rfl) ?_
  show J Γ RX0 cX0_spot 5 (some .int) "spot" [] 4 0 0 0 [(0, .ref 0), (1, .int p1), (2, .int p2)] [] (n, K, A, Lg, G) P
  refine j_aload_n 0 rfl dX0_spot_0 ?_
  refine j_iload_n 1 rfl dX0_spot_1 ?_
  refine j_callV (b := 0) (As := [.int p1]) (st := []) (C := RX0) (kc' := 0) (ks' := 0) (tX0_isPlace hf tx ht hx p1 _ h) myX0_isPlace rfl q1185 q1187 qs32 (by decide) (fun s9 H9 hK9 hR9 h69 => jIs_in hK9 hR9 h69 (f_lt hf (by decide)) (fk_0 hf) rfl) rfl (Nat.le_of_ble_eq_true rfl) rfl (by decide) (Nat.le_refl 0) (Nat.le_refl 0) dX0_spot_2 (fun v9 u9 hq => ?_) (fun k9 u9 hq => by obtain ⟨_, e9, _⟩ := hq; cases e9)
  obtain ⟨r7, e9, rfl, h⟩ := hq
  obtain rfl := Sum.inl.inj e9
  show J Γ RX0 cX0_spot 5 (some .int) "spot" [] 4 0 0 5 [(0, .ref 0), (1, .int p1), (2, .int p2)] [.int r7] (n, K, A, Lg, G) P
  refine j_if_ne (tgt := 10) dX0_spot_5 (by decide) (fun c => ?_) (fun c => ?_)
  · rw [if_neg c] at h
    refine j_iconst (v := 0) dX0_spot_10 (by decide) ?_
    refine j_istore_n (by decide) rfl dX0_spot_11 ?_
    refine j_iload_n 3 rfl dX0_spot_12 ?_
    by_cases c8 : p2 = 0
    · rw [if_pos c8] at h
      have c8T : (p2 : Int32).toInt = 0 := by rw [c8]; rfl
      refine j_tableIn (off := 31) (tgt := 44) (by rw [c8T]; decide) (by rw [c8T]; decide) (by rw [c8T]; rfl) dX0_spot_13 (by decide) ?_
      refine j_aload_n 1 rfl dX0_spot_44 ?_
      refine j_getfr fl_X0_44_0 rfl (f_lt hf (by decide)) (fk_0 hf) ht dX0_spot_45 ?_
      refine j_getfr fl_X0_129_4 rfl (x_lt hx (j := 0) (by decide)) (xk_0 hx) (xg_0_0 hx) dX0_spot_48 ?_
      refine j_iload_n 2 rfl dX0_spot_51 ?_
      refine j_callV (b := (tx + 1)) (As := [.int p1]) (st := []) (C := RJ5) (kc' := 0) (ks' := 0) (tJ5_get hf (tx + 1) (x_lt hx (j := 1) (by decide)) (xk_1 hx) p1 _ h) myJ5_get rfl q1197 q540 q541 (j_l2 hf.1 (x_lt hx (j := 1) (by decide))) (fun s9 H9 hK9 hR9 h69 => jIs_in hK9 hR9 h69 (x_lt hx (j := 1) (by decide)) (xk_1 hx) rfl) rfl (Nat.le_of_ble_eq_true rfl) rfl (by decide) (Nat.le_refl 0) (Nat.le_refl 0) dX0_spot_52 (fun v9 u9 hq => ?_) (fun k9 u9 hq => by obtain ⟨_, e9, _⟩ := hq; cases e9)
      obtain ⟨r9, e9, rfl, h⟩ := hq
      obtain rfl := Sum.inl.inj e9
      show J Γ RX0 cX0_spot 5 (some .int) "spot" [] 4 0 0 55 [(3, .int 0), (0, .ref 0), (1, .int p1), (2, .int p2)] [.ref r9] (n, K, A, Lg, G) P
      obtain ⟨b10, h⟩ := h
      obtain ⟨b11, h⟩ := h
      refine j_cast (C := "DogsHour$Spot") q1198 (j_l2 hf.1 b10) (fun s9 H9 hK9 hR9 h69 => jIs_in hK9 hR9 h69 b10 b11 rfl) (Or.inl rfl) dX0_spot_55 ?_
      refine j_getfi fl_X0_169_14 rfl b10 b11 dX0_spot_58 ?_
      refine j_iret rfl ?_ dX0_spot_61
      rw [hP]
      exact ⟨A r9 1, rfl, rfl, h⟩
    rw [if_neg c8] at h
    by_cases c12 : p2 = 1
    · rw [if_pos c12] at h
      have c12T : (p2 : Int32).toInt = 1 := by rw [c12]; rfl
      refine j_tableIn (off := 49) (tgt := 62) (by rw [c12T]; decide) (by rw [c12T]; decide) (by rw [c12T]; rfl) dX0_spot_13 (by decide) ?_
      refine j_iconst (v := 0) dX0_spot_62 (by decide) ?_
      refine j_istore (by decide) rfl dX0_spot_63 ?_
      refine j_ls [2, 3, 1, 0] rfl ?_
      obtain ⟨m13, h⟩ := h
      exact fX0_spot_L65_ok hf tx ht hx Q P hP   m13 p1 0 0 h
    rw [if_neg c12] at h
    by_cases c14 : p2 = 2
    · rw [if_pos c14] at h
      have c14T : (p2 : Int32).toInt = 2 := by rw [c14]; rfl
      refine j_tableIn (off := 94) (tgt := 107) (by rw [c14T]; decide) (by rw [c14T]; decide) (by rw [c14T]; rfl) dX0_spot_13 (by decide) ?_
      refine j_iconst (v := 0) dX0_spot_107 (by decide) ?_
      refine j_istore (by decide) rfl dX0_spot_108 ?_
      refine j_ls [2, 3, 1, 0] rfl ?_
      obtain ⟨m15, h⟩ := h
      exact fX0_spot_L110_ok hf tx ht hx Q P hP   m15 p1 0 0 h
    rw [if_neg c14] at h
    by_cases c16 : p2 = 3
    · rw [if_pos c16] at h
      have c16T : (p2 : Int32).toInt = 3 := by rw [c16]; rfl
      refine j_tableIn (off := 139) (tgt := 152) (by rw [c16T]; decide) (by rw [c16T]; decide) (by rw [c16T]; rfl) dX0_spot_13 (by decide) ?_
      refine j_iconst (v := 0) dX0_spot_152 (by decide) ?_
      refine j_istore (by decide) rfl dX0_spot_153 ?_
      refine j_ls [2, 3, 1, 0] rfl ?_
      obtain ⟨m17, h⟩ := h
      exact fX0_spot_L155_ok hf tx ht hx Q P hP   m17 p1 0 0 h
    rw [if_neg c16] at h
    refine j_tableOut (tgt := 206) (by have c8T := lv_neT c8 (a := 0) rfl; have c12T := lv_neT c12 (a := 1) rfl; have c14T := lv_neT c14 (a := 2) rfl; have c16T := lv_neT c16 (a := 3) rfl; omega) dX0_spot_13 (by decide) ?_
    refine j_iconst (v := (-1)) dX0_spot_206 (by decide) ?_
    refine j_iret rfl ?_ dX0_spot_207
    rw [hP]
    exact ⟨(-1), rfl, rfl, h⟩
  · rw [if_pos c] at h
    refine j_iconst (v := (-1)) dX0_spot_8 (by decide) ?_
    refine j_iret rfl ?_ dX0_spot_9
    rw [hP]
    exact ⟨(-1), rfl, rfl, h⟩
theorem myX0_dog : jY yX0_dog cX0_dog 4 (some .int) 2 := ⟨q1214, q121, by decide +kernel, by decide +kernel, by decide⟩
def fX0_dog (tx : Nat) (n : Nat) (K : Nat → pKd) (A : pA) (G : pG) (p1 : Int32) (p2 : Int32) (Q : Int32 → Prop) : Prop :=
    fX0_isDog tx A p1 (fun r1 => (if r1 = 0 then Q (-1) else fJ5_get (tx + 2) n K A G p1 (fun r2 => (r2 < n) ∧ ((K r2 = .inl 15) ∧ ((if p2 = 0 then Q (A r2 1) else (if p2 = 1 then Q (A r2 2) else (if p2 = 2 then Q (A r2 3) else (if p2 = 3 then (vp_in p1 5) ∧ (Q (A (25 + 1) (p1).toNatClampNeg)) else (if p2 = 4 then (vp_in p1 5) ∧ (Q (A (25 + 2) (p1).toNatClampNeg)) else (if p2 = 5 then (vp_in p1 5) ∧ (Q (A (25 + 3) (p1).toNatClampNeg)) else (Q (-1)))))))))))))
theorem tX0_dog {Γ : jG} {n : Nat} {K : Nat → pKd} {G : pG} {A : pA} {Lg : pL} (hf : fOK n K G) (tx : Nat) (ht : G 0 3 = .ref tx) (hx : xOK n K G tx) (p1 : Int32) (p2 : Int32) (Q : Int32 → Prop) (h : fX0_dog tx n K A G p1 p2 Q) : jMet Γ yX0_dog cX0_dog 4 (some .int) [] 4 0 0 [.ref 0, .int p1, .int p2] (n, K, A, Lg, G) (fun o u => ∃ (r : Int32), o = .inl (some (.int r)) ∧ u = (n, K, A, Lg, G) ∧ Q r) := by
  unfold fX0_dog at h
  obtain ⟨P, hP⟩ : ∃ P : jO → pS → Prop, P = (fun o u => ∃ (r : Int32), o = .inl (some (.int r)) ∧ u = (n, K, A, Lg, G) ∧ Q r) := ⟨_, rfl⟩
  rw [← hP]
  refine jMet_of rfl rfl rfl (Nat.le_of_ble_eq_true rfl) ?_
  show J Γ RX0 cX0_dog 4 (some .int) "dog" [] 4 0 0 0 [(0, .ref 0), (1, .int p1), (2, .int p2)] [] (n, K, A, Lg, G) P
  refine j_aload_n 0 rfl dX0_dog_0 ?_
  refine j_iload_n 1 rfl dX0_dog_1 ?_
  refine j_callV (b := 0) (As := [.int p1]) (st := []) (C := RX0) (kc' := 0) (ks' := 0) (tX0_isDog hf tx ht hx p1 _ h) myX0_isDog rfl q1215 q1217 qs37 (by decide) (fun s9 H9 hK9 hR9 h69 => jIs_in hK9 hR9 h69 (f_lt hf (by decide)) (fk_0 hf) rfl) rfl (Nat.le_of_ble_eq_true rfl) rfl (by decide) (Nat.le_refl 0) (Nat.le_refl 0) dX0_dog_2 (fun v9 u9 hq => ?_) (fun k9 u9 hq => by obtain ⟨_, e9, _⟩ := hq; cases e9)
  obtain ⟨r1, e9, rfl, h⟩ := hq
  obtain rfl := Sum.inl.inj e9
  show J Γ RX0 cX0_dog 4 (some .int) "dog" [] 4 0 0 5 [(0, .ref 0), (1, .int p1), (2, .int p2)] [.int r1] (n, K, A, Lg, G) P
  refine j_if_ne (tgt := 10) dX0_dog_5 (by decide) (fun c => ?_) (fun c => ?_)
  · rw [if_neg c] at h
    refine j_aload_n 0 rfl dX0_dog_10 ?_
    refine j_getfr fl_X0_44_0 rfl (f_lt hf (by decide)) (fk_0 hf) ht dX0_dog_11 ?_
    refine j_getfr fl_X0_139_4 rfl (x_lt hx (j := 0) (by decide)) (xk_0 hx) (xg_0_1 hx) dX0_dog_14 ?_
    refine j_iload_n 1 rfl dX0_dog_17 ?_
    refine j_callV (b := (tx + 2)) (As := [.int p1]) (st := []) (C := RJ5) (kc' := 0) (ks' := 0) (tJ5_get hf (tx + 2) (x_lt hx (j := 2) (by decide)) (xk_2 hx) p1 _ h) myJ5_get rfl q1197 q540 q541 (j_l2 hf.1 (x_lt hx (j := 2) (by decide))) (fun s9 H9 hK9 hR9 h69 => jIs_in hK9 hR9 h69 (x_lt hx (j := 2) (by decide)) (xk_2 hx) rfl) rfl (Nat.le_of_ble_eq_true rfl) rfl (by decide) (Nat.le_refl 0) (Nat.le_refl 0) dX0_dog_18 (fun v9 u9 hq => ?_) (fun k9 u9 hq => by obtain ⟨_, e9, _⟩ := hq; cases e9)
    obtain ⟨r2, e9, rfl, h⟩ := hq
    obtain rfl := Sum.inl.inj e9
    show J Γ RX0 cX0_dog 4 (some .int) "dog" [] 4 0 0 21 [(0, .ref 0), (1, .int p1), (2, .int p2)] [.ref r2] (n, K, A, Lg, G) P
    obtain ⟨b3, h⟩ := h
    obtain ⟨b4, h⟩ := h
    refine j_cast (C := "DogsHour$Dog") q1219 (j_l2 hf.1 b3) (fun s9 H9 hK9 hR9 h69 => jIs_in hK9 hR9 h69 b3 b4 rfl) (Or.inl rfl) dX0_dog_21 ?_
    refine j_astore_n (by decide) rfl dX0_dog_24 ?_
    refine j_iload_n 3 rfl dX0_dog_25 ?_
    by_cases c5 : p2 = 0
    · rw [if_pos c5] at h
      have c5T : (p2 : Int32).toInt = 0 := by rw [c5]; rfl
      refine j_tableIn (off := 38) (tgt := 64) (by rw [c5T]; decide) (by rw [c5T]; decide) (by rw [c5T]; rfl) dX0_dog_26 (by decide) ?_
      refine j_aload_n 0 rfl dX0_dog_64 ?_
      refine j_getfi fl_X0_192_15 rfl b3 b4 dX0_dog_65 ?_
      refine j_iret rfl ?_ dX0_dog_68
      rw [hP]
      exact ⟨A r2 1, rfl, rfl, h⟩
    rw [if_neg c5] at h
    by_cases c6 : p2 = 1
    · rw [if_pos c6] at h
      have c6T : (p2 : Int32).toInt = 1 := by rw [c6]; rfl
      refine j_tableIn (off := 43) (tgt := 69) (by rw [c6T]; decide) (by rw [c6T]; decide) (by rw [c6T]; rfl) dX0_dog_26 (by decide) ?_
      refine j_aload_n 0 rfl dX0_dog_69 ?_
      refine j_getfi fl_X0_195_15 rfl b3 b4 dX0_dog_70 ?_
      refine j_iret rfl ?_ dX0_dog_73
      rw [hP]
      exact ⟨A r2 2, rfl, rfl, h⟩
    rw [if_neg c6] at h
    by_cases c7 : p2 = 2
    · rw [if_pos c7] at h
      have c7T : (p2 : Int32).toInt = 2 := by rw [c7]; rfl
      refine j_tableIn (off := 48) (tgt := 74) (by rw [c7T]; decide) (by rw [c7T]; decide) (by rw [c7T]; rfl) dX0_dog_26 (by decide) ?_
      refine j_aload_n 0 rfl dX0_dog_74 ?_
      refine j_getfi fl_X0_198_15 rfl b3 b4 dX0_dog_75 ?_
      refine j_iret rfl ?_ dX0_dog_78
      rw [hP]
      exact ⟨A r2 3, rfl, rfl, h⟩
    rw [if_neg c7] at h
    by_cases c8 : p2 = 3
    · rw [if_pos c8] at h
      have c8T : (p2 : Int32).toInt = 3 := by rw [c8]; rfl
      refine j_tableIn (off := 53) (tgt := 79) (by rw [c8T]; decide) (by rw [c8T]; decide) (by rw [c8T]; rfl) dX0_dog_26 (by decide) ?_
      refine j_aload_n 1 rfl dX0_dog_79 ?_
      refine j_getfr fl_X0_55_0 rfl (f_lt hf (by decide)) (fk_0 hf) (fg_0_7 hf) dX0_dog_80 ?_
      refine j_getfr fl_X0_172_5 rfl (t_lt hf isT_town (j := 0) (by decide)) (tk_0 hf isT_town) (tg_0_0 hf isT_town) dX0_dog_83 ?_
      refine j_iload_n 2 rfl dX0_dog_86 ?_
      obtain ⟨b9, h⟩ := h
      refine j_ialdJ (j := (p1).toNatClampNeg) (t_lt hf isT_town (j := 1) (by decide)) (tk_1 hf isT_town) b9 rfl dX0_dog_87 ?_
      refine j_iret rfl ?_ dX0_dog_88
      rw [hP]
      exact ⟨A (25 + 1) (p1).toNatClampNeg, rfl, rfl, h⟩
    rw [if_neg c8] at h
    by_cases c10 : p2 = 4
    · rw [if_pos c10] at h
      have c10T : (p2 : Int32).toInt = 4 := by rw [c10]; rfl
      refine j_tableIn (off := 63) (tgt := 89) (by rw [c10T]; decide) (by rw [c10T]; decide) (by rw [c10T]; rfl) dX0_dog_26 (by decide) ?_
      refine j_aload_n 1 rfl dX0_dog_89 ?_
      refine j_getfr fl_X0_55_0 rfl (f_lt hf (by decide)) (fk_0 hf) (fg_0_7 hf) dX0_dog_90 ?_
      refine j_getfr fl_X0_201_5 rfl (t_lt hf isT_town (j := 0) (by decide)) (tk_0 hf isT_town) (tg_0_1 hf isT_town) dX0_dog_93 ?_
      refine j_iload_n 2 rfl dX0_dog_96 ?_
      obtain ⟨b11, h⟩ := h
      refine j_ialdJ (j := (p1).toNatClampNeg) (t_lt hf isT_town (j := 2) (by decide)) (tk_2 hf isT_town) b11 rfl dX0_dog_97 ?_
      refine j_iret rfl ?_ dX0_dog_98
      rw [hP]
      exact ⟨A (25 + 2) (p1).toNatClampNeg, rfl, rfl, h⟩
    rw [if_neg c10] at h
    by_cases c12 : p2 = 5
    · rw [if_pos c12] at h
      have c12T : (p2 : Int32).toInt = 5 := by rw [c12]; rfl
      refine j_tableIn (off := 73) (tgt := 99) (by rw [c12T]; decide) (by rw [c12T]; decide) (by rw [c12T]; rfl) dX0_dog_26 (by decide) ?_
      refine j_aload_n 1 rfl dX0_dog_99 ?_
      refine j_getfr fl_X0_55_0 rfl (f_lt hf (by decide)) (fk_0 hf) (fg_0_7 hf) dX0_dog_100 ?_
      refine j_getfr fl_X0_204_5 rfl (t_lt hf isT_town (j := 0) (by decide)) (tk_0 hf isT_town) (tg_0_2 hf isT_town) dX0_dog_103 ?_
      refine j_iload_n 2 rfl dX0_dog_106 ?_
      obtain ⟨b13, h⟩ := h
      refine j_ialdJ (j := (p1).toNatClampNeg) (t_lt hf isT_town (j := 3) (by decide)) (tk_3 hf isT_town) b13 rfl dX0_dog_107 ?_
      refine j_iret rfl ?_ dX0_dog_108
      rw [hP]
      exact ⟨A (25 + 3) (p1).toNatClampNeg, rfl, rfl, h⟩
    rw [if_neg c12] at h
    refine j_tableOut (tgt := 109) (by have c5T := lv_neT c5 (a := 0) rfl; have c6T := lv_neT c6 (a := 1) rfl; have c7T := lv_neT c7 (a := 2) rfl; have c8T := lv_neT c8 (a := 3) rfl; have c10T := lv_neT c10 (a := 4) rfl; have c12T := lv_neT c12 (a := 5) rfl; omega) dX0_dog_26 (by decide) ?_
    refine j_iconst (v := (-1)) dX0_dog_109 (by decide) ?_
    refine j_iret rfl ?_ dX0_dog_110
    rw [hP]
    exact ⟨(-1), rfl, rfl, h⟩
  · rw [if_pos c] at h
    refine j_iconst (v := (-1)) dX0_dog_8 (by decide) ?_
    refine j_iret rfl ?_ dX0_dog_9
    rw [hP]
    exact ⟨(-1), rfl, rfl, h⟩
theorem myX0_leftOf : jY yX0_leftOf cX0_leftOf 5 (some .int) 2 := ⟨q1236, q121, by decide +kernel, by decide +kernel, by decide⟩
def fX0_leftOf_J49 (tx : Nat) (a1 : Nat) (A : pA) (k5 : Int32 → Int32 → Int32 → Prop) (Q : Int32 → Prop) (l2 : Int32) (l4 : Int32) (s0 : Int32) (s1 : Int32) : Prop :=
    k5 l2 (s1 + s0) (l4 + 1)
theorem fX0_leftOf_J49_ok {Γ : jG} {n : Nat} {K : Nat → pKd} {G : pG} {A : pA} {Lg : pL} (hf : fOK n K G) (tx : Nat) (ht : G 0 3 = .ref tx) (hx : xOK n K G tx) (a1 : Nat) (ha1 : isT a1) (Q : Int32 → Prop) (P : jO → pS → Prop) (hP : P = (fun o u => ∃ (r : Int32), o = .inl (some (.int r)) ∧ u = (n, K, A, Lg, G) ∧ Q r)) (k5 : Int32 → Int32 → Int32 → Prop) (ok5 : ∀ (l2 : Int32) (l3 : Int32) (l4 : Int32), k5 l2 l3 l4 → J Γ RX0 cX0_leftOf 5 (some .int) "leftOf" [] 1 0 0 5 [(0, .ref 0), (1, .ref a1), (2, .int l2), (3, .int l3), (4, .int l4)] [] (n, K, A, Lg, G) P) (l2 : Int32) (l4 : Int32) (s0 : Int32) (s1 : Int32) (h : fX0_leftOf_J49 tx a1 A k5 Q l2 l4 s0 s1) : J Γ RX0 cX0_leftOf 5 (some .int) "leftOf" [] 1 0 0 49 [(0, .ref 0), (1, .ref a1), (2, .int l2), (4, .int l4)] [.int s0, .int s1] (n, K, A, Lg, G) P := by
  unfold fX0_leftOf_J49 at h
  refine j_iadd dX0_leftOf_49 ?_
  refine j_istore_n (by decide) rfl dX0_leftOf_50 ?_
  refine j_iinc (v := l4 + 1) 4 rfl rfl (by decide) rfl dX0_leftOf_51 ?_
  refine j_goto (tgt := 5) dX0_leftOf_54 (by decide) ?_
  refine j_ls [2, 3, 4, 1, 0] rfl ?_
  exact ok5 l2 (s1 + s0) (l4 + 1) h
def fX0_leftOf_J48 (tx : Nat) (a1 : Nat) (A : pA) (k5 : Int32 → Int32 → Int32 → Prop) (Q : Int32 → Prop) (l2 : Int32) (l4 : Int32) (s0 : Int32) : Prop :=
    fX0_leftOf_J49 tx a1 A k5 Q l2 l4 0 s0
theorem fX0_leftOf_J48_ok {Γ : jG} {n : Nat} {K : Nat → pKd} {G : pG} {A : pA} {Lg : pL} (hf : fOK n K G) (tx : Nat) (ht : G 0 3 = .ref tx) (hx : xOK n K G tx) (a1 : Nat) (ha1 : isT a1) (Q : Int32 → Prop) (P : jO → pS → Prop) (hP : P = (fun o u => ∃ (r : Int32), o = .inl (some (.int r)) ∧ u = (n, K, A, Lg, G) ∧ Q r)) (k5 : Int32 → Int32 → Int32 → Prop) (ok5 : ∀ (l2 : Int32) (l3 : Int32) (l4 : Int32), k5 l2 l3 l4 → J Γ RX0 cX0_leftOf 5 (some .int) "leftOf" [] 1 0 0 5 [(0, .ref 0), (1, .ref a1), (2, .int l2), (3, .int l3), (4, .int l4)] [] (n, K, A, Lg, G) P) (l2 : Int32) (l4 : Int32) (s0 : Int32) (h : fX0_leftOf_J48 tx a1 A k5 Q l2 l4 s0) : J Γ RX0 cX0_leftOf 5 (some .int) "leftOf" [] 1 0 0 48 [(0, .ref 0), (1, .ref a1), (2, .int l2), (4, .int l4)] [.int s0] (n, K, A, Lg, G) P := by
  unfold fX0_leftOf_J48 at h
  refine j_iconst (v := 0) dX0_leftOf_48 (by decide) ?_
  exact fX0_leftOf_J49_ok hf tx ht hx a1 ha1 Q P hP k5 ok5 l2 l4 0 s0 h
def fX0_leftOf_L5 (tx : Nat) (a1 : Nat) (A : pA)  (Q : Int32 → Prop) : Nat → Int32 → Int32 → Int32 → Prop
  | 0, _, _, _ => False
  | n9 + 1, l2, l3, l4 =>
    (if (A tx 8) ≤ l4 then Q l3 else (vp_in l4 8) ∧ ((if (A (tx + 4) (l4).toNatClampNeg) = l2 then (if (((A a1 10) >>> (l4 &&& 31)) &&& 1) = 0 then fX0_leftOf_J49 tx a1 A (fun x0 x1 x2 => fX0_leftOf_L5 tx a1 A  Q n9 x0 x1 x2) Q l2 l4 1 l3 else fX0_leftOf_J48 tx a1 A (fun x0 x1 x2 => fX0_leftOf_L5 tx a1 A  Q n9 x0 x1 x2) Q l2 l4 l3) else fX0_leftOf_J48 tx a1 A (fun x0 x1 x2 => fX0_leftOf_L5 tx a1 A  Q n9 x0 x1 x2) Q l2 l4 l3)))
theorem fX0_leftOf_L5_ok {Γ : jG} {n : Nat} {K : Nat → pKd} {G : pG} {A : pA} {Lg : pL} (hf : fOK n K G) (tx : Nat) (ht : G 0 3 = .ref tx) (hx : xOK n K G tx) (a1 : Nat) (ha1 : isT a1) (Q : Int32 → Prop) (P : jO → pS → Prop) (hP : P = (fun o u => ∃ (r : Int32), o = .inl (some (.int r)) ∧ u = (n, K, A, Lg, G) ∧ Q r))    : ∀ (n9 : Nat) (l2 : Int32) (l3 : Int32) (l4 : Int32), fX0_leftOf_L5 tx a1 A  Q n9 l2 l3 l4 → J Γ RX0 cX0_leftOf 5 (some .int) "leftOf" [] 1 0 0 5 [(0, .ref 0), (1, .ref a1), (2, .int l2), (3, .int l3), (4, .int l4)] [] (n, K, A, Lg, G) P := by
  intro n9
  induction n9 with
  | zero => intro l2 l3 l4 h; exact h.elim
  | succ n9 ih =>
    intro l2 l3 l4 h
    unfold fX0_leftOf_L5 at h
    refine j_iload 4 rfl dX0_leftOf_5 ?_
    refine j_aload_n 0 rfl dX0_leftOf_7 ?_
    refine j_getfr fl_X0_44_0 rfl (f_lt hf (by decide)) (fk_0 hf) ht dX0_leftOf_8 ?_
    refine j_getfi fl_X0_178_4 rfl (x_lt hx (j := 0) (by decide)) (xk_0 hx) dX0_leftOf_11 ?_
    refine j_icmp_ge (tgt := 57) dX0_leftOf_14 (by decide) (fun c => ?_) (fun c => ?_)
    · rw [if_pos c] at h
      refine j_iload_n 3 rfl dX0_leftOf_57 ?_
      refine j_iret rfl ?_ dX0_leftOf_58
      rw [hP]
      exact ⟨l3, rfl, rfl, h⟩
    · rw [if_neg c] at h
      refine j_iload_n 3 rfl dX0_leftOf_17 ?_
      refine j_aload_n 0 rfl dX0_leftOf_18 ?_
      refine j_getfr fl_X0_44_0 rfl (f_lt hf (by decide)) (fk_0 hf) ht dX0_leftOf_19 ?_
      refine j_getfr fl_X0_207_4 rfl (x_lt hx (j := 0) (by decide)) (xk_0 hx) (xg_0_3 hx) dX0_leftOf_22 ?_
      refine j_iload 4 rfl dX0_leftOf_25 ?_
      obtain ⟨b1, h⟩ := h
      refine j_ialdJ (j := (l4).toNatClampNeg) (x_lt hx (j := 4) (by decide)) (xk_4 hx) b1 rfl dX0_leftOf_27 ?_
      refine j_iload_n 2 rfl dX0_leftOf_28 ?_
      refine j_icmp_ne (tgt := 48) dX0_leftOf_29 (by decide) (fun c => ?_) (fun c => ?_)
      · rw [if_neg c] at h
        refine j_ls [0, 1, 2, 4] rfl ?_
        exact fX0_leftOf_J48_ok hf tx ht hx a1 ha1 Q P hP (fun x0 x1 x2 => fX0_leftOf_L5 tx a1 A  Q n9 x0 x1 x2) (fun x0 x1 x2 h9 => ih x0 x1 x2 h9) l2 l4 l3 h
      · rw [if_pos c] at h
        refine j_aload_n 1 rfl dX0_leftOf_32 ?_
        refine j_getfi fl_X0_156_5 rfl (t_lt hf ha1 (j := 0) (by decide)) (tk_0 hf ha1) dX0_leftOf_33 ?_
        refine j_iload 4 rfl dX0_leftOf_36 ?_
        refine j_ishr dX0_leftOf_38 ?_
        refine j_iconst (v := 1) dX0_leftOf_39 (by decide) ?_
        refine j_iand dX0_leftOf_40 ?_
        refine j_if_ne (tgt := 48) dX0_leftOf_41 (by decide) (fun c => ?_) (fun c => ?_)
        · rw [if_neg c] at h
          refine j_ls [0, 1, 2, 4] rfl ?_
          exact fX0_leftOf_J48_ok hf tx ht hx a1 ha1 Q P hP (fun x0 x1 x2 => fX0_leftOf_L5 tx a1 A  Q n9 x0 x1 x2) (fun x0 x1 x2 h9 => ih x0 x1 x2 h9) l2 l4 l3 h
        · rw [if_pos c] at h
          refine j_iconst (v := 1) dX0_leftOf_44 (by decide) ?_
          refine j_goto (tgt := 49) dX0_leftOf_45 (by decide) ?_
          refine j_ls [0, 1, 2, 4] rfl ?_
          exact fX0_leftOf_J49_ok hf tx ht hx a1 ha1 Q P hP (fun x0 x1 x2 => fX0_leftOf_L5 tx a1 A  Q n9 x0 x1 x2) (fun x0 x1 x2 h9 => ih x0 x1 x2 h9) l2 l4 1 l3 h
def fX0_leftOf (tx : Nat) (a1 : Nat) (A : pA) (p2 : Int32) (Q : Int32 → Prop) : Prop :=
    ∃ m2, fX0_leftOf_L5 tx a1 A  Q m2 p2 0 0
theorem tX0_leftOf {Γ : jG} {n : Nat} {K : Nat → pKd} {G : pG} {A : pA} {Lg : pL} (hf : fOK n K G) (tx : Nat) (ht : G 0 3 = .ref tx) (hx : xOK n K G tx) (a1 : Nat) (ha1 : isT a1) (p2 : Int32) (Q : Int32 → Prop) (h : fX0_leftOf tx a1 A p2 Q) : jMet Γ yX0_leftOf cX0_leftOf 5 (some .int) [] 1 0 0 [.ref 0, .ref a1, .int p2] (n, K, A, Lg, G) (fun o u => ∃ (r : Int32), o = .inl (some (.int r)) ∧ u = (n, K, A, Lg, G) ∧ Q r) := by
  unfold fX0_leftOf at h
  obtain ⟨P, hP⟩ : ∃ P : jO → pS → Prop, P = (fun o u => ∃ (r : Int32), o = .inl (some (.int r)) ∧ u = (n, K, A, Lg, G) ∧ Q r) := ⟨_, rfl⟩
  rw [← hP]
  refine jMet_of rfl rfl rfl (Nat.le_of_ble_eq_true rfl) ?_
  show J Γ RX0 cX0_leftOf 5 (some .int) "leftOf" [] 1 0 0 0 [(0, .ref 0), (1, .ref a1), (2, .int p2)] [] (n, K, A, Lg, G) P
  refine j_iconst (v := 0) dX0_leftOf_0 (by decide) ?_
  refine j_istore_n (by decide) rfl dX0_leftOf_1 ?_
  refine j_iconst (v := 0) dX0_leftOf_2 (by decide) ?_
  refine j_istore (by decide) rfl dX0_leftOf_3 ?_
  refine j_ls [2, 3, 4, 1, 0] rfl ?_
  obtain ⟨m2, h⟩ := h
  exact fX0_leftOf_L5_ok hf tx ht hx a1 ha1 Q P hP   m2 p2 0 0 h
theorem myX0_person : jY yX0_person cX0_person 3 (some .int) 2 := ⟨q1223, q121, by decide +kernel, by decide +kernel, by decide⟩
def fX0_person (tx : Nat) (n : Nat) (K : Nat → pKd) (A : pA) (G : pG) (p1 : Int32) (p2 : Int32) (Q : Int32 → Prop) : Prop :=
    fX0_isPerson tx A p1 (fun r1 => (if r1 = 0 then Q (-1) else (if p2 = 0 then fJ5_get (tx + 3) n K A G p1 (fun r3 => (r3 < n) ∧ ((K r3 = .inl 16) ∧ (Q (A r3 1)))) else (if p2 = 1 then (vp_in p1 4) ∧ (Q (A (25 + 6) (p1).toNatClampNeg)) else (if p2 = 2 then (vp_in p1 4) ∧ (Q (A (25 + 4) (p1).toNatClampNeg)) else (if p2 = 3 then (vp_in p1 4) ∧ (Q (A (25 + 5) (p1).toNatClampNeg)) else (if p2 = 4 then fX5_isFetched 25 A p1 (fun r13 => (if r13 = 0 then Q 0 else Q 1)) else (if p2 = 5 then fX0_leftOf tx 25 A p1 (fun r15 => Q r15) else (if p2 = 6 then (vp_in p1 4) ∧ (Q (A (25 + 7) (p1).toNatClampNeg)) else (Q (-1)))))))))))
theorem tX0_person {Γ : jG} {n : Nat} {K : Nat → pKd} {G : pG} {A : pA} {Lg : pL} (hf : fOK n K G) (tx : Nat) (ht : G 0 3 = .ref tx) (hx : xOK n K G tx) (p1 : Int32) (p2 : Int32) (Q : Int32 → Prop) (h : fX0_person tx n K A G p1 p2 Q) : jMet Γ yX0_person cX0_person 3 (some .int) [] 4 0 0 [.ref 0, .int p1, .int p2] (n, K, A, Lg, G) (fun o u => ∃ (r : Int32), o = .inl (some (.int r)) ∧ u = (n, K, A, Lg, G) ∧ Q r) := by
  unfold fX0_person at h
  obtain ⟨P, hP⟩ : ∃ P : jO → pS → Prop, P = (fun o u => ∃ (r : Int32), o = .inl (some (.int r)) ∧ u = (n, K, A, Lg, G) ∧ Q r) := ⟨_, rfl⟩
  rw [← hP]
  refine jMet_of rfl rfl rfl (Nat.le_of_ble_eq_true rfl) ?_
  show J Γ RX0 cX0_person 3 (some .int) "person" [] 4 0 0 0 [(0, .ref 0), (1, .int p1), (2, .int p2)] [] (n, K, A, Lg, G) P
  refine j_aload_n 0 rfl dX0_person_0 ?_
  refine j_iload_n 1 rfl dX0_person_1 ?_
  refine j_callV (b := 0) (As := [.int p1]) (st := []) (C := RX0) (kc' := 0) (ks' := 0) (tX0_isPerson hf tx ht hx p1 _ h) myX0_isPerson rfl q1224 q1226 qs38 (by decide) (fun s9 H9 hK9 hR9 h69 => jIs_in hK9 hR9 h69 (f_lt hf (by decide)) (fk_0 hf) rfl) rfl (Nat.le_of_ble_eq_true rfl) rfl (by decide) (Nat.le_refl 0) (Nat.le_refl 0) dX0_person_2 (fun v9 u9 hq => ?_) (fun k9 u9 hq => by obtain ⟨_, e9, _⟩ := hq; cases e9)
  obtain ⟨r1, e9, rfl, h⟩ := hq
  obtain rfl := Sum.inl.inj e9
  show J Γ RX0 cX0_person 3 (some .int) "person" [] 4 0 0 5 [(0, .ref 0), (1, .int p1), (2, .int p2)] [.int r1] (n, K, A, Lg, G) P
  refine j_if_ne (tgt := 10) dX0_person_5 (by decide) (fun c => ?_) (fun c => ?_)
  · rw [if_neg c] at h
    refine j_iload_n 2 rfl dX0_person_10 ?_
    by_cases c2 : p2 = 0
    · rw [if_pos c2] at h
      have c2T : (p2 : Int32).toInt = 0 := by rw [c2]; rfl
      refine j_tableIn (off := 41) (tgt := 52) (by rw [c2T]; decide) (by rw [c2T]; decide) (by rw [c2T]; rfl) dX0_person_11 (by decide) ?_
      refine j_aload_n 0 rfl dX0_person_52 ?_
      refine j_getfr fl_X0_44_0 rfl (f_lt hf (by decide)) (fk_0 hf) ht dX0_person_53 ?_
      refine j_getfr fl_X0_142_4 rfl (x_lt hx (j := 0) (by decide)) (xk_0 hx) (xg_0_2 hx) dX0_person_56 ?_
      refine j_iload_n 1 rfl dX0_person_59 ?_
      refine j_callV (b := (tx + 3)) (As := [.int p1]) (st := []) (C := RJ5) (kc' := 0) (ks' := 0) (tJ5_get hf (tx + 3) (x_lt hx (j := 3) (by decide)) (xk_3 hx) p1 _ h) myJ5_get rfl q1197 q540 q541 (j_l2 hf.1 (x_lt hx (j := 3) (by decide))) (fun s9 H9 hK9 hR9 h69 => jIs_in hK9 hR9 h69 (x_lt hx (j := 3) (by decide)) (xk_3 hx) rfl) rfl (Nat.le_of_ble_eq_true rfl) rfl (by decide) (Nat.le_refl 0) (Nat.le_refl 0) dX0_person_60 (fun v9 u9 hq => ?_) (fun k9 u9 hq => by obtain ⟨_, e9, _⟩ := hq; cases e9)
      obtain ⟨r3, e9, rfl, h⟩ := hq
      obtain rfl := Sum.inl.inj e9
      show J Γ RX0 cX0_person 3 (some .int) "person" [] 4 0 0 63 [(0, .ref 0), (1, .int p1), (2, .int p2)] [.ref r3] (n, K, A, Lg, G) P
      obtain ⟨b4, h⟩ := h
      obtain ⟨b5, h⟩ := h
      refine j_cast (C := "DogsHour$Person") q1228 (j_l2 hf.1 b4) (fun s9 H9 hK9 hR9 h69 => jIs_in hK9 hR9 h69 b4 b5 rfl) (Or.inl rfl) dX0_person_63 ?_
      refine j_getfi fl_X0_215_16 rfl b4 b5 dX0_person_66 ?_
      refine j_iret rfl ?_ dX0_person_69
      rw [hP]
      exact ⟨A r3 1, rfl, rfl, h⟩
    rw [if_neg c2] at h
    by_cases c6 : p2 = 1
    · rw [if_pos c6] at h
      have c6T : (p2 : Int32).toInt = 1 := by rw [c6]; rfl
      refine j_tableIn (off := 59) (tgt := 70) (by rw [c6T]; decide) (by rw [c6T]; decide) (by rw [c6T]; rfl) dX0_person_11 (by decide) ?_
      refine j_aload_n 0 rfl dX0_person_70 ?_
      refine j_getfr fl_X0_55_0 rfl (f_lt hf (by decide)) (fk_0 hf) (fg_0_7 hf) dX0_person_71 ?_
      refine j_getfr fl_X0_218_5 rfl (t_lt hf isT_town (j := 0) (by decide)) (tk_0 hf isT_town) (tg_0_5 hf isT_town) dX0_person_74 ?_
      refine j_iload_n 1 rfl dX0_person_77 ?_
      obtain ⟨b7, h⟩ := h
      refine j_ialdJ (j := (p1).toNatClampNeg) (t_lt hf isT_town (j := 6) (by decide)) (tk_6 hf isT_town) b7 rfl dX0_person_78 ?_
      refine j_iret rfl ?_ dX0_person_79
      rw [hP]
      exact ⟨A (25 + 6) (p1).toNatClampNeg, rfl, rfl, h⟩
    rw [if_neg c6] at h
    by_cases c8 : p2 = 2
    · rw [if_pos c8] at h
      have c8T : (p2 : Int32).toInt = 2 := by rw [c8]; rfl
      refine j_tableIn (off := 69) (tgt := 80) (by rw [c8T]; decide) (by rw [c8T]; decide) (by rw [c8T]; rfl) dX0_person_11 (by decide) ?_
      refine j_aload_n 0 rfl dX0_person_80 ?_
      refine j_getfr fl_X0_55_0 rfl (f_lt hf (by decide)) (fk_0 hf) (fg_0_7 hf) dX0_person_81 ?_
      refine j_getfr fl_X0_175_5 rfl (t_lt hf isT_town (j := 0) (by decide)) (tk_0 hf isT_town) (tg_0_3 hf isT_town) dX0_person_84 ?_
      refine j_iload_n 1 rfl dX0_person_87 ?_
      obtain ⟨b9, h⟩ := h
      refine j_ialdJ (j := (p1).toNatClampNeg) (t_lt hf isT_town (j := 4) (by decide)) (tk_4 hf isT_town) b9 rfl dX0_person_88 ?_
      refine j_iret rfl ?_ dX0_person_89
      rw [hP]
      exact ⟨A (25 + 4) (p1).toNatClampNeg, rfl, rfl, h⟩
    rw [if_neg c8] at h
    by_cases c10 : p2 = 3
    · rw [if_pos c10] at h
      have c10T : (p2 : Int32).toInt = 3 := by rw [c10]; rfl
      refine j_tableIn (off := 79) (tgt := 90) (by rw [c10T]; decide) (by rw [c10T]; decide) (by rw [c10T]; rfl) dX0_person_11 (by decide) ?_
      refine j_aload_n 0 rfl dX0_person_90 ?_
      refine j_getfr fl_X0_55_0 rfl (f_lt hf (by decide)) (fk_0 hf) (fg_0_7 hf) dX0_person_91 ?_
      refine j_getfr fl_X0_221_5 rfl (t_lt hf isT_town (j := 0) (by decide)) (tk_0 hf isT_town) (tg_0_4 hf isT_town) dX0_person_94 ?_
      refine j_iload_n 1 rfl dX0_person_97 ?_
      obtain ⟨b11, h⟩ := h
      refine j_ialdJ (j := (p1).toNatClampNeg) (t_lt hf isT_town (j := 5) (by decide)) (tk_5 hf isT_town) b11 rfl dX0_person_98 ?_
      refine j_iret rfl ?_ dX0_person_99
      rw [hP]
      exact ⟨A (25 + 5) (p1).toNatClampNeg, rfl, rfl, h⟩
    rw [if_neg c10] at h
    by_cases c12 : p2 = 4
    · rw [if_pos c12] at h
      have c12T : (p2 : Int32).toInt = 4 := by rw [c12]; rfl
      refine j_tableIn (off := 89) (tgt := 100) (by rw [c12T]; decide) (by rw [c12T]; decide) (by rw [c12T]; rfl) dX0_person_11 (by decide) ?_
      refine j_aload_n 0 rfl dX0_person_100 ?_
      refine j_getfr fl_X0_55_0 rfl (f_lt hf (by decide)) (fk_0 hf) (fg_0_7 hf) dX0_person_101 ?_
      refine j_iload_n 1 rfl dX0_person_104 ?_
      refine j_callV (b := 25) (As := [.int p1]) (st := []) (C := RX5) (kc' := 0) (ks' := 0) (tX5_isFetched hf 25 isT_town p1 _ h) myX5_isFetched rfl q1229 q1230 q1231 (j_l2 hf.1 (t_lt hf isT_town (j := 0) (by decide))) (fun s9 H9 hK9 hR9 h69 => jIs_in hK9 hR9 h69 (t_lt hf isT_town (j := 0) (by decide)) (tk_0 hf isT_town) rfl) rfl (Nat.le_of_ble_eq_true rfl) rfl (by decide) (Nat.le_refl 0) (Nat.le_refl 0) dX0_person_105 (fun v9 u9 hq => ?_) (fun k9 u9 hq => by obtain ⟨_, e9, _⟩ := hq; cases e9)
      obtain ⟨r13, e9, rfl, h⟩ := hq
      obtain rfl := Sum.inl.inj e9
      show J Γ RX0 cX0_person 3 (some .int) "person" [] 4 0 0 108 [(0, .ref 0), (1, .int p1), (2, .int p2)] [.int r13] (n, K, A, Lg, G) P
      refine j_if_eq (tgt := 115) dX0_person_108 (by decide) (fun c => ?_) (fun c => ?_)
      · rw [if_pos c] at h
        refine j_iconst (v := 0) dX0_person_115 (by decide) ?_
        refine j_iret rfl ?_ dX0_person_116
        rw [hP]
        exact ⟨0, rfl, rfl, h⟩
      · rw [if_neg c] at h
        refine j_iconst (v := 1) dX0_person_111 (by decide) ?_
        refine j_goto (tgt := 116) dX0_person_112 (by decide) ?_
        refine j_iret rfl ?_ dX0_person_116
        rw [hP]
        exact ⟨1, rfl, rfl, h⟩
    rw [if_neg c12] at h
    by_cases c14 : p2 = 5
    · rw [if_pos c14] at h
      have c14T : (p2 : Int32).toInt = 5 := by rw [c14]; rfl
      refine j_tableIn (off := 106) (tgt := 117) (by rw [c14T]; decide) (by rw [c14T]; decide) (by rw [c14T]; rfl) dX0_person_11 (by decide) ?_
      refine j_aload_n 0 rfl dX0_person_117 ?_
      refine j_aload_n 0 rfl dX0_person_118 ?_
      refine j_getfr fl_X0_55_0 rfl (f_lt hf (by decide)) (fk_0 hf) (fg_0_7 hf) dX0_person_119 ?_
      refine j_iload_n 1 rfl dX0_person_122 ?_
      refine j_callV (b := 0) (As := [.ref 25, .int p1]) (st := []) (C := RX0) (kc' := 0) (ks' := 0) (tX0_leftOf hf tx ht hx 25 isT_town p1 _ h) myX0_leftOf rfl q1233 q1235 qs39 (by decide) (fun s9 H9 hK9 hR9 h69 => jIs_in hK9 hR9 h69 (f_lt hf (by decide)) (fk_0 hf) rfl) rfl (Nat.le_of_ble_eq_true rfl) rfl (by decide) (Nat.le_refl 0) (Nat.le_refl 0) dX0_person_123 (fun v9 u9 hq => ?_) (fun k9 u9 hq => by obtain ⟨_, e9, _⟩ := hq; cases e9)
      obtain ⟨r15, e9, rfl, h⟩ := hq
      obtain rfl := Sum.inl.inj e9
      show J Γ RX0 cX0_person 3 (some .int) "person" [] 4 0 0 126 [(0, .ref 0), (1, .int p1), (2, .int p2)] [.int r15] (n, K, A, Lg, G) P
      refine j_iret rfl ?_ dX0_person_126
      rw [hP]
      exact ⟨r15, rfl, rfl, h⟩
    rw [if_neg c14] at h
    by_cases c16 : p2 = 6
    · rw [if_pos c16] at h
      have c16T : (p2 : Int32).toInt = 6 := by rw [c16]; rfl
      refine j_tableIn (off := 116) (tgt := 127) (by rw [c16T]; decide) (by rw [c16T]; decide) (by rw [c16T]; rfl) dX0_person_11 (by decide) ?_
      refine j_aload_n 0 rfl dX0_person_127 ?_
      refine j_getfr fl_X0_55_0 rfl (f_lt hf (by decide)) (fk_0 hf) (fg_0_7 hf) dX0_person_128 ?_
      refine j_getfr fl_X0_231_5 rfl (t_lt hf isT_town (j := 0) (by decide)) (tk_0 hf isT_town) (tg_0_6 hf isT_town) dX0_person_131 ?_
      refine j_iload_n 1 rfl dX0_person_134 ?_
      obtain ⟨b17, h⟩ := h
      refine j_ialdJ (j := (p1).toNatClampNeg) (t_lt hf isT_town (j := 7) (by decide)) (tk_7 hf isT_town) b17 rfl dX0_person_135 ?_
      refine j_iret rfl ?_ dX0_person_136
      rw [hP]
      exact ⟨A (25 + 7) (p1).toNatClampNeg, rfl, rfl, h⟩
    rw [if_neg c16] at h
    refine j_tableOut (tgt := 137) (by have c2T := lv_neT c2 (a := 0) rfl; have c6T := lv_neT c6 (a := 1) rfl; have c8T := lv_neT c8 (a := 2) rfl; have c10T := lv_neT c10 (a := 3) rfl; have c12T := lv_neT c12 (a := 4) rfl; have c14T := lv_neT c14 (a := 5) rfl; have c16T := lv_neT c16 (a := 6) rfl; omega) dX0_person_11 (by decide) ?_
    refine j_iconst (v := (-1)) dX0_person_137 (by decide) ?_
    refine j_iret rfl ?_ dX0_person_138
    rw [hP]
    exact ⟨(-1), rfl, rfl, h⟩
  · rw [if_pos c] at h
    refine j_iconst (v := (-1)) dX0_person_8 (by decide) ?_
    refine j_iret rfl ?_ dX0_person_9
    rw [hP]
    exact ⟨(-1), rfl, rfl, h⟩
theorem myX0_areTogether : jY yX0_areTogether cX0_areTogether 3 (some .boolean) 2 := ⟨q1308, q121, by decide +kernel, by decide +kernel, by decide⟩
def fX0_areTogether (tx : Nat) (A : pA) (p1 : Int32) (p2 : Int32) (Q : Int32 → Prop) : Prop :=
    fX5_isFetched 25 A p1 (fun r1 => (if r1 = 0 then (vp_in p1 4) ∧ ((vp_in p2 5) ∧ ((if (A (25 + 4) (p1).toNatClampNeg) = (A (25 + 1) (p2).toNatClampNeg) then Q 1 else Q 0))) else Q 0))
theorem tX0_areTogether {Γ : jG} {n : Nat} {K : Nat → pKd} {G : pG} {A : pA} {Lg : pL} (hf : fOK n K G) (tx : Nat) (ht : G 0 3 = .ref tx) (hx : xOK n K G tx) (p1 : Int32) (p2 : Int32) (Q : Int32 → Prop) (h : fX0_areTogether tx A p1 p2 Q) : jMet Γ yX0_areTogether cX0_areTogether 3 (some .boolean) [] 2 0 0 [.ref 0, .int p1, .int p2] (n, K, A, Lg, G) (fun o u => ∃ (r : Int32), o = .inl (some (.int r)) ∧ u = (n, K, A, Lg, G) ∧ Q r) := by
  unfold fX0_areTogether at h
  obtain ⟨P, hP⟩ : ∃ P : jO → pS → Prop, P = (fun o u => ∃ (r : Int32), o = .inl (some (.int r)) ∧ u = (n, K, A, Lg, G) ∧ Q r) := ⟨_, rfl⟩
  rw [← hP]
  refine jMet_of rfl rfl rfl (Nat.le_of_ble_eq_true rfl) ?_
  show J Γ RX0 cX0_areTogether 3 (some .boolean) "areTogether" [] 2 0 0 0 [(0, .ref 0), (1, .int p1), (2, .int p2)] [] (n, K, A, Lg, G) P
  refine j_aload_n 0 rfl dX0_areTogether_0 ?_
  refine j_getfr fl_X0_55_0 rfl (f_lt hf (by decide)) (fk_0 hf) (fg_0_7 hf) dX0_areTogether_1 ?_
  refine j_iload_n 1 rfl dX0_areTogether_4 ?_
  refine j_callV (b := 25) (As := [.int p1]) (st := []) (C := RX5) (kc' := 0) (ks' := 0) (tX5_isFetched hf 25 isT_town p1 _ h) myX5_isFetched rfl q1229 q1230 q1231 (j_l2 hf.1 (t_lt hf isT_town (j := 0) (by decide))) (fun s9 H9 hK9 hR9 h69 => jIs_in hK9 hR9 h69 (t_lt hf isT_town (j := 0) (by decide)) (tk_0 hf isT_town) rfl) rfl (Nat.le_of_ble_eq_true rfl) rfl (by decide) (Nat.le_refl 0) (Nat.le_refl 0) dX0_areTogether_5 (fun v9 u9 hq => ?_) (fun k9 u9 hq => by obtain ⟨_, e9, _⟩ := hq; cases e9)
  obtain ⟨r1, e9, rfl, h⟩ := hq
  obtain rfl := Sum.inl.inj e9
  show J Γ RX0 cX0_areTogether 3 (some .boolean) "areTogether" [] 2 0 0 8 [(0, .ref 0), (1, .int p1), (2, .int p2)] [.int r1] (n, K, A, Lg, G) P
  refine j_if_ne (tgt := 36) dX0_areTogether_8 (by decide) (fun c => ?_) (fun c => ?_)
  · rw [if_neg c] at h
    refine j_iconst (v := 0) dX0_areTogether_36 (by decide) ?_
    refine j_zret rfl (by decide) ?_ dX0_areTogether_37
    rw [hP]
    exact ⟨0, rfl, rfl, h⟩
  · rw [if_pos c] at h
    refine j_aload_n 0 rfl dX0_areTogether_11 ?_
    refine j_getfr fl_X0_55_0 rfl (f_lt hf (by decide)) (fk_0 hf) (fg_0_7 hf) dX0_areTogether_12 ?_
    refine j_getfr fl_X0_175_5 rfl (t_lt hf isT_town (j := 0) (by decide)) (tk_0 hf isT_town) (tg_0_3 hf isT_town) dX0_areTogether_15 ?_
    refine j_iload_n 1 rfl dX0_areTogether_18 ?_
    obtain ⟨b2, h⟩ := h
    refine j_ialdJ (j := (p1).toNatClampNeg) (t_lt hf isT_town (j := 4) (by decide)) (tk_4 hf isT_town) b2 rfl dX0_areTogether_19 ?_
    refine j_aload_n 0 rfl dX0_areTogether_20 ?_
    refine j_getfr fl_X0_55_0 rfl (f_lt hf (by decide)) (fk_0 hf) (fg_0_7 hf) dX0_areTogether_21 ?_
    refine j_getfr fl_X0_172_5 rfl (t_lt hf isT_town (j := 0) (by decide)) (tk_0 hf isT_town) (tg_0_0 hf isT_town) dX0_areTogether_24 ?_
    refine j_iload_n 2 rfl dX0_areTogether_27 ?_
    obtain ⟨b3, h⟩ := h
    refine j_ialdJ (j := (p2).toNatClampNeg) (t_lt hf isT_town (j := 1) (by decide)) (tk_1 hf isT_town) b3 rfl dX0_areTogether_28 ?_
    refine j_icmp_ne (tgt := 36) dX0_areTogether_29 (by decide) (fun c => ?_) (fun c => ?_)
    · rw [if_neg c] at h
      refine j_iconst (v := 0) dX0_areTogether_36 (by decide) ?_
      refine j_zret rfl (by decide) ?_ dX0_areTogether_37
      rw [hP]
      exact ⟨0, rfl, rfl, h⟩
    · rw [if_pos c] at h
      refine j_iconst (v := 1) dX0_areTogether_32 (by decide) ?_
      refine j_goto (tgt := 37) dX0_areTogether_33 (by decide) ?_
      refine j_zret rfl (by decide) ?_ dX0_areTogether_37
      rw [hP]
      exact ⟨1, rfl, rfl, h⟩
theorem myX0_far : jY yX0_far cX0_far 3 (some .int) 2 := ⟨q1379, q121, by decide +kernel, by decide +kernel, by decide⟩
def fX0_far (tx : Nat) (A : pA) (p1 : Int32) (p2 : Int32) (Q : Int32 → Prop) : Prop :=
    fX0_isPlace tx A p1 (fun r1 => (if r1 = 0 then Q (-1) else fX0_isPlace tx A p2 (fun r2 => (if r2 = 0 then Q (-1) else (vp_in p1 7) ∧ ((vp_in p2 7) ∧ ((if (A (tx + 8 + (p1).toNatClampNeg) (p2).toNatClampNeg) < 1000000 then (vp_in p1 7) ∧ ((vp_in p2 7) ∧ (Q (A (tx + 8 + (p1).toNatClampNeg) (p2).toNatClampNeg))) else Q (-2))))))))
theorem tX0_far {Γ : jG} {n : Nat} {K : Nat → pKd} {G : pG} {A : pA} {Lg : pL} (hf : fOK n K G) (tx : Nat) (ht : G 0 3 = .ref tx) (hx : xOK n K G tx) (p1 : Int32) (p2 : Int32) (Q : Int32 → Prop) (h : fX0_far tx A p1 p2 Q) : jMet Γ yX0_far cX0_far 3 (some .int) [] 4 0 0 [.ref 0, .int p1, .int p2] (n, K, A, Lg, G) (fun o u => ∃ (r : Int32), o = .inl (some (.int r)) ∧ u = (n, K, A, Lg, G) ∧ Q r) := by
  unfold fX0_far at h
  obtain ⟨P, hP⟩ : ∃ P : jO → pS → Prop, P = (fun o u => ∃ (r : Int32), o = .inl (some (.int r)) ∧ u = (n, K, A, Lg, G) ∧ Q r) := ⟨_, rfl⟩
  rw [← hP]
  refine jMet_of rfl rfl rfl (Nat.le_of_ble_eq_true rfl) ?_
  show J Γ RX0 cX0_far 3 (some .int) "far" [] 4 0 0 0 [(0, .ref 0), (1, .int p1), (2, .int p2)] [] (n, K, A, Lg, G) P
  refine j_aload_n 0 rfl dX0_far_0 ?_
  refine j_iload_n 1 rfl dX0_far_1 ?_
  refine j_callV (b := 0) (As := [.int p1]) (st := []) (C := RX0) (kc' := 0) (ks' := 0) (tX0_isPlace hf tx ht hx p1 _ h) myX0_isPlace rfl q1185 q1187 qs32 (by decide) (fun s9 H9 hK9 hR9 h69 => jIs_in hK9 hR9 h69 (f_lt hf (by decide)) (fk_0 hf) rfl) rfl (Nat.le_of_ble_eq_true rfl) rfl (by decide) (Nat.le_refl 0) (Nat.le_refl 0) dX0_far_2 (fun v9 u9 hq => ?_) (fun k9 u9 hq => by obtain ⟨_, e9, _⟩ := hq; cases e9)
  obtain ⟨r1, e9, rfl, h⟩ := hq
  obtain rfl := Sum.inl.inj e9
  show J Γ RX0 cX0_far 3 (some .int) "far" [] 4 0 0 5 [(0, .ref 0), (1, .int p1), (2, .int p2)] [.int r1] (n, K, A, Lg, G) P
  refine j_if_eq (tgt := 16) dX0_far_5 (by decide) (fun c => ?_) (fun c => ?_)
  · rw [if_pos c] at h
    refine j_iconst (v := (-1)) dX0_far_16 (by decide) ?_
    refine j_goto (tgt := 53) dX0_far_17 (by decide) ?_
    refine j_iret rfl ?_ dX0_far_53
    rw [hP]
    exact ⟨(-1), rfl, rfl, h⟩
  · rw [if_neg c] at h
    refine j_aload_n 0 rfl dX0_far_8 ?_
    refine j_iload_n 2 rfl dX0_far_9 ?_
    refine j_callV (b := 0) (As := [.int p2]) (st := []) (C := RX0) (kc' := 0) (ks' := 0) (tX0_isPlace hf tx ht hx p2 _ h) myX0_isPlace rfl q1185 q1187 qs32 (by decide) (fun s9 H9 hK9 hR9 h69 => jIs_in hK9 hR9 h69 (f_lt hf (by decide)) (fk_0 hf) rfl) rfl (Nat.le_of_ble_eq_true rfl) rfl (by decide) (Nat.le_refl 0) (Nat.le_refl 0) dX0_far_10 (fun v9 u9 hq => ?_) (fun k9 u9 hq => by obtain ⟨_, e9, _⟩ := hq; cases e9)
    obtain ⟨r2, e9, rfl, h⟩ := hq
    obtain rfl := Sum.inl.inj e9
    show J Γ RX0 cX0_far 3 (some .int) "far" [] 4 0 0 13 [(0, .ref 0), (1, .int p1), (2, .int p2)] [.int r2] (n, K, A, Lg, G) P
    refine j_if_ne (tgt := 20) dX0_far_13 (by decide) (fun c => ?_) (fun c => ?_)
    · rw [if_neg c] at h
      refine j_aload_n 0 rfl dX0_far_20 ?_
      refine j_getfr fl_X0_44_0 rfl (f_lt hf (by decide)) (fk_0 hf) ht dX0_far_21 ?_
      refine j_getfr fl_X0_279_4 rfl (x_lt hx (j := 0) (by decide)) (xk_0 hx) (xg_0_6 hx) dX0_far_24 ?_
      refine j_iload_n 1 rfl dX0_far_27 ?_
      obtain ⟨b3, h⟩ := h
      refine j_aaldJ (t := 11) (j := (p1).toNatClampNeg) rfl rfl rfl (x_lt hx (j := 7) (by decide)) (xk_7 hx) b3 rfl (x_row hx (j_ix b3)).1 dX0_far_28 ?_
      refine j_iload_n 2 rfl dX0_far_29 ?_
      obtain ⟨b4, h⟩ := h
      refine j_ialdJ (j := (p2).toNatClampNeg) (x_rowlt hx (j_ix b3)) (x_row hx (j_ix b3)).2 b4 rfl dX0_far_30 ?_
      refine j_ldcw (v := 1000000) q1380 dX0_far_31 ?_
      refine j_icmp_lt (tgt := 42) dX0_far_34 (by decide) (fun c => ?_) (fun c => ?_)
      · rw [if_pos c] at h
        refine j_aload_n 0 rfl dX0_far_42 ?_
        refine j_getfr fl_X0_44_0 rfl (f_lt hf (by decide)) (fk_0 hf) ht dX0_far_43 ?_
        refine j_getfr fl_X0_279_4 rfl (x_lt hx (j := 0) (by decide)) (xk_0 hx) (xg_0_6 hx) dX0_far_46 ?_
        refine j_iload_n 1 rfl dX0_far_49 ?_
        obtain ⟨b5, h⟩ := h
        refine j_aaldJ (t := 11) (j := (p1).toNatClampNeg) rfl rfl rfl (x_lt hx (j := 7) (by decide)) (xk_7 hx) b5 rfl (x_row hx (j_ix b5)).1 dX0_far_50 ?_
        refine j_iload_n 2 rfl dX0_far_51 ?_
        obtain ⟨b6, h⟩ := h
        refine j_ialdJ (j := (p2).toNatClampNeg) (x_rowlt hx (j_ix b5)) (x_row hx (j_ix b5)).2 b6 rfl dX0_far_52 ?_
        refine j_iret rfl ?_ dX0_far_53
        rw [hP]
        exact ⟨A (tx + 8 + (p1).toNatClampNeg) (p2).toNatClampNeg, rfl, rfl, h⟩
      · rw [if_neg c] at h
        refine j_bipush (v := (-2)) dX0_far_37 (by decide) ?_
        refine j_goto (tgt := 53) dX0_far_39 (by decide) ?_
        refine j_iret rfl ?_ dX0_far_53
        rw [hP]
        exact ⟨(-2), rfl, rfl, h⟩
    · rw [if_pos c] at h
      refine j_iconst (v := (-1)) dX0_far_16 (by decide) ?_
      refine j_goto (tgt := 53) dX0_far_17 (by decide) ?_
      refine j_iret rfl ?_ dX0_far_53
      rw [hP]
      exact ⟨(-1), rfl, rfl, h⟩
theorem myX0_tillHour : jY yX0_tillHour cX0_tillHour 2 (some .int) 0 := ⟨q1388, q121, by decide +kernel, by decide +kernel, by decide⟩
def fX0_tillHour (tx : Nat) (A : pA) (Q : Int32 → Prop) : Prop :=
    fX5_minute 25 tx A (fun r1 => (if ((((A tx 9) - r1) + 1440) - (((A tx 9) - r1) + 1440) / 1440 * 1440) = 0 then Q 1440 else Q ((((A tx 9) - r1) + 1440) - (((A tx 9) - r1) + 1440) / 1440 * 1440)))
theorem tX0_tillHour {Γ : jG} {n : Nat} {K : Nat → pKd} {G : pG} {A : pA} {Lg : pL} (hf : fOK n K G) (tx : Nat) (ht : G 0 3 = .ref tx) (hx : xOK n K G tx)  (Q : Int32 → Prop) (h : fX0_tillHour tx A Q) : jMet Γ yX0_tillHour cX0_tillHour 2 (some .int) [] 2 0 0 [.ref 0] (n, K, A, Lg, G) (fun o u => ∃ (r : Int32), o = .inl (some (.int r)) ∧ u = (n, K, A, Lg, G) ∧ Q r) := by
  unfold fX0_tillHour at h
  obtain ⟨P, hP⟩ : ∃ P : jO → pS → Prop, P = (fun o u => ∃ (r : Int32), o = .inl (some (.int r)) ∧ u = (n, K, A, Lg, G) ∧ Q r) := ⟨_, rfl⟩
  rw [← hP]
  refine jMet_of rfl rfl rfl (Nat.le_of_ble_eq_true rfl) ?_
  show J Γ RX0 cX0_tillHour 2 (some .int) "tillHour" [] 2 0 0 0 [(0, .ref 0)] [] (n, K, A, Lg, G) P
  refine j_aload_n 0 rfl dX0_tillHour_0 ?_
  refine j_getfr fl_X0_44_0 rfl (f_lt hf (by decide)) (fk_0 hf) ht dX0_tillHour_1 ?_
  refine j_getfi fl_X0_283_4 rfl (x_lt hx (j := 0) (by decide)) (xk_0 hx) dX0_tillHour_4 ?_
  refine j_aload_n 0 rfl dX0_tillHour_7 ?_
  refine j_getfr fl_X0_55_0 rfl (f_lt hf (by decide)) (fk_0 hf) (fg_0_7 hf) dX0_tillHour_8 ?_
  refine j_aload_n 0 rfl dX0_tillHour_11 ?_
  refine j_getfr fl_X0_44_0 rfl (f_lt hf (by decide)) (fk_0 hf) ht dX0_tillHour_12 ?_
  refine j_callV (b := 25) (As := [.ref tx]) (st := [.int (A tx 9)]) (C := RX5) (kc' := 0) (ks' := 0) (tX5_minute hf 25 isT_town tx hx _ h) myX5_minute rfl q1389 q1252 q1253 (j_l2 hf.1 (t_lt hf isT_town (j := 0) (by decide))) (fun s9 H9 hK9 hR9 h69 => jIs_in hK9 hR9 h69 (t_lt hf isT_town (j := 0) (by decide)) (tk_0 hf isT_town) rfl) rfl (Nat.le_of_ble_eq_true rfl) rfl (by decide) (Nat.le_refl 0) (Nat.le_refl 0) dX0_tillHour_15 (fun v9 u9 hq => ?_) (fun k9 u9 hq => by obtain ⟨_, e9, _⟩ := hq; cases e9)
  obtain ⟨r1, e9, rfl, h⟩ := hq
  obtain rfl := Sum.inl.inj e9
  show J Γ RX0 cX0_tillHour 2 (some .int) "tillHour" [] 2 0 0 18 [(0, .ref 0)] [.int r1, .int (A tx 9)] (n, K, A, Lg, G) P
  refine j_isub dX0_tillHour_18 ?_
  refine j_sipush (v := 1440) dX0_tillHour_19 (by decide) ?_
  refine j_iadd dX0_tillHour_22 ?_
  refine j_sipush (v := 1440) dX0_tillHour_23 (by decide) ?_
  refine j_irem (by decide) dX0_tillHour_26 ?_
  refine j_istore_n (by decide) rfl dX0_tillHour_27 ?_
  refine j_iload_n 0 rfl dX0_tillHour_28 ?_
  refine j_if_ne (tgt := 38) dX0_tillHour_29 (by decide) (fun c => ?_) (fun c => ?_)
  · rw [if_neg c] at h
    refine j_iload_n 0 rfl dX0_tillHour_38 ?_
    refine j_iret rfl ?_ dX0_tillHour_39
    rw [hP]
    exact ⟨(((A tx 9) - r1) + 1440) - (((A tx 9) - r1) + 1440) / 1440 * 1440, rfl, rfl, h⟩
  · rw [if_pos c] at h
    refine j_sipush (v := 1440) dX0_tillHour_32 (by decide) ?_
    refine j_goto (tgt := 39) dX0_tillHour_35 (by decide) ?_
    refine j_iret rfl ?_ dX0_tillHour_39
    rw [hP]
    exact ⟨1440, rfl, rfl, h⟩
theorem myX0_till : jY yX0_till cX0_till 1 (some .int) 0 := ⟨q1384, q121, by decide +kernel, by decide +kernel, by decide⟩
def fX0_till (tx : Nat) (A : pA) (Q : Int32 → Prop) : Prop :=
    fX0_tillHour tx A (fun r1 => Q r1)
theorem tX0_till {Γ : jG} {n : Nat} {K : Nat → pKd} {G : pG} {A : pA} {Lg : pL} (hf : fOK n K G) (tx : Nat) (ht : G 0 3 = .ref tx) (hx : xOK n K G tx)  (Q : Int32 → Prop) (h : fX0_till tx A Q) : jMet Γ yX0_till cX0_till 1 (some .int) [] 3 0 0 [.ref 0] (n, K, A, Lg, G) (fun o u => ∃ (r : Int32), o = .inl (some (.int r)) ∧ u = (n, K, A, Lg, G) ∧ Q r) := by
  unfold fX0_till at h
  obtain ⟨P, hP⟩ : ∃ P : jO → pS → Prop, P = (fun o u => ∃ (r : Int32), o = .inl (some (.int r)) ∧ u = (n, K, A, Lg, G) ∧ Q r) := ⟨_, rfl⟩
  rw [← hP]
  refine jMet_of rfl rfl rfl (Nat.le_of_ble_eq_true rfl) ?_
  show J Γ RX0 cX0_till 1 (some .int) "till" [] 3 0 0 0 [(0, .ref 0)] [] (n, K, A, Lg, G) P
  refine j_aload_n 0 rfl dX0_till_0 ?_
  refine j_callV (b := 0) (As := []) (st := []) (C := RX0) (kc' := 0) (ks' := 0) (tX0_tillHour hf tx ht hx _ h) myX0_tillHour rfl q1385 q1387 qs46 (by decide) (fun s9 H9 hK9 hR9 h69 => jIs_in hK9 hR9 h69 (f_lt hf (by decide)) (fk_0 hf) rfl) rfl (Nat.le_of_ble_eq_true rfl) rfl (by decide) (Nat.le_refl 0) (Nat.le_refl 0) dX0_till_1 (fun v9 u9 hq => ?_) (fun k9 u9 hq => by obtain ⟨_, e9, _⟩ := hq; cases e9)
  obtain ⟨r1, e9, rfl, h⟩ := hq
  obtain rfl := Sum.inl.inj e9
  show J Γ RX0 cX0_till 1 (some .int) "till" [] 3 0 0 4 [(0, .ref 0)] [.int r1] (n, K, A, Lg, G) P
  refine j_iret rfl ?_ dX0_till_4
  rw [hP]
  exact ⟨r1, rfl, rfl, h⟩
theorem myX0_roundOf : jY yX0_roundOf cX0_roundOf 8 (some .int) 3 := ⟨q1401, q121, by decide +kernel, by decide +kernel, by decide⟩
def fX0_roundOf_L19 (tx : Nat) (k8 : Int32 → Int32 → Int32 → Int32 → Int32 → pA → Prop) (Q : Int32 → pA → Prop) : Nat → Int32 → Int32 → Int32 → Int32 → Int32 → Int32 → pA → Prop
  | 0, _, _, _, _, _, _, _ => False
  | n9 + 1, l1, l2, l3, l4, l5, l6, A =>
    (if 7 ≤ l6 then k8 l1 l2 l3 l4 (l5 + 1) A else (vp_in l5 128) ∧ ((vp_in l6 7) ∧ (∀ A3 : pA, A3 = pup A (147 + (l5).toNatClampNeg) (l6).toNatClampNeg 1000000 → fX0_roundOf_L19 tx k8 Q n9 l1 l2 l3 l4 l5 (l6 + 1) A3)))
theorem fX0_roundOf_L19_ok {Γ : jG} {n : Nat} {K : Nat → pKd} {G : pG} {Lg : pL} (hf : fOK n K G) (tx : Nat) (ht : G 0 3 = .ref tx) (hx : xOK n K G tx) (Q : Int32 → pA → Prop) (P : jO → pS → Prop) (hP : P = (fun o u => ∃ (r : Int32) (A' : pA), o = .inl (some (.int r)) ∧ u = (n, K, A', Lg, G) ∧ Q r A'))  (k8 : Int32 → Int32 → Int32 → Int32 → Int32 → pA → Prop) (ok8 : ∀ (l1 : Int32) (l2 : Int32) (l3 : Int32) (l4 : Int32) (l5 : Int32) (A : pA), k8 l1 l2 l3 l4 l5 A → J Γ RX0 cX0_roundOf 8 (some .int) "roundOf" [] 3 0 0 8 [(0, .ref 0), (1, .int l1), (2, .int l2), (3, .int l3), (4, .int l4), (5, .int l5)] [] (n, K, A, Lg, G) P) : ∀ (n9 : Nat) (l1 : Int32) (l2 : Int32) (l3 : Int32) (l4 : Int32) (l5 : Int32) (l6 : Int32) (A : pA), fX0_roundOf_L19 tx k8 Q n9 l1 l2 l3 l4 l5 l6 A → J Γ RX0 cX0_roundOf 8 (some .int) "roundOf" [] 3 0 0 19 [(0, .ref 0), (1, .int l1), (2, .int l2), (3, .int l3), (4, .int l4), (5, .int l5), (6, .int l6)] [] (n, K, A, Lg, G) P := by
  intro n9
  induction n9 with
  | zero => intro l1 l2 l3 l4 l5 l6 A h; exact h.elim
  | succ n9 ih =>
    intro l1 l2 l3 l4 l5 l6 A h
    unfold fX0_roundOf_L19 at h
    refine j_iload 6 rfl dX0_roundOf_19 ?_
    refine j_bipush (v := 7) dX0_roundOf_21 (by decide) ?_
    refine j_icmp_ge (tgt := 45) dX0_roundOf_23 (by decide) (fun c => ?_) (fun c => ?_)
    · rw [if_pos c] at h
      refine j_iinc (v := l5 + 1) 5 rfl rfl (by decide) rfl dX0_roundOf_45 ?_
      refine j_goto (tgt := 8) dX0_roundOf_48 (by decide) ?_
      refine j_ls [1, 2, 3, 4, 5, 0] rfl ?_
      exact ok8 l1 l2 l3 l4 (l5 + 1) A h
    · rw [if_neg c] at h
      refine j_aload_n 0 rfl dX0_roundOf_26 ?_
      refine j_getfr fl_X0_87_0 rfl (f_lt hf (by decide)) (fk_0 hf) (fg_0_13 hf) dX0_roundOf_27 ?_
      refine j_iload 5 rfl dX0_roundOf_30 ?_
      obtain ⟨b1, h⟩ := h
      refine j_aaldJ (t := 11) (j := (l5).toNatClampNeg) rfl rfl rfl (f_lt hf (by decide)) (fk_146 hf) b1 rfl (steps_row hf (j_ix b1)) dX0_roundOf_32 ?_
      refine j_iload 6 rfl dX0_roundOf_33 ?_
      refine j_ldcw (v := 1000000) q1380 dX0_roundOf_35 ?_
      obtain ⟨b2, h⟩ := h
      refine j_iastJ (j := (l6).toNatClampNeg) (steps_lt hf (j_ix b1)) (steps_k hf (j_ix b1)) b2 rfl dX0_roundOf_38 (fun A3 eA3 => ?_)
      replace h := h A3 eA3
      refine j_iinc (v := l6 + 1) 6 rfl rfl (by decide) rfl dX0_roundOf_39 ?_
      refine j_goto (tgt := 19) dX0_roundOf_42 (by decide) ?_
      refine j_ls [1, 2, 3, 4, 5, 6, 0] rfl ?_
      exact ih l1 l2 l3 l4 l5 (l6 + 1) A3 h
def fX0_roundOf_J231 (tx : Nat) (k78 : Int32 → Int32 → Int32 → Int32 → Int32 → pA → Prop) (Q : Int32 → pA → Prop) (l2 : Int32) (l3 : Int32) (l4 : Int32) (l5 : Int32) (l6 : Int32) (A : pA) : Prop :=
    k78 l2 l3 l4 l5 (l6 + 1) A
theorem fX0_roundOf_J231_ok {Γ : jG} {n : Nat} {K : Nat → pKd} {G : pG} {Lg : pL} (hf : fOK n K G) (tx : Nat) (ht : G 0 3 = .ref tx) (hx : xOK n K G tx) (Q : Int32 → pA → Prop) (P : jO → pS → Prop) (hP : P = (fun o u => ∃ (r : Int32) (A' : pA), o = .inl (some (.int r)) ∧ u = (n, K, A', Lg, G) ∧ Q r A')) (k78 : Int32 → Int32 → Int32 → Int32 → Int32 → pA → Prop) (ok78 : ∀ (l2 : Int32) (l3 : Int32) (l4 : Int32) (l5 : Int32) (l6 : Int32) (A : pA), k78 l2 l3 l4 l5 l6 A → J Γ RX0 cX0_roundOf 8 (some .int) "roundOf" [] 3 0 0 78 [(0, .ref 0), (2, .int l2), (3, .int l3), (4, .int l4), (5, .int l5), (6, .int l6)] [] (n, K, A, Lg, G) P) (l2 : Int32) (l3 : Int32) (l4 : Int32) (l5 : Int32) (l6 : Int32) (A : pA) (h : fX0_roundOf_J231 tx k78 Q l2 l3 l4 l5 l6 A) : J Γ RX0 cX0_roundOf 8 (some .int) "roundOf" [] 3 0 0 231 [(0, .ref 0), (2, .int l2), (3, .int l3), (4, .int l4), (5, .int l5), (6, .int l6)] [] (n, K, A, Lg, G) P := by
  unfold fX0_roundOf_J231 at h
  refine j_iinc (v := l6 + 1) 5 rfl rfl (by decide) rfl dX0_roundOf_231 ?_
  refine j_goto (tgt := 78) dX0_roundOf_234 (by decide) ?_
  refine j_ls [1, 2, 3, 4, 5, 0] rfl ?_
  exact ok78 l2 l3 l4 l5 (l6 + 1) A h
def fX0_roundOf_J225 (tx : Nat) (k145 : Int32 → Int32 → Int32 → Int32 → Int32 → Int32 → pA → Prop) (Q : Int32 → pA → Prop) (l2 : Int32) (l3 : Int32) (l4 : Int32) (l5 : Int32) (l6 : Int32) (l7 : Int32) (A : pA) : Prop :=
    k145 l2 l3 l4 l5 l6 (l7 + 1) A
theorem fX0_roundOf_J225_ok {Γ : jG} {n : Nat} {K : Nat → pKd} {G : pG} {Lg : pL} (hf : fOK n K G) (tx : Nat) (ht : G 0 3 = .ref tx) (hx : xOK n K G tx) (Q : Int32 → pA → Prop) (P : jO → pS → Prop) (hP : P = (fun o u => ∃ (r : Int32) (A' : pA), o = .inl (some (.int r)) ∧ u = (n, K, A', Lg, G) ∧ Q r A')) (k145 : Int32 → Int32 → Int32 → Int32 → Int32 → Int32 → pA → Prop) (ok145 : ∀ (l2 : Int32) (l3 : Int32) (l4 : Int32) (l5 : Int32) (l6 : Int32) (l7 : Int32) (A : pA), k145 l2 l3 l4 l5 l6 l7 A → J Γ RX0 cX0_roundOf 8 (some .int) "roundOf" [] 3 0 0 145 [(0, .ref 0), (2, .int l2), (3, .int l3), (4, .int l4), (5, .int l5), (6, .int l6), (7, .int l7)] [] (n, K, A, Lg, G) P) (l2 : Int32) (l3 : Int32) (l4 : Int32) (l5 : Int32) (l6 : Int32) (l7 : Int32) (A : pA) (h : fX0_roundOf_J225 tx k145 Q l2 l3 l4 l5 l6 l7 A) : J Γ RX0 cX0_roundOf 8 (some .int) "roundOf" [] 3 0 0 225 [(0, .ref 0), (2, .int l2), (3, .int l3), (4, .int l4), (5, .int l5), (6, .int l6), (7, .int l7)] [] (n, K, A, Lg, G) P := by
  unfold fX0_roundOf_J225 at h
  refine j_iinc (v := l7 + 1) 6 rfl rfl (by decide) rfl dX0_roundOf_225 ?_
  refine j_goto (tgt := 145) dX0_roundOf_228 (by decide) ?_
  refine j_ls [1, 2, 3, 4, 5, 6, 0] rfl ?_
  exact ok145 l2 l3 l4 l5 l6 (l7 + 1) A h
def fX0_roundOf_L145 (tx : Nat) (k78 : Int32 → Int32 → Int32 → Int32 → Int32 → pA → Prop) (Q : Int32 → pA → Prop) : Nat → Int32 → Int32 → Int32 → Int32 → Int32 → Int32 → pA → Prop
  | 0, _, _, _, _, _, _, _ => False
  | n9 + 1, l2, l3, l4, l5, l6, l7, A =>
    fX0_places tx A (fun r4 => (if r4 ≤ l7 then fX0_roundOf_J231 tx k78 Q l2 l3 l4 l5 l6 A else (if ((l2 &&& (l5 ^^^ (-1))) &&& ((1 : Int32) <<< (l7 &&& 31))) = 0 then fX0_roundOf_J225 tx (fun x0 x1 x2 x3 x4 x5 x6 => fX0_roundOf_L145 tx k78 Q n9 x0 x1 x2 x3 x4 x5 x6) Q l2 l3 l4 l5 l6 l7 A else (vp_in (l5 ||| ((1 : Int32) <<< (l7 &&& 31))) 128) ∧ ((vp_in (l5 ||| ((1 : Int32) <<< (l7 &&& 31))) 128) ∧ ((vp_in l7 7) ∧ ((vp_in l5 128) ∧ ((vp_in l6 7) ∧ ((vp_in l6 7) ∧ ((vp_in l7 7) ∧ ((vp_in l7 7) ∧ (∀ A13 : pA, A13 = pup A (147 + (l5 ||| ((1 : Int32) <<< (l7 &&& 31))).toNatClampNeg) (l7).toNatClampNeg (pmin (A (147 + (l5 ||| ((1 : Int32) <<< (l7 &&& 31))).toNatClampNeg) (l7).toNatClampNeg) ((A (147 + (l5).toNatClampNeg) (l6).toNatClampNeg) + (A (tx + 8 + (l6).toNatClampNeg) (l7).toNatClampNeg))) → fX0_roundOf_J225 tx (fun x0 x1 x2 x3 x4 x5 x6 => fX0_roundOf_L145 tx k78 Q n9 x0 x1 x2 x3 x4 x5 x6) Q l2 l3 l4 l5 l6 l7 A13)))))))))))
theorem fX0_roundOf_L145_ok {Γ : jG} {n : Nat} {K : Nat → pKd} {G : pG} {Lg : pL} (hf : fOK n K G) (tx : Nat) (ht : G 0 3 = .ref tx) (hx : xOK n K G tx) (Q : Int32 → pA → Prop) (P : jO → pS → Prop) (hP : P = (fun o u => ∃ (r : Int32) (A' : pA), o = .inl (some (.int r)) ∧ u = (n, K, A', Lg, G) ∧ Q r A'))  (k78 : Int32 → Int32 → Int32 → Int32 → Int32 → pA → Prop) (ok78 : ∀ (l2 : Int32) (l3 : Int32) (l4 : Int32) (l5 : Int32) (l6 : Int32) (A : pA), k78 l2 l3 l4 l5 l6 A → J Γ RX0 cX0_roundOf 8 (some .int) "roundOf" [] 3 0 0 78 [(0, .ref 0), (2, .int l2), (3, .int l3), (4, .int l4), (5, .int l5), (6, .int l6)] [] (n, K, A, Lg, G) P) : ∀ (n9 : Nat) (l2 : Int32) (l3 : Int32) (l4 : Int32) (l5 : Int32) (l6 : Int32) (l7 : Int32) (A : pA), fX0_roundOf_L145 tx k78 Q n9 l2 l3 l4 l5 l6 l7 A → J Γ RX0 cX0_roundOf 8 (some .int) "roundOf" [] 3 0 0 145 [(0, .ref 0), (2, .int l2), (3, .int l3), (4, .int l4), (5, .int l5), (6, .int l6), (7, .int l7)] [] (n, K, A, Lg, G) P := by
  intro n9
  induction n9 with
  | zero => intro l2 l3 l4 l5 l6 l7 A h; exact h.elim
  | succ n9 ih =>
    intro l2 l3 l4 l5 l6 l7 A h
    unfold fX0_roundOf_L145 at h
    refine j_iload 6 rfl dX0_roundOf_145 ?_
    refine j_aload_n 0 rfl dX0_roundOf_147 ?_
    refine j_callV (b := 0) (As := []) (st := [.int l7]) (C := RX0) (kc' := 0) (ks' := 0) (tX0_places hf tx ht hx _ h) myX0_places rfl q1189 q1191 qs33 (by decide) (fun s9 H9 hK9 hR9 h69 => jIs_in hK9 hR9 h69 (f_lt hf (by decide)) (fk_0 hf) rfl) rfl (Nat.le_of_ble_eq_true rfl) rfl (by decide) (Nat.le_refl 0) (Nat.le_refl 0) dX0_roundOf_148 (fun v9 u9 hq => ?_) (fun k9 u9 hq => by obtain ⟨_, e9, _⟩ := hq; cases e9)
    obtain ⟨r4, e9, rfl, h⟩ := hq
    obtain rfl := Sum.inl.inj e9
    show J Γ RX0 cX0_roundOf 8 (some .int) "roundOf" [] 3 0 0 151 [(0, .ref 0), (2, .int l2), (3, .int l3), (4, .int l4), (5, .int l5), (6, .int l6), (7, .int l7)] [.int r4, .int l7] (n, K, A, Lg, G) P
    refine j_icmp_ge (tgt := 231) dX0_roundOf_151 (by decide) (fun c => ?_) (fun c => ?_)
    · rw [if_pos c] at h
      refine j_ls [0, 1, 2, 3, 4, 5] rfl ?_
      exact fX0_roundOf_J231_ok hf tx ht hx Q P hP k78 ok78 l2 l3 l4 l5 l6 A h
    · rw [if_neg c] at h
      refine j_iload_n 1 rfl dX0_roundOf_154 ?_
      refine j_iload 4 rfl dX0_roundOf_155 ?_
      refine j_iconst (v := (-1)) dX0_roundOf_157 (by decide) ?_
      refine j_ixor dX0_roundOf_158 ?_
      refine j_iand dX0_roundOf_159 ?_
      refine j_iconst (v := 1) dX0_roundOf_160 (by decide) ?_
      refine j_iload 6 rfl dX0_roundOf_161 ?_
      refine j_ishl dX0_roundOf_163 ?_
      refine j_iand dX0_roundOf_164 ?_
      refine j_if_eq (tgt := 225) dX0_roundOf_165 (by decide) (fun c => ?_) (fun c => ?_)
      · rw [if_pos c] at h
        exact fX0_roundOf_J225_ok hf tx ht hx Q P hP (fun x0 x1 x2 x3 x4 x5 x6 => fX0_roundOf_L145 tx k78 Q n9 x0 x1 x2 x3 x4 x5 x6) (fun x0 x1 x2 x3 x4 x5 x6 h9 => ih x0 x1 x2 x3 x4 x5 x6 h9) l2 l3 l4 l5 l6 l7 A h
      · rw [if_neg c] at h
        refine j_aload_n 0 rfl dX0_roundOf_168 ?_
        refine j_getfr fl_X0_87_0 rfl (f_lt hf (by decide)) (fk_0 hf) (fg_0_13 hf) dX0_roundOf_169 ?_
        refine j_iload 4 rfl dX0_roundOf_172 ?_
        refine j_iconst (v := 1) dX0_roundOf_174 (by decide) ?_
        refine j_iload 6 rfl dX0_roundOf_175 ?_
        refine j_ishl dX0_roundOf_177 ?_
        refine j_ior dX0_roundOf_178 ?_
        obtain ⟨b5, h⟩ := h
        refine j_aaldJ (t := 11) (j := (l5 ||| ((1 : Int32) <<< (l7 &&& 31))).toNatClampNeg) rfl rfl rfl (f_lt hf (by decide)) (fk_146 hf) b5 rfl (steps_row hf (j_ix b5)) dX0_roundOf_179 ?_
        refine j_iload 6 rfl dX0_roundOf_180 ?_
        refine j_aload_n 0 rfl dX0_roundOf_182 ?_
        refine j_getfr fl_X0_87_0 rfl (f_lt hf (by decide)) (fk_0 hf) (fg_0_13 hf) dX0_roundOf_183 ?_
        refine j_iload 4 rfl dX0_roundOf_186 ?_
        refine j_iconst (v := 1) dX0_roundOf_188 (by decide) ?_
        refine j_iload 6 rfl dX0_roundOf_189 ?_
        refine j_ishl dX0_roundOf_191 ?_
        refine j_ior dX0_roundOf_192 ?_
        obtain ⟨b6, h⟩ := h
        refine j_aaldJ (t := 11) (j := (l5 ||| ((1 : Int32) <<< (l7 &&& 31))).toNatClampNeg) rfl rfl rfl (f_lt hf (by decide)) (fk_146 hf) b6 rfl (steps_row hf (j_ix b6)) dX0_roundOf_193 ?_
        refine j_iload 6 rfl dX0_roundOf_194 ?_
        obtain ⟨b7, h⟩ := h
        refine j_ialdJ (j := (l7).toNatClampNeg) (steps_lt hf (j_ix b6)) (steps_k hf (j_ix b6)) b7 rfl dX0_roundOf_196 ?_
        refine j_aload_n 0 rfl dX0_roundOf_197 ?_
        refine j_getfr fl_X0_87_0 rfl (f_lt hf (by decide)) (fk_0 hf) (fg_0_13 hf) dX0_roundOf_198 ?_
        refine j_iload 4 rfl dX0_roundOf_201 ?_
        obtain ⟨b8, h⟩ := h
        refine j_aaldJ (t := 11) (j := (l5).toNatClampNeg) rfl rfl rfl (f_lt hf (by decide)) (fk_146 hf) b8 rfl (steps_row hf (j_ix b8)) dX0_roundOf_203 ?_
        refine j_iload 5 rfl dX0_roundOf_204 ?_
        obtain ⟨b9, h⟩ := h
        refine j_ialdJ (j := (l6).toNatClampNeg) (steps_lt hf (j_ix b8)) (steps_k hf (j_ix b8)) b9 rfl dX0_roundOf_206 ?_
        refine j_aload_n 0 rfl dX0_roundOf_207 ?_
        refine j_getfr fl_X0_44_0 rfl (f_lt hf (by decide)) (fk_0 hf) ht dX0_roundOf_208 ?_
        refine j_getfr fl_X0_279_4 rfl (x_lt hx (j := 0) (by decide)) (xk_0 hx) (xg_0_6 hx) dX0_roundOf_211 ?_
        refine j_iload 5 rfl dX0_roundOf_214 ?_
        obtain ⟨b10, h⟩ := h
        refine j_aaldJ (t := 11) (j := (l6).toNatClampNeg) rfl rfl rfl (x_lt hx (j := 7) (by decide)) (xk_7 hx) b10 rfl (x_row hx (j_ix b10)).1 dX0_roundOf_216 ?_
        refine j_iload 6 rfl dX0_roundOf_217 ?_
        obtain ⟨b11, h⟩ := h
        refine j_ialdJ (j := (l7).toNatClampNeg) (x_rowlt hx (j_ix b10)) (x_row hx (j_ix b10)).2 b11 rfl dX0_roundOf_219 ?_
        refine j_iadd dX0_roundOf_220 ?_
        refine j_mmin q1279 q917 q153 q918 (Nat.le_of_ble_eq_true rfl) (by decide) dX0_roundOf_221 ?_
        obtain ⟨b12, h⟩ := h
        refine j_iastJ (j := (l7).toNatClampNeg) (steps_lt hf (j_ix b5)) (steps_k hf (j_ix b5)) b12 rfl dX0_roundOf_224 (fun A13 eA13 => ?_)
        replace h := h A13 eA13
        exact fX0_roundOf_J225_ok hf tx ht hx Q P hP (fun x0 x1 x2 x3 x4 x5 x6 => fX0_roundOf_L145 tx k78 Q n9 x0 x1 x2 x3 x4 x5 x6) (fun x0 x1 x2 x3 x4 x5 x6 h9 => ih x0 x1 x2 x3 x4 x5 x6 h9) l2 l3 l4 l5 l6 l7 A13 h
def fX0_roundOf_J142 (tx : Nat) (k78 : Int32 → Int32 → Int32 → Int32 → Int32 → pA → Prop) (Q : Int32 → pA → Prop) (l2 : Int32) (l3 : Int32) (l4 : Int32) (l5 : Int32) (l6 : Int32) (A : pA) : Prop :=
    ∃ m14, fX0_roundOf_L145 tx k78 Q m14 l2 l3 l4 l5 l6 0 A
theorem fX0_roundOf_J142_ok {Γ : jG} {n : Nat} {K : Nat → pKd} {G : pG} {Lg : pL} (hf : fOK n K G) (tx : Nat) (ht : G 0 3 = .ref tx) (hx : xOK n K G tx) (Q : Int32 → pA → Prop) (P : jO → pS → Prop) (hP : P = (fun o u => ∃ (r : Int32) (A' : pA), o = .inl (some (.int r)) ∧ u = (n, K, A', Lg, G) ∧ Q r A')) (k78 : Int32 → Int32 → Int32 → Int32 → Int32 → pA → Prop) (ok78 : ∀ (l2 : Int32) (l3 : Int32) (l4 : Int32) (l5 : Int32) (l6 : Int32) (A : pA), k78 l2 l3 l4 l5 l6 A → J Γ RX0 cX0_roundOf 8 (some .int) "roundOf" [] 3 0 0 78 [(0, .ref 0), (2, .int l2), (3, .int l3), (4, .int l4), (5, .int l5), (6, .int l6)] [] (n, K, A, Lg, G) P) (l2 : Int32) (l3 : Int32) (l4 : Int32) (l5 : Int32) (l6 : Int32) (A : pA) (h : fX0_roundOf_J142 tx k78 Q l2 l3 l4 l5 l6 A) : J Γ RX0 cX0_roundOf 8 (some .int) "roundOf" [] 3 0 0 142 [(0, .ref 0), (2, .int l2), (3, .int l3), (4, .int l4), (5, .int l5), (6, .int l6)] [] (n, K, A, Lg, G) P := by
  unfold fX0_roundOf_J142 at h
  refine j_iconst (v := 0) dX0_roundOf_142 (by decide) ?_
  refine j_istore (by decide) rfl dX0_roundOf_143 ?_
  refine j_ls [1, 2, 3, 4, 5, 6, 0] rfl ?_
  obtain ⟨m14, h⟩ := h
  exact fX0_roundOf_L145_ok hf tx ht hx Q P hP k78 ok78 m14 l2 l3 l4 l5 l6 0 A h
def fX0_roundOf_L78 (tx : Nat) (k67 : Int32 → Int32 → Int32 → Int32 → pA → Prop) (Q : Int32 → pA → Prop) : Nat → Int32 → Int32 → Int32 → Int32 → Int32 → pA → Prop
  | 0, _, _, _, _, _, _ => False
  | n9 + 1, l2, l3, l4, l5, l6, A =>
    fX0_places tx A (fun r15 => (if r15 ≤ l6 then k67 l2 l3 l4 (l5 + 1) A else (vp_in l5 128) ∧ ((vp_in l6 7) ∧ ((if (A (147 + (l5).toNatClampNeg) (l6).toNatClampNeg) < 1000000 then (if l5 = l2 then (vp_in l5 128) ∧ ((vp_in l6 7) ∧ ((vp_in l6 7) ∧ ((vp_in l3 7) ∧ (fX0_roundOf_J142 tx (fun x0 x1 x2 x3 x4 x5 => fX0_roundOf_L78 tx k67 Q n9 x0 x1 x2 x3 x4 x5) Q l2 l3 (pmin l4 ((A (147 + (l5).toNatClampNeg) (l6).toNatClampNeg) + (A (tx + 8 + (l6).toNatClampNeg) (l3).toNatClampNeg))) l5 l6 A)))) else fX0_roundOf_J142 tx (fun x0 x1 x2 x3 x4 x5 => fX0_roundOf_L78 tx k67 Q n9 x0 x1 x2 x3 x4 x5) Q l2 l3 l4 l5 l6 A) else fX0_roundOf_J231 tx (fun x0 x1 x2 x3 x4 x5 => fX0_roundOf_L78 tx k67 Q n9 x0 x1 x2 x3 x4 x5) Q l2 l3 l4 l5 l6 A)))))
theorem fX0_roundOf_L78_ok {Γ : jG} {n : Nat} {K : Nat → pKd} {G : pG} {Lg : pL} (hf : fOK n K G) (tx : Nat) (ht : G 0 3 = .ref tx) (hx : xOK n K G tx) (Q : Int32 → pA → Prop) (P : jO → pS → Prop) (hP : P = (fun o u => ∃ (r : Int32) (A' : pA), o = .inl (some (.int r)) ∧ u = (n, K, A', Lg, G) ∧ Q r A'))  (k67 : Int32 → Int32 → Int32 → Int32 → pA → Prop) (ok67 : ∀ (l2 : Int32) (l3 : Int32) (l4 : Int32) (l5 : Int32) (A : pA), k67 l2 l3 l4 l5 A → J Γ RX0 cX0_roundOf 8 (some .int) "roundOf" [] 3 0 0 67 [(0, .ref 0), (2, .int l2), (3, .int l3), (4, .int l4), (5, .int l5)] [] (n, K, A, Lg, G) P) : ∀ (n9 : Nat) (l2 : Int32) (l3 : Int32) (l4 : Int32) (l5 : Int32) (l6 : Int32) (A : pA), fX0_roundOf_L78 tx k67 Q n9 l2 l3 l4 l5 l6 A → J Γ RX0 cX0_roundOf 8 (some .int) "roundOf" [] 3 0 0 78 [(0, .ref 0), (2, .int l2), (3, .int l3), (4, .int l4), (5, .int l5), (6, .int l6)] [] (n, K, A, Lg, G) P := by
  intro n9
  induction n9 with
  | zero => intro l2 l3 l4 l5 l6 A h; exact h.elim
  | succ n9 ih =>
    intro l2 l3 l4 l5 l6 A h
    unfold fX0_roundOf_L78 at h
    refine j_iload 5 rfl dX0_roundOf_78 ?_
    refine j_aload_n 0 rfl dX0_roundOf_80 ?_
    refine j_callV (b := 0) (As := []) (st := [.int l6]) (C := RX0) (kc' := 0) (ks' := 0) (tX0_places hf tx ht hx _ h) myX0_places rfl q1189 q1191 qs33 (by decide) (fun s9 H9 hK9 hR9 h69 => jIs_in hK9 hR9 h69 (f_lt hf (by decide)) (fk_0 hf) rfl) rfl (Nat.le_of_ble_eq_true rfl) rfl (by decide) (Nat.le_refl 0) (Nat.le_refl 0) dX0_roundOf_81 (fun v9 u9 hq => ?_) (fun k9 u9 hq => by obtain ⟨_, e9, _⟩ := hq; cases e9)
    obtain ⟨r15, e9, rfl, h⟩ := hq
    obtain rfl := Sum.inl.inj e9
    show J Γ RX0 cX0_roundOf 8 (some .int) "roundOf" [] 3 0 0 84 [(0, .ref 0), (2, .int l2), (3, .int l3), (4, .int l4), (5, .int l5), (6, .int l6)] [.int r15, .int l6] (n, K, A, Lg, G) P
    refine j_icmp_ge (tgt := 237) dX0_roundOf_84 (by decide) (fun c => ?_) (fun c => ?_)
    · rw [if_pos c] at h
      refine j_iinc (v := l5 + 1) 4 rfl rfl (by decide) rfl dX0_roundOf_237 ?_
      refine j_goto (tgt := 67) dX0_roundOf_240 (by decide) ?_
      refine j_ls [1, 2, 3, 4, 0] rfl ?_
      exact ok67 l2 l3 l4 (l5 + 1) A h
    · rw [if_neg c] at h
      refine j_aload_n 0 rfl dX0_roundOf_87 ?_
      refine j_getfr fl_X0_87_0 rfl (f_lt hf (by decide)) (fk_0 hf) (fg_0_13 hf) dX0_roundOf_88 ?_
      refine j_iload 4 rfl dX0_roundOf_91 ?_
      obtain ⟨b16, h⟩ := h
      refine j_aaldJ (t := 11) (j := (l5).toNatClampNeg) rfl rfl rfl (f_lt hf (by decide)) (fk_146 hf) b16 rfl (steps_row hf (j_ix b16)) dX0_roundOf_93 ?_
      refine j_iload 5 rfl dX0_roundOf_94 ?_
      obtain ⟨b17, h⟩ := h
      refine j_ialdJ (j := (l6).toNatClampNeg) (steps_lt hf (j_ix b16)) (steps_k hf (j_ix b16)) b17 rfl dX0_roundOf_96 ?_
      refine j_ldcw (v := 1000000) q1380 dX0_roundOf_97 ?_
      refine j_icmp_lt (tgt := 106) dX0_roundOf_100 (by decide) (fun c => ?_) (fun c => ?_)
      · rw [if_pos c] at h
        refine j_iload 4 rfl dX0_roundOf_106 ?_
        refine j_iload_n 1 rfl dX0_roundOf_108 ?_
        refine j_icmp_ne (tgt := 142) dX0_roundOf_109 (by decide) (fun c => ?_) (fun c => ?_)
        · rw [if_neg c] at h
          exact fX0_roundOf_J142_ok hf tx ht hx Q P hP (fun x0 x1 x2 x3 x4 x5 => fX0_roundOf_L78 tx k67 Q n9 x0 x1 x2 x3 x4 x5) (fun x0 x1 x2 x3 x4 x5 h9 => ih x0 x1 x2 x3 x4 x5 h9) l2 l3 l4 l5 l6 A h
        · rw [if_pos c] at h
          refine j_iload 3 rfl dX0_roundOf_112 ?_
          refine j_aload_n 0 rfl dX0_roundOf_114 ?_
          refine j_getfr fl_X0_87_0 rfl (f_lt hf (by decide)) (fk_0 hf) (fg_0_13 hf) dX0_roundOf_115 ?_
          refine j_iload 4 rfl dX0_roundOf_118 ?_
          obtain ⟨b18, h⟩ := h
          refine j_aaldJ (t := 11) (j := (l5).toNatClampNeg) rfl rfl rfl (f_lt hf (by decide)) (fk_146 hf) b18 rfl (steps_row hf (j_ix b18)) dX0_roundOf_120 ?_
          refine j_iload 5 rfl dX0_roundOf_121 ?_
          obtain ⟨b19, h⟩ := h
          refine j_ialdJ (j := (l6).toNatClampNeg) (steps_lt hf (j_ix b18)) (steps_k hf (j_ix b18)) b19 rfl dX0_roundOf_123 ?_
          refine j_aload_n 0 rfl dX0_roundOf_124 ?_
          refine j_getfr fl_X0_44_0 rfl (f_lt hf (by decide)) (fk_0 hf) ht dX0_roundOf_125 ?_
          refine j_getfr fl_X0_279_4 rfl (x_lt hx (j := 0) (by decide)) (xk_0 hx) (xg_0_6 hx) dX0_roundOf_128 ?_
          refine j_iload 5 rfl dX0_roundOf_131 ?_
          obtain ⟨b20, h⟩ := h
          refine j_aaldJ (t := 11) (j := (l6).toNatClampNeg) rfl rfl rfl (x_lt hx (j := 7) (by decide)) (xk_7 hx) b20 rfl (x_row hx (j_ix b20)).1 dX0_roundOf_133 ?_
          refine j_iload_n 2 rfl dX0_roundOf_134 ?_
          obtain ⟨b21, h⟩ := h
          refine j_ialdJ (j := (l3).toNatClampNeg) (x_rowlt hx (j_ix b20)) (x_row hx (j_ix b20)).2 b21 rfl dX0_roundOf_135 ?_
          refine j_iadd dX0_roundOf_136 ?_
          refine j_mmin q1279 q917 q153 q918 (Nat.le_of_ble_eq_true rfl) (by decide) dX0_roundOf_137 ?_
          refine j_istore (by decide) rfl dX0_roundOf_140 ?_
          refine j_ls [1, 2, 3, 0, 4, 5] rfl ?_
          exact fX0_roundOf_J142_ok hf tx ht hx Q P hP (fun x0 x1 x2 x3 x4 x5 => fX0_roundOf_L78 tx k67 Q n9 x0 x1 x2 x3 x4 x5) (fun x0 x1 x2 x3 x4 x5 h9 => ih x0 x1 x2 x3 x4 x5 h9) l2 l3 (pmin l4 ((A (147 + (l5).toNatClampNeg) (l6).toNatClampNeg) + (A (tx + 8 + (l6).toNatClampNeg) (l3).toNatClampNeg))) l5 l6 A h
      · rw [if_neg c] at h
        refine j_goto (tgt := 231) dX0_roundOf_103 (by decide) ?_
        exact fX0_roundOf_J231_ok hf tx ht hx Q P hP (fun x0 x1 x2 x3 x4 x5 => fX0_roundOf_L78 tx k67 Q n9 x0 x1 x2 x3 x4 x5) (fun x0 x1 x2 x3 x4 x5 h9 => ih x0 x1 x2 x3 x4 x5 h9) l2 l3 l4 l5 l6 A h
def fX0_roundOf_L67 (tx : Nat)  (Q : Int32 → pA → Prop) : Nat → Int32 → Int32 → Int32 → Int32 → pA → Prop
  | 0, _, _, _, _, _ => False
  | n9 + 1, l2, l3, l4, l5, A =>
    (if 128 ≤ l5 then Q l4 A else ∃ m22, fX0_roundOf_L78 tx (fun x0 x1 x2 x3 x4 => fX0_roundOf_L67 tx  Q n9 x0 x1 x2 x3 x4) Q m22 l2 l3 l4 l5 0 A)
theorem fX0_roundOf_L67_ok {Γ : jG} {n : Nat} {K : Nat → pKd} {G : pG} {Lg : pL} (hf : fOK n K G) (tx : Nat) (ht : G 0 3 = .ref tx) (hx : xOK n K G tx) (Q : Int32 → pA → Prop) (P : jO → pS → Prop) (hP : P = (fun o u => ∃ (r : Int32) (A' : pA), o = .inl (some (.int r)) ∧ u = (n, K, A', Lg, G) ∧ Q r A'))    : ∀ (n9 : Nat) (l2 : Int32) (l3 : Int32) (l4 : Int32) (l5 : Int32) (A : pA), fX0_roundOf_L67 tx  Q n9 l2 l3 l4 l5 A → J Γ RX0 cX0_roundOf 8 (some .int) "roundOf" [] 3 0 0 67 [(0, .ref 0), (2, .int l2), (3, .int l3), (4, .int l4), (5, .int l5)] [] (n, K, A, Lg, G) P := by
  intro n9
  induction n9 with
  | zero => intro l2 l3 l4 l5 A h; exact h.elim
  | succ n9 ih =>
    intro l2 l3 l4 l5 A h
    unfold fX0_roundOf_L67 at h
    refine j_iload 4 rfl dX0_roundOf_67 ?_
    refine j_sipush (v := 128) dX0_roundOf_69 (by decide) ?_
    refine j_icmp_ge (tgt := 243) dX0_roundOf_72 (by decide) (fun c => ?_) (fun c => ?_)
    · rw [if_pos c] at h
      refine j_iload 3 rfl dX0_roundOf_243 ?_
      refine j_iret rfl ?_ dX0_roundOf_245
      rw [hP]
      exact ⟨l4, A, rfl, rfl, h⟩
    · rw [if_neg c] at h
      refine j_iconst (v := 0) dX0_roundOf_75 (by decide) ?_
      refine j_istore (by decide) rfl dX0_roundOf_76 ?_
      refine j_ls [1, 2, 3, 4, 5, 0] rfl ?_
      obtain ⟨m22, h⟩ := h
      exact fX0_roundOf_L78_ok hf tx ht hx Q P hP (fun x0 x1 x2 x3 x4 => fX0_roundOf_L67 tx  Q n9 x0 x1 x2 x3 x4) (fun x0 x1 x2 x3 x4 h9 => ih x0 x1 x2 x3 x4 h9) m22 l2 l3 l4 l5 0 A h
def fX0_roundOf_L8 (tx : Nat)  (Q : Int32 → pA → Prop) : Nat → Int32 → Int32 → Int32 → Int32 → Int32 → pA → Prop
  | 0, _, _, _, _, _, _ => False
  | n9 + 1, l1, l2, l3, l4, l5, A =>
    (if 128 ≤ l5 then (vp_in (l2 &&& ((1 : Int32) <<< (l1 &&& 31))) 128) ∧ ((vp_in l1 7) ∧ (∀ A25 : pA, A25 = pup A (147 + (l2 &&& ((1 : Int32) <<< (l1 &&& 31))).toNatClampNeg) (l1).toNatClampNeg 0 → ∃ m26, fX0_roundOf_L67 tx  Q m26 l2 l3 l4 0 A25)) else ∃ m27, fX0_roundOf_L19 tx (fun x0 x1 x2 x3 x4 x5 => fX0_roundOf_L8 tx  Q n9 x0 x1 x2 x3 x4 x5) Q m27 l1 l2 l3 l4 l5 0 A)
theorem fX0_roundOf_L8_ok {Γ : jG} {n : Nat} {K : Nat → pKd} {G : pG} {Lg : pL} (hf : fOK n K G) (tx : Nat) (ht : G 0 3 = .ref tx) (hx : xOK n K G tx) (Q : Int32 → pA → Prop) (P : jO → pS → Prop) (hP : P = (fun o u => ∃ (r : Int32) (A' : pA), o = .inl (some (.int r)) ∧ u = (n, K, A', Lg, G) ∧ Q r A'))    : ∀ (n9 : Nat) (l1 : Int32) (l2 : Int32) (l3 : Int32) (l4 : Int32) (l5 : Int32) (A : pA), fX0_roundOf_L8 tx  Q n9 l1 l2 l3 l4 l5 A → J Γ RX0 cX0_roundOf 8 (some .int) "roundOf" [] 3 0 0 8 [(0, .ref 0), (1, .int l1), (2, .int l2), (3, .int l3), (4, .int l4), (5, .int l5)] [] (n, K, A, Lg, G) P := by
  intro n9
  induction n9 with
  | zero => intro l1 l2 l3 l4 l5 A h; exact h.elim
  | succ n9 ih =>
    intro l1 l2 l3 l4 l5 A h
    unfold fX0_roundOf_L8 at h
    refine j_iload 5 rfl dX0_roundOf_8 ?_
    refine j_sipush (v := 128) dX0_roundOf_10 (by decide) ?_
    refine j_icmp_ge (tgt := 51) dX0_roundOf_13 (by decide) (fun c => ?_) (fun c => ?_)
    · rw [if_pos c] at h
      refine j_aload_n 0 rfl dX0_roundOf_51 ?_
      refine j_getfr fl_X0_87_0 rfl (f_lt hf (by decide)) (fk_0 hf) (fg_0_13 hf) dX0_roundOf_52 ?_
      refine j_iload_n 2 rfl dX0_roundOf_55 ?_
      refine j_iconst (v := 1) dX0_roundOf_56 (by decide) ?_
      refine j_iload_n 1 rfl dX0_roundOf_57 ?_
      refine j_ishl dX0_roundOf_58 ?_
      refine j_iand dX0_roundOf_59 ?_
      obtain ⟨b23, h⟩ := h
      refine j_aaldJ (t := 11) (j := (l2 &&& ((1 : Int32) <<< (l1 &&& 31))).toNatClampNeg) rfl rfl rfl (f_lt hf (by decide)) (fk_146 hf) b23 rfl (steps_row hf (j_ix b23)) dX0_roundOf_60 ?_
      refine j_iload_n 1 rfl dX0_roundOf_61 ?_
      refine j_iconst (v := 0) dX0_roundOf_62 (by decide) ?_
      obtain ⟨b24, h⟩ := h
      refine j_iastJ (j := (l1).toNatClampNeg) (steps_lt hf (j_ix b23)) (steps_k hf (j_ix b23)) b24 rfl dX0_roundOf_63 (fun A25 eA25 => ?_)
      replace h := h A25 eA25
      refine j_iconst (v := 0) dX0_roundOf_64 (by decide) ?_
      refine j_istore (by decide) rfl dX0_roundOf_65 ?_
      refine j_ls [1, 3, 4, 5, 0] rfl ?_
      obtain ⟨m26, h⟩ := h
      exact fX0_roundOf_L67_ok hf tx ht hx Q P hP   m26 l2 l3 l4 0 A25 h
    · rw [if_neg c] at h
      refine j_iconst (v := 0) dX0_roundOf_16 (by decide) ?_
      refine j_istore (by decide) rfl dX0_roundOf_17 ?_
      refine j_ls [1, 2, 3, 4, 5, 6, 0] rfl ?_
      obtain ⟨m27, h⟩ := h
      exact fX0_roundOf_L19_ok hf tx ht hx Q P hP (fun x0 x1 x2 x3 x4 x5 => fX0_roundOf_L8 tx  Q n9 x0 x1 x2 x3 x4 x5) (fun x0 x1 x2 x3 x4 x5 h9 => ih x0 x1 x2 x3 x4 x5 h9) m27 l1 l2 l3 l4 l5 0 A h
def fX0_roundOf (tx : Nat) (A : pA) (p1 : Int32) (p2 : Int32) (p3 : Int32) (Q : Int32 → pA → Prop) : Prop :=
    ∃ m28, fX0_roundOf_L8 tx  Q m28 p1 p2 p3 1000000 0 A
theorem tX0_roundOf {Γ : jG} {n : Nat} {K : Nat → pKd} {G : pG} {A : pA} {Lg : pL} (hf : fOK n K G) (tx : Nat) (ht : G 0 3 = .ref tx) (hx : xOK n K G tx) (p1 : Int32) (p2 : Int32) (p3 : Int32) (Q : Int32 → pA → Prop) (h : fX0_roundOf tx A p1 p2 p3 Q) : jMet Γ yX0_roundOf cX0_roundOf 8 (some .int) [] 3 0 0 [.ref 0, .int p1, .int p2, .int p3] (n, K, A, Lg, G) (fun o u => ∃ (r : Int32) (A' : pA), o = .inl (some (.int r)) ∧ u = (n, K, A', Lg, G) ∧ Q r A') := by
  unfold fX0_roundOf at h
  obtain ⟨P, hP⟩ : ∃ P : jO → pS → Prop, P = (fun o u => ∃ (r : Int32) (A' : pA), o = .inl (some (.int r)) ∧ u = (n, K, A', Lg, G) ∧ Q r A') := ⟨_, rfl⟩
  rw [← hP]
  refine jMet_of rfl rfl rfl (Nat.le_of_ble_eq_true rfl) ?_
  show J Γ RX0 cX0_roundOf 8 (some .int) "roundOf" [] 3 0 0 0 [(0, .ref 0), (1, .int p1), (2, .int p2), (3, .int p3)] [] (n, K, A, Lg, G) P
  refine j_ldcw (v := 1000000) q1380 dX0_roundOf_0 ?_
  refine j_istore (by decide) rfl dX0_roundOf_3 ?_
  refine j_iconst (v := 0) dX0_roundOf_5 (by decide) ?_
  refine j_istore (by decide) rfl dX0_roundOf_6 ?_
  refine j_ls [2, 3, 4, 5, 1, 0] rfl ?_
  obtain ⟨m28, h⟩ := h
  exact fX0_roundOf_L8_ok hf tx ht hx Q P hP   m28 p1 p2 p3 1000000 0 A h
theorem myX0_errandsLeft : jY yX0_errandsLeft cX0_errandsLeft 4 (some .int) 1 := ⟨q1397, q121, by decide +kernel, by decide +kernel, by decide⟩
def fX0_errandsLeft_J52 (tx : Nat) (A : pA) (k4 : Int32 → Int32 → Int32 → Prop) (Q : Int32 → Prop) (l1 : Int32) (l3 : Int32) (s0 : Int32) (s1 : Int32) : Prop :=
    k4 l1 (s1 ||| s0) (l3 + 1)
theorem fX0_errandsLeft_J52_ok {Γ : jG} {n : Nat} {K : Nat → pKd} {G : pG} {A : pA} {Lg : pL} (hf : fOK n K G) (tx : Nat) (ht : G 0 3 = .ref tx) (hx : xOK n K G tx) (Q : Int32 → Prop) (P : jO → pS → Prop) (hP : P = (fun o u => ∃ (r : Int32), o = .inl (some (.int r)) ∧ u = (n, K, A, Lg, G) ∧ Q r)) (k4 : Int32 → Int32 → Int32 → Prop) (ok4 : ∀ (l1 : Int32) (l2 : Int32) (l3 : Int32), k4 l1 l2 l3 → J Γ RX0 cX0_errandsLeft 4 (some .int) "errandsLeft" [] 2 0 0 4 [(0, .ref 0), (1, .int l1), (2, .int l2), (3, .int l3)] [] (n, K, A, Lg, G) P) (l1 : Int32) (l3 : Int32) (s0 : Int32) (s1 : Int32) (h : fX0_errandsLeft_J52 tx A k4 Q l1 l3 s0 s1) : J Γ RX0 cX0_errandsLeft 4 (some .int) "errandsLeft" [] 2 0 0 52 [(0, .ref 0), (1, .int l1), (3, .int l3)] [.int s0, .int s1] (n, K, A, Lg, G) P := by
  unfold fX0_errandsLeft_J52 at h
  refine j_ior dX0_errandsLeft_52 ?_
  refine j_istore_n (by decide) rfl dX0_errandsLeft_53 ?_
  refine j_iinc (v := l3 + 1) 3 rfl rfl (by decide) rfl dX0_errandsLeft_54 ?_
  refine j_goto (tgt := 4) dX0_errandsLeft_57 (by decide) ?_
  refine j_ls [2, 3, 1, 0] rfl ?_
  exact ok4 l1 (s1 ||| s0) (l3 + 1) h
def fX0_errandsLeft_J51 (tx : Nat) (A : pA) (k4 : Int32 → Int32 → Int32 → Prop) (Q : Int32 → Prop) (l1 : Int32) (l3 : Int32) (s0 : Int32) : Prop :=
    fX0_errandsLeft_J52 tx A k4 Q l1 l3 0 s0
theorem fX0_errandsLeft_J51_ok {Γ : jG} {n : Nat} {K : Nat → pKd} {G : pG} {A : pA} {Lg : pL} (hf : fOK n K G) (tx : Nat) (ht : G 0 3 = .ref tx) (hx : xOK n K G tx) (Q : Int32 → Prop) (P : jO → pS → Prop) (hP : P = (fun o u => ∃ (r : Int32), o = .inl (some (.int r)) ∧ u = (n, K, A, Lg, G) ∧ Q r)) (k4 : Int32 → Int32 → Int32 → Prop) (ok4 : ∀ (l1 : Int32) (l2 : Int32) (l3 : Int32), k4 l1 l2 l3 → J Γ RX0 cX0_errandsLeft 4 (some .int) "errandsLeft" [] 2 0 0 4 [(0, .ref 0), (1, .int l1), (2, .int l2), (3, .int l3)] [] (n, K, A, Lg, G) P) (l1 : Int32) (l3 : Int32) (s0 : Int32) (h : fX0_errandsLeft_J51 tx A k4 Q l1 l3 s0) : J Γ RX0 cX0_errandsLeft 4 (some .int) "errandsLeft" [] 2 0 0 51 [(0, .ref 0), (1, .int l1), (3, .int l3)] [.int s0] (n, K, A, Lg, G) P := by
  unfold fX0_errandsLeft_J51 at h
  refine j_iconst (v := 0) dX0_errandsLeft_51 (by decide) ?_
  exact fX0_errandsLeft_J52_ok hf tx ht hx Q P hP k4 ok4 l1 l3 0 s0 h
def fX0_errandsLeft_L4 (tx : Nat) (A : pA)  (Q : Int32 → Prop) : Nat → Int32 → Int32 → Int32 → Prop
  | 0, _, _, _ => False
  | n9 + 1, l1, l2, l3 =>
    (if (A tx 8) ≤ l3 then Q l2 else (vp_in l3 8) ∧ ((if (A (tx + 4) (l3).toNatClampNeg) = l1 then fX0_isDone tx A l3 (fun r2 => (if r2 = 0 then (vp_in l3 8) ∧ (fX0_errandsLeft_J52 tx A (fun x0 x1 x2 => fX0_errandsLeft_L4 tx A  Q n9 x0 x1 x2) Q l1 l3 ((1 : Int32) <<< ((A (tx + 5) (l3).toNatClampNeg) &&& 31)) l2) else fX0_errandsLeft_J51 tx A (fun x0 x1 x2 => fX0_errandsLeft_L4 tx A  Q n9 x0 x1 x2) Q l1 l3 l2)) else fX0_errandsLeft_J51 tx A (fun x0 x1 x2 => fX0_errandsLeft_L4 tx A  Q n9 x0 x1 x2) Q l1 l3 l2)))
theorem fX0_errandsLeft_L4_ok {Γ : jG} {n : Nat} {K : Nat → pKd} {G : pG} {A : pA} {Lg : pL} (hf : fOK n K G) (tx : Nat) (ht : G 0 3 = .ref tx) (hx : xOK n K G tx) (Q : Int32 → Prop) (P : jO → pS → Prop) (hP : P = (fun o u => ∃ (r : Int32), o = .inl (some (.int r)) ∧ u = (n, K, A, Lg, G) ∧ Q r))    : ∀ (n9 : Nat) (l1 : Int32) (l2 : Int32) (l3 : Int32), fX0_errandsLeft_L4 tx A  Q n9 l1 l2 l3 → J Γ RX0 cX0_errandsLeft 4 (some .int) "errandsLeft" [] 2 0 0 4 [(0, .ref 0), (1, .int l1), (2, .int l2), (3, .int l3)] [] (n, K, A, Lg, G) P := by
  intro n9
  induction n9 with
  | zero => intro l1 l2 l3 h; exact h.elim
  | succ n9 ih =>
    intro l1 l2 l3 h
    unfold fX0_errandsLeft_L4 at h
    refine j_iload_n 3 rfl dX0_errandsLeft_4 ?_
    refine j_aload_n 0 rfl dX0_errandsLeft_5 ?_
    refine j_getfr fl_X0_44_0 rfl (f_lt hf (by decide)) (fk_0 hf) ht dX0_errandsLeft_6 ?_
    refine j_getfi fl_X0_178_4 rfl (x_lt hx (j := 0) (by decide)) (xk_0 hx) dX0_errandsLeft_9 ?_
    refine j_icmp_ge (tgt := 60) dX0_errandsLeft_12 (by decide) (fun c => ?_) (fun c => ?_)
    · rw [if_pos c] at h
      refine j_iload_n 2 rfl dX0_errandsLeft_60 ?_
      refine j_iret rfl ?_ dX0_errandsLeft_61
      rw [hP]
      exact ⟨l2, rfl, rfl, h⟩
    · rw [if_neg c] at h
      refine j_iload_n 2 rfl dX0_errandsLeft_15 ?_
      refine j_aload_n 0 rfl dX0_errandsLeft_16 ?_
      refine j_getfr fl_X0_44_0 rfl (f_lt hf (by decide)) (fk_0 hf) ht dX0_errandsLeft_17 ?_
      refine j_getfr fl_X0_207_4 rfl (x_lt hx (j := 0) (by decide)) (xk_0 hx) (xg_0_3 hx) dX0_errandsLeft_20 ?_
      refine j_iload_n 3 rfl dX0_errandsLeft_23 ?_
      obtain ⟨b1, h⟩ := h
      refine j_ialdJ (j := (l3).toNatClampNeg) (x_lt hx (j := 4) (by decide)) (xk_4 hx) b1 rfl dX0_errandsLeft_24 ?_
      refine j_iload_n 1 rfl dX0_errandsLeft_25 ?_
      refine j_icmp_ne (tgt := 51) dX0_errandsLeft_26 (by decide) (fun c => ?_) (fun c => ?_)
      · rw [if_neg c] at h
        refine j_ls [0, 1, 3] rfl ?_
        exact fX0_errandsLeft_J51_ok hf tx ht hx Q P hP (fun x0 x1 x2 => fX0_errandsLeft_L4 tx A  Q n9 x0 x1 x2) (fun x0 x1 x2 h9 => ih x0 x1 x2 h9) l1 l3 l2 h
      · rw [if_pos c] at h
        refine j_aload_n 0 rfl dX0_errandsLeft_29 ?_
        refine j_iload_n 3 rfl dX0_errandsLeft_30 ?_
        refine j_callV (b := 0) (As := [.int l3]) (st := [.int l2]) (C := RX0) (kc' := 0) (ks' := 0) (tX0_isDone hf tx ht hx l3 _ h) myX0_isDone rfl q1207 q1209 qs36 (by decide) (fun s9 H9 hK9 hR9 h69 => jIs_in hK9 hR9 h69 (f_lt hf (by decide)) (fk_0 hf) rfl) rfl (Nat.le_of_ble_eq_true rfl) rfl (by decide) (Nat.le_refl 0) (Nat.le_refl 0) dX0_errandsLeft_31 (fun v9 u9 hq => ?_) (fun k9 u9 hq => by obtain ⟨_, e9, _⟩ := hq; cases e9)
        obtain ⟨r2, e9, rfl, h⟩ := hq
        obtain rfl := Sum.inl.inj e9
        show J Γ RX0 cX0_errandsLeft 4 (some .int) "errandsLeft" [] 2 0 0 34 [(0, .ref 0), (1, .int l1), (2, .int l2), (3, .int l3)] [.int r2, .int l2] (n, K, A, Lg, G) P
        refine j_if_ne (tgt := 51) dX0_errandsLeft_34 (by decide) (fun c => ?_) (fun c => ?_)
        · rw [if_neg c] at h
          refine j_ls [0, 1, 3] rfl ?_
          exact fX0_errandsLeft_J51_ok hf tx ht hx Q P hP (fun x0 x1 x2 => fX0_errandsLeft_L4 tx A  Q n9 x0 x1 x2) (fun x0 x1 x2 h9 => ih x0 x1 x2 h9) l1 l3 l2 h
        · rw [if_pos c] at h
          refine j_iconst (v := 1) dX0_errandsLeft_37 (by decide) ?_
          refine j_aload_n 0 rfl dX0_errandsLeft_38 ?_
          refine j_getfr fl_X0_44_0 rfl (f_lt hf (by decide)) (fk_0 hf) ht dX0_errandsLeft_39 ?_
          refine j_getfr fl_X0_181_4 rfl (x_lt hx (j := 0) (by decide)) (xk_0 hx) (xg_0_4 hx) dX0_errandsLeft_42 ?_
          refine j_iload_n 3 rfl dX0_errandsLeft_45 ?_
          obtain ⟨b3, h⟩ := h
          refine j_ialdJ (j := (l3).toNatClampNeg) (x_lt hx (j := 5) (by decide)) (xk_5 hx) b3 rfl dX0_errandsLeft_46 ?_
          refine j_ishl dX0_errandsLeft_47 ?_
          refine j_goto (tgt := 52) dX0_errandsLeft_48 (by decide) ?_
          refine j_ls [0, 1, 3] rfl ?_
          exact fX0_errandsLeft_J52_ok hf tx ht hx Q P hP (fun x0 x1 x2 => fX0_errandsLeft_L4 tx A  Q n9 x0 x1 x2) (fun x0 x1 x2 h9 => ih x0 x1 x2 h9) l1 l3 ((1 : Int32) <<< ((A (tx + 5) (l3).toNatClampNeg) &&& 31)) l2 h
def fX0_errandsLeft (tx : Nat) (A : pA) (p1 : Int32) (Q : Int32 → Prop) : Prop :=
    ∃ m4, fX0_errandsLeft_L4 tx A  Q m4 p1 0 0
theorem tX0_errandsLeft {Γ : jG} {n : Nat} {K : Nat → pKd} {G : pG} {A : pA} {Lg : pL} (hf : fOK n K G) (tx : Nat) (ht : G 0 3 = .ref tx) (hx : xOK n K G tx) (p1 : Int32) (Q : Int32 → Prop) (h : fX0_errandsLeft tx A p1 Q) : jMet Γ yX0_errandsLeft cX0_errandsLeft 4 (some .int) [] 2 0 0 [.ref 0, .int p1] (n, K, A, Lg, G) (fun o u => ∃ (r : Int32), o = .inl (some (.int r)) ∧ u = (n, K, A, Lg, G) ∧ Q r) := by
  unfold fX0_errandsLeft at h
  obtain ⟨P, hP⟩ : ∃ P : jO → pS → Prop, P = (fun o u => ∃ (r : Int32), o = .inl (some (.int r)) ∧ u = (n, K, A, Lg, G) ∧ Q r) := ⟨_, rfl⟩
  rw [← hP]
  refine jMet_of rfl rfl rfl (Nat.le_of_ble_eq_true rfl) ?_
  show J Γ RX0 cX0_errandsLeft 4 (some .int) "errandsLeft" [] 2 0 0 0 [(0, .ref 0), (1, .int p1)] [] (n, K, A, Lg, G) P
  refine j_iconst (v := 0) dX0_errandsLeft_0 (by decide) ?_
  refine j_istore_n (by decide) rfl dX0_errandsLeft_1 ?_
  refine j_iconst (v := 0) dX0_errandsLeft_2 (by decide) ?_
  refine j_istore_n (by decide) rfl dX0_errandsLeft_3 ?_
  refine j_ls [2, 3, 1, 0] rfl ?_
  obtain ⟨m4, h⟩ := h
  exact fX0_errandsLeft_L4_ok hf tx ht hx Q P hP   m4 p1 0 0 h
theorem myX0_round : jY yX0_round cX0_round 4 (some .int) 2 := ⟨q1393, q121, by decide +kernel, by decide +kernel, by decide⟩
def fX0_round (tx : Nat) (n : Nat) (K : Nat → pKd) (A : pA) (G : pG) (p1 : Int32) (p2 : Int32) (Q : Int32 → pA → Prop) : Prop :=
    fX0_isPerson tx A p1 (fun r1 => (if r1 = 0 then Q (-1) A else fX0_isIn A p2 0 1 (fun r2 => (if r2 = 0 then Q (-1) A else (vp_in p1 4) ∧ (fX0_errandsLeft tx A p1 (fun r4 => fJ5_get (tx + 3) n K A G p1 (fun r5 => (r5 < n) ∧ ((K r5 = .inl 16) ∧ (fX0_roundOf tx A (A (25 + 4) (p1).toNatClampNeg) r4 (A r5 1) (fun r8 A9 => (if r8 < 1000000 then (if p2 = 0 then Q r8 A9 else fX5_minute 25 tx A9 (fun r10 => fX4_isHour tx A9 r10 (fun r11 => (if r11 = 0 then fX0_tillHour tx A9 (fun r12 => (if r12 < r8 then Q 0 A9 else Q 1 A9)) else Q 0 A9)))) else Q (-2) A9)))))))))))
theorem tX0_round {Γ : jG} {n : Nat} {K : Nat → pKd} {G : pG} {A : pA} {Lg : pL} (hf : fOK n K G) (tx : Nat) (ht : G 0 3 = .ref tx) (hx : xOK n K G tx) (p1 : Int32) (p2 : Int32) (Q : Int32 → pA → Prop) (h : fX0_round tx n K A G p1 p2 Q) : jMet Γ yX0_round cX0_round 4 (some .int) [] 4 0 0 [.ref 0, .int p1, .int p2] (n, K, A, Lg, G) (fun o u => ∃ (r : Int32) (A' : pA), o = .inl (some (.int r)) ∧ u = (n, K, A', Lg, G) ∧ Q r A') := by
  unfold fX0_round at h
  obtain ⟨P, hP⟩ : ∃ P : jO → pS → Prop, P = (fun o u => ∃ (r : Int32) (A' : pA), o = .inl (some (.int r)) ∧ u = (n, K, A', Lg, G) ∧ Q r A') := ⟨_, rfl⟩
  rw [← hP]
  refine jMet_of rfl rfl rfl (Nat.le_of_ble_eq_true rfl) ?_
  show J Γ RX0 cX0_round 4 (some .int) "round" [] 4 0 0 0 [(0, .ref 0), (1, .int p1), (2, .int p2)] [] (n, K, A, Lg, G) P
  refine j_aload_n 0 rfl dX0_round_0 ?_
  refine j_iload_n 1 rfl dX0_round_1 ?_
  refine j_callV (b := 0) (As := [.int p1]) (st := []) (C := RX0) (kc' := 0) (ks' := 0) (tX0_isPerson hf tx ht hx p1 _ h) myX0_isPerson rfl q1224 q1226 qs38 (by decide) (fun s9 H9 hK9 hR9 h69 => jIs_in hK9 hR9 h69 (f_lt hf (by decide)) (fk_0 hf) rfl) rfl (Nat.le_of_ble_eq_true rfl) rfl (by decide) (Nat.le_refl 0) (Nat.le_refl 0) dX0_round_2 (fun v9 u9 hq => ?_) (fun k9 u9 hq => by obtain ⟨_, e9, _⟩ := hq; cases e9)
  obtain ⟨r1, e9, rfl, h⟩ := hq
  obtain rfl := Sum.inl.inj e9
  show J Γ RX0 cX0_round 4 (some .int) "round" [] 4 0 0 5 [(0, .ref 0), (1, .int p1), (2, .int p2)] [.int r1] (n, K, A, Lg, G) P
  refine j_if_eq (tgt := 17) dX0_round_5 (by decide) (fun c => ?_) (fun c => ?_)
  · rw [if_pos c] at h
    refine j_iconst (v := (-1)) dX0_round_17 (by decide) ?_
    refine j_iret rfl ?_ dX0_round_18
    rw [hP]
    exact ⟨(-1), A, rfl, rfl, h⟩
  · rw [if_neg c] at h
    refine j_iload_n 2 rfl dX0_round_8 ?_
    refine j_iconst (v := 0) dX0_round_9 (by decide) ?_
    refine j_iconst (v := 1) dX0_round_10 (by decide) ?_
    refine j_callS (As := [.int p2, .int 0, .int 1]) (st := []) (kc' := 0) (ks' := 0) (tX0_isIn hf p2 0 1 _ h) myX0_isIn q1194 q1195 rfl (Nat.le_of_ble_eq_true rfl) rfl (by decide) (Nat.le_refl 0) (Nat.le_refl 0) dX0_round_11 (fun v9 u9 hq => ?_) (fun k9 u9 hq => by obtain ⟨_, e9, _⟩ := hq; cases e9)
    obtain ⟨r2, e9, rfl, h⟩ := hq
    obtain rfl := Sum.inl.inj e9
    show J Γ RX0 cX0_round 4 (some .int) "round" [] 4 0 0 14 [(0, .ref 0), (1, .int p1), (2, .int p2)] [.int r2] (n, K, A, Lg, G) P
    refine j_if_ne (tgt := 19) dX0_round_14 (by decide) (fun c => ?_) (fun c => ?_)
    · rw [if_neg c] at h
      refine j_aload_n 0 rfl dX0_round_19 ?_
      refine j_aload_n 0 rfl dX0_round_20 ?_
      refine j_getfr fl_X0_55_0 rfl (f_lt hf (by decide)) (fk_0 hf) (fg_0_7 hf) dX0_round_21 ?_
      refine j_getfr fl_X0_175_5 rfl (t_lt hf isT_town (j := 0) (by decide)) (tk_0 hf isT_town) (tg_0_3 hf isT_town) dX0_round_24 ?_
      refine j_iload_n 1 rfl dX0_round_27 ?_
      obtain ⟨b3, h⟩ := h
      refine j_ialdJ (j := (p1).toNatClampNeg) (t_lt hf isT_town (j := 4) (by decide)) (tk_4 hf isT_town) b3 rfl dX0_round_28 ?_
      refine j_aload_n 0 rfl dX0_round_29 ?_
      refine j_iload_n 1 rfl dX0_round_30 ?_
      refine j_callV (b := 0) (As := [.int p1]) (st := [.int (A (25 + 4) (p1).toNatClampNeg), .ref 0]) (C := RX0) (kc' := 0) (ks' := 0) (tX0_errandsLeft hf tx ht hx p1 _ h) myX0_errandsLeft rfl q1394 q1396 qs47 (by decide) (fun s9 H9 hK9 hR9 h69 => jIs_in hK9 hR9 h69 (f_lt hf (by decide)) (fk_0 hf) rfl) rfl (Nat.le_of_ble_eq_true rfl) rfl (by decide) (Nat.le_refl 0) (Nat.le_refl 0) dX0_round_31 (fun v9 u9 hq => ?_) (fun k9 u9 hq => by obtain ⟨_, e9, _⟩ := hq; cases e9)
      obtain ⟨r4, e9, rfl, h⟩ := hq
      obtain rfl := Sum.inl.inj e9
      show J Γ RX0 cX0_round 4 (some .int) "round" [] 4 0 0 34 [(0, .ref 0), (1, .int p1), (2, .int p2)] [.int r4, .int (A (25 + 4) (p1).toNatClampNeg), .ref 0] (n, K, A, Lg, G) P
      refine j_aload_n 0 rfl dX0_round_34 ?_
      refine j_getfr fl_X0_44_0 rfl (f_lt hf (by decide)) (fk_0 hf) ht dX0_round_35 ?_
      refine j_getfr fl_X0_142_4 rfl (x_lt hx (j := 0) (by decide)) (xk_0 hx) (xg_0_2 hx) dX0_round_38 ?_
      refine j_iload_n 1 rfl dX0_round_41 ?_
      refine j_callV (b := (tx + 3)) (As := [.int p1]) (st := [.int r4, .int (A (25 + 4) (p1).toNatClampNeg), .ref 0]) (C := RJ5) (kc' := 0) (ks' := 0) (tJ5_get hf (tx + 3) (x_lt hx (j := 3) (by decide)) (xk_3 hx) p1 _ h) myJ5_get rfl q1197 q540 q541 (j_l2 hf.1 (x_lt hx (j := 3) (by decide))) (fun s9 H9 hK9 hR9 h69 => jIs_in hK9 hR9 h69 (x_lt hx (j := 3) (by decide)) (xk_3 hx) rfl) rfl (Nat.le_of_ble_eq_true rfl) rfl (by decide) (Nat.le_refl 0) (Nat.le_refl 0) dX0_round_42 (fun v9 u9 hq => ?_) (fun k9 u9 hq => by obtain ⟨_, e9, _⟩ := hq; cases e9)
      obtain ⟨r5, e9, rfl, h⟩ := hq
      obtain rfl := Sum.inl.inj e9
      show J Γ RX0 cX0_round 4 (some .int) "round" [] 4 0 0 45 [(0, .ref 0), (1, .int p1), (2, .int p2)] [.ref r5, .int r4, .int (A (25 + 4) (p1).toNatClampNeg), .ref 0] (n, K, A, Lg, G) P
      obtain ⟨b6, h⟩ := h
      obtain ⟨b7, h⟩ := h
      refine j_cast (C := "DogsHour$Person") q1228 (j_l2 hf.1 b6) (fun s9 H9 hK9 hR9 h69 => jIs_in hK9 hR9 h69 b6 b7 rfl) (Or.inl rfl) dX0_round_45 ?_
      refine j_getfi fl_X0_215_16 rfl b6 b7 dX0_round_48 ?_
      refine j_callV (b := 0) (As := [.int (A (25 + 4) (p1).toNatClampNeg), .int r4, .int (A r5 1)]) (st := []) (C := RX0) (kc' := 0) (ks' := 0) (tX0_roundOf hf tx ht hx (A (25 + 4) (p1).toNatClampNeg) r4 (A r5 1) _ h) myX0_roundOf rfl q1398 q1400 qs48 (by decide) (fun s9 H9 hK9 hR9 h69 => jIs_in hK9 hR9 h69 (f_lt hf (by decide)) (fk_0 hf) rfl) rfl (Nat.le_of_ble_eq_true rfl) rfl (by decide) (Nat.le_refl 0) (Nat.le_refl 0) dX0_round_51 (fun v9 u9 hq => ?_) (fun k9 u9 hq => by obtain ⟨_, _, e9, _⟩ := hq; cases e9)
      obtain ⟨r8, A9, e9, rfl, h⟩ := hq
      obtain rfl := Sum.inl.inj e9
      show J Γ RX0 cX0_round 4 (some .int) "round" [] 4 0 0 54 [(0, .ref 0), (1, .int p1), (2, .int p2)] [.int r8] (n, K, A9, Lg, G) P
      refine j_istore_n (by decide) rfl dX0_round_54 ?_
      refine j_iload_n 0 rfl dX0_round_55 ?_
      refine j_ldcw (v := 1000000) q1380 dX0_round_56 ?_
      refine j_icmp_lt (tgt := 65) dX0_round_59 (by decide) (fun c => ?_) (fun c => ?_)
      · rw [if_pos c] at h
        refine j_iload_n 3 rfl dX0_round_65 ?_
        refine j_if_ne (tgt := 73) dX0_round_66 (by decide) (fun c => ?_) (fun c => ?_)
        · rw [if_neg c] at h
          refine j_aload_n 1 rfl dX0_round_73 ?_
          refine j_getfr fl_X0_44_0 rfl (f_lt hf (by decide)) (fk_0 hf) ht dX0_round_74 ?_
          refine j_aload_n 1 rfl dX0_round_77 ?_
          refine j_getfr fl_X0_55_0 rfl (f_lt hf (by decide)) (fk_0 hf) (fg_0_7 hf) dX0_round_78 ?_
          refine j_aload_n 1 rfl dX0_round_81 ?_
          refine j_getfr fl_X0_44_0 rfl (f_lt hf (by decide)) (fk_0 hf) ht dX0_round_82 ?_
          refine j_callV (b := 25) (As := [.ref tx]) (st := [.ref tx]) (C := RX5) (kc' := 0) (ks' := 0) (tX5_minute hf 25 isT_town tx hx _ h) myX5_minute rfl q1389 q1252 q1253 (j_l2 hf.1 (t_lt hf isT_town (j := 0) (by decide))) (fun s9 H9 hK9 hR9 h69 => jIs_in hK9 hR9 h69 (t_lt hf isT_town (j := 0) (by decide)) (tk_0 hf isT_town) rfl) rfl (Nat.le_of_ble_eq_true rfl) rfl (by decide) (Nat.le_refl 0) (Nat.le_refl 0) dX0_round_85 (fun v9 u9 hq => ?_) (fun k9 u9 hq => by obtain ⟨_, e9, _⟩ := hq; cases e9)
          obtain ⟨r10, e9, rfl, h⟩ := hq
          obtain rfl := Sum.inl.inj e9
          show J Γ RX0 cX0_round 4 (some .int) "round" [] 4 0 0 88 [(3, .int r8), (0, .ref 0), (1, .int p1), (2, .int p2)] [.int r10, .ref tx] (n, K, A9, Lg, G) P
          refine j_callV (b := tx) (As := [.int r10]) (st := []) (C := RX4) (kc' := 0) (ks' := 0) (tX4_isHour hf tx hx r10 _ h) myX4_isHour rfl q1402 q1338 q1339 (j_l2 hf.1 (x_lt hx (j := 0) (by decide))) (fun s9 H9 hK9 hR9 h69 => jIs_in hK9 hR9 h69 (x_lt hx (j := 0) (by decide)) (xk_0 hx) rfl) rfl (Nat.le_of_ble_eq_true rfl) rfl (by decide) (Nat.le_refl 0) (Nat.le_refl 0) dX0_round_88 (fun v9 u9 hq => ?_) (fun k9 u9 hq => by obtain ⟨_, e9, _⟩ := hq; cases e9)
          obtain ⟨r11, e9, rfl, h⟩ := hq
          obtain rfl := Sum.inl.inj e9
          show J Γ RX0 cX0_round 4 (some .int) "round" [] 4 0 0 91 [(3, .int r8), (0, .ref 0), (1, .int p1), (2, .int p2)] [.int r11] (n, K, A9, Lg, G) P
          refine j_if_ne (tgt := 106) dX0_round_91 (by decide) (fun c => ?_) (fun c => ?_)
          · rw [if_neg c] at h
            refine j_iconst (v := 0) dX0_round_106 (by decide) ?_
            refine j_iret rfl ?_ dX0_round_107
            rw [hP]
            exact ⟨0, A9, rfl, rfl, h⟩
          · rw [if_pos c] at h
            refine j_iload_n 0 rfl dX0_round_94 ?_
            refine j_aload_n 1 rfl dX0_round_95 ?_
            refine j_callV (b := 0) (As := []) (st := [.int r8]) (C := RX0) (kc' := 0) (ks' := 0) (tX0_tillHour hf tx ht hx _ h) myX0_tillHour rfl q1385 q1387 qs46 (by decide) (fun s9 H9 hK9 hR9 h69 => jIs_in hK9 hR9 h69 (f_lt hf (by decide)) (fk_0 hf) rfl) rfl (Nat.le_of_ble_eq_true rfl) rfl (by decide) (Nat.le_refl 0) (Nat.le_refl 0) dX0_round_96 (fun v9 u9 hq => ?_) (fun k9 u9 hq => by obtain ⟨_, e9, _⟩ := hq; cases e9)
            obtain ⟨r12, e9, rfl, h⟩ := hq
            obtain rfl := Sum.inl.inj e9
            show J Γ RX0 cX0_round 4 (some .int) "round" [] 4 0 0 99 [(3, .int r8), (0, .ref 0), (1, .int p1), (2, .int p2)] [.int r12, .int r8] (n, K, A9, Lg, G) P
            refine j_icmp_gt (tgt := 106) dX0_round_99 (by decide) (fun c => ?_) (fun c => ?_)
            · rw [if_pos c] at h
              refine j_iconst (v := 0) dX0_round_106 (by decide) ?_
              refine j_iret rfl ?_ dX0_round_107
              rw [hP]
              exact ⟨0, A9, rfl, rfl, h⟩
            · rw [if_neg c] at h
              refine j_iconst (v := 1) dX0_round_102 (by decide) ?_
              refine j_goto (tgt := 107) dX0_round_103 (by decide) ?_
              refine j_iret rfl ?_ dX0_round_107
              rw [hP]
              exact ⟨1, A9, rfl, rfl, h⟩
        · rw [if_pos c] at h
          refine j_iload_n 0 rfl dX0_round_69 ?_
          refine j_goto (tgt := 107) dX0_round_70 (by decide) ?_
          refine j_iret rfl ?_ dX0_round_107
          rw [hP]
          exact ⟨r8, A9, rfl, rfl, h⟩
      · rw [if_neg c] at h
        refine j_bipush (v := (-2)) dX0_round_62 (by decide) ?_
        refine j_iret rfl ?_ dX0_round_64
        rw [hP]
        exact ⟨(-2), A9, rfl, rfl, h⟩
    · rw [if_pos c] at h
      refine j_iconst (v := (-1)) dX0_round_17 (by decide) ?_
      refine j_iret rfl ?_ dX0_round_18
      rw [hP]
      exact ⟨(-1), A, rfl, rfl, h⟩
theorem myX0_feeding : jY yX0_feeding cX0_feeding 4 (some .int) 1 := ⟨q1411, q121, by decide +kernel, by decide +kernel, by decide⟩
def fX0_feeding_L14 (tx : Nat) (A : pA)  (Q : Int32 → Prop) : Nat → Int32 → Int32 → Int32 → Prop
  | 0, _, _, _ => False
  | n9 + 1, l1, l2, l3 =>
    fX0_dogs tx A (fun r1 => (if r1 ≤ l3 then Q l2 else (vp_in l3 5) ∧ ((vp_in l1 4) ∧ ((vp_in l3 5) ∧ ((vp_in l1 4) ∧ (fX0_feeding_L14 tx A  Q n9 l1 (l2 + (pmax 0 ((A (25 + 15 + (l3).toNatClampNeg) (l1).toNatClampNeg) - (A (25 + 9 + (l3).toNatClampNeg) (l1).toNatClampNeg)))) (l3 + 1)))))))
theorem fX0_feeding_L14_ok {Γ : jG} {n : Nat} {K : Nat → pKd} {G : pG} {A : pA} {Lg : pL} (hf : fOK n K G) (tx : Nat) (ht : G 0 3 = .ref tx) (hx : xOK n K G tx) (Q : Int32 → Prop) (P : jO → pS → Prop) (hP : P = (fun o u => ∃ (r : Int32), o = .inl (some (.int r)) ∧ u = (n, K, A, Lg, G) ∧ Q r))    : ∀ (n9 : Nat) (l1 : Int32) (l2 : Int32) (l3 : Int32), fX0_feeding_L14 tx A  Q n9 l1 l2 l3 → J Γ RX0 cX0_feeding 4 (some .int) "feeding" [] 4 0 0 14 [(0, .ref 0), (1, .int l1), (2, .int l2), (3, .int l3)] [] (n, K, A, Lg, G) P := by
  intro n9
  induction n9 with
  | zero => intro l1 l2 l3 h; exact h.elim
  | succ n9 ih =>
    intro l1 l2 l3 h
    unfold fX0_feeding_L14 at h
    refine j_iload_n 3 rfl dX0_feeding_14 ?_
    refine j_aload_n 0 rfl dX0_feeding_15 ?_
    refine j_callV (b := 0) (As := []) (st := [.int l3]) (C := RX0) (kc' := 0) (ks' := 0) (tX0_dogs hf tx ht hx _ h) myX0_dogs rfl q1199 q1201 qs34 (by decide) (fun s9 H9 hK9 hR9 h69 => jIs_in hK9 hR9 h69 (f_lt hf (by decide)) (fk_0 hf) rfl) rfl (Nat.le_of_ble_eq_true rfl) rfl (by decide) (Nat.le_refl 0) (Nat.le_refl 0) dX0_feeding_16 (fun v9 u9 hq => ?_) (fun k9 u9 hq => by obtain ⟨_, e9, _⟩ := hq; cases e9)
    obtain ⟨r1, e9, rfl, h⟩ := hq
    obtain rfl := Sum.inl.inj e9
    show J Γ RX0 cX0_feeding 4 (some .int) "feeding" [] 4 0 0 19 [(0, .ref 0), (1, .int l1), (2, .int l2), (3, .int l3)] [.int r1, .int l3] (n, K, A, Lg, G) P
    refine j_icmp_ge (tgt := 58) dX0_feeding_19 (by decide) (fun c => ?_) (fun c => ?_)
    · rw [if_pos c] at h
      refine j_iload_n 2 rfl dX0_feeding_58 ?_
      refine j_iret rfl ?_ dX0_feeding_59
      rw [hP]
      exact ⟨l2, rfl, rfl, h⟩
    · rw [if_neg c] at h
      refine j_iload_n 2 rfl dX0_feeding_22 ?_
      refine j_iconst (v := 0) dX0_feeding_23 (by decide) ?_
      refine j_aload_n 0 rfl dX0_feeding_24 ?_
      refine j_getfr fl_X0_55_0 rfl (f_lt hf (by decide)) (fk_0 hf) (fg_0_7 hf) dX0_feeding_25 ?_
      refine j_getfr fl_X0_238_5 rfl (t_lt hf isT_town (j := 0) (by decide)) (tk_0 hf isT_town) (tg_0_8 hf isT_town) dX0_feeding_28 ?_
      refine j_iload_n 3 rfl dX0_feeding_31 ?_
      obtain ⟨b2, h⟩ := h
      refine j_aaldJ (t := 11) (j := (l3).toNatClampNeg) rfl rfl rfl (t_lt hf isT_town (j := 14) (by decide)) (tk_14 hf isT_town) b2 rfl (t_row14 hf isT_town (j_ix b2)).1 dX0_feeding_32 ?_
      refine j_iload_n 1 rfl dX0_feeding_33 ?_
      obtain ⟨b3, h⟩ := h
      refine j_ialdJ (j := (l1).toNatClampNeg) (t_rowlt14 hf isT_town (j_ix b2)) (t_row14 hf isT_town (j_ix b2)).2 b3 rfl dX0_feeding_34 ?_
      refine j_aload_n 0 rfl dX0_feeding_35 ?_
      refine j_getfr fl_X0_55_0 rfl (f_lt hf (by decide)) (fk_0 hf) (fg_0_7 hf) dX0_feeding_36 ?_
      refine j_getfr fl_X0_235_5 rfl (t_lt hf isT_town (j := 0) (by decide)) (tk_0 hf isT_town) (tg_0_7 hf isT_town) dX0_feeding_39 ?_
      refine j_iload_n 3 rfl dX0_feeding_42 ?_
      obtain ⟨b4, h⟩ := h
      refine j_aaldJ (t := 11) (j := (l3).toNatClampNeg) rfl rfl rfl (t_lt hf isT_town (j := 8) (by decide)) (tk_8 hf isT_town) b4 rfl (t_row8 hf isT_town (j_ix b4)).1 dX0_feeding_43 ?_
      refine j_iload_n 1 rfl dX0_feeding_44 ?_
      obtain ⟨b5, h⟩ := h
      refine j_ialdJ (j := (l1).toNatClampNeg) (t_rowlt8 hf isT_town (j_ix b4)) (t_row8 hf isT_town (j_ix b4)).2 b5 rfl dX0_feeding_45 ?_
      refine j_isub dX0_feeding_46 ?_
      refine j_mmax q1280 q899 q153 q900 (Nat.le_of_ble_eq_true rfl) (by decide) dX0_feeding_47 ?_
      refine j_iadd dX0_feeding_50 ?_
      refine j_istore_n (by decide) rfl dX0_feeding_51 ?_
      refine j_iinc (v := l3 + 1) 3 rfl rfl (by decide) rfl dX0_feeding_52 ?_
      refine j_goto (tgt := 14) dX0_feeding_55 (by decide) ?_
      refine j_ls [2, 3, 1, 0] rfl ?_
      exact ih l1 (l2 + (pmax 0 ((A (25 + 15 + (l3).toNatClampNeg) (l1).toNatClampNeg) - (A (25 + 9 + (l3).toNatClampNeg) (l1).toNatClampNeg)))) (l3 + 1) h
def fX0_feeding (tx : Nat) (A : pA) (p1 : Int32) (Q : Int32 → Prop) : Prop :=
    fX0_isPerson tx A p1 (fun r6 => (if r6 = 0 then Q (-1) else ∃ m7, fX0_feeding_L14 tx A  Q m7 p1 0 0))
theorem tX0_feeding {Γ : jG} {n : Nat} {K : Nat → pKd} {G : pG} {A : pA} {Lg : pL} (hf : fOK n K G) (tx : Nat) (ht : G 0 3 = .ref tx) (hx : xOK n K G tx) (p1 : Int32) (Q : Int32 → Prop) (h : fX0_feeding tx A p1 Q) : jMet Γ yX0_feeding cX0_feeding 4 (some .int) [] 4 0 0 [.ref 0, .int p1] (n, K, A, Lg, G) (fun o u => ∃ (r : Int32), o = .inl (some (.int r)) ∧ u = (n, K, A, Lg, G) ∧ Q r) := by
  unfold fX0_feeding at h
  obtain ⟨P, hP⟩ : ∃ P : jO → pS → Prop, P = (fun o u => ∃ (r : Int32), o = .inl (some (.int r)) ∧ u = (n, K, A, Lg, G) ∧ Q r) := ⟨_, rfl⟩
  rw [← hP]
  refine jMet_of rfl rfl rfl (Nat.le_of_ble_eq_true rfl) ?_
  show J Γ RX0 cX0_feeding 4 (some .int) "feeding" [] 4 0 0 0 [(0, .ref 0), (1, .int p1)] [] (n, K, A, Lg, G) P
  refine j_aload_n 0 rfl dX0_feeding_0 ?_
  refine j_iload_n 1 rfl dX0_feeding_1 ?_
  refine j_callV (b := 0) (As := [.int p1]) (st := []) (C := RX0) (kc' := 0) (ks' := 0) (tX0_isPerson hf tx ht hx p1 _ h) myX0_isPerson rfl q1224 q1226 qs38 (by decide) (fun s9 H9 hK9 hR9 h69 => jIs_in hK9 hR9 h69 (f_lt hf (by decide)) (fk_0 hf) rfl) rfl (Nat.le_of_ble_eq_true rfl) rfl (by decide) (Nat.le_refl 0) (Nat.le_refl 0) dX0_feeding_2 (fun v9 u9 hq => ?_) (fun k9 u9 hq => by obtain ⟨_, e9, _⟩ := hq; cases e9)
  obtain ⟨r6, e9, rfl, h⟩ := hq
  obtain rfl := Sum.inl.inj e9
  show J Γ RX0 cX0_feeding 4 (some .int) "feeding" [] 4 0 0 5 [(0, .ref 0), (1, .int p1)] [.int r6] (n, K, A, Lg, G) P
  refine j_if_ne (tgt := 10) dX0_feeding_5 (by decide) (fun c => ?_) (fun c => ?_)
  · rw [if_neg c] at h
    refine j_iconst (v := 0) dX0_feeding_10 (by decide) ?_
    refine j_istore_n (by decide) rfl dX0_feeding_11 ?_
    refine j_iconst (v := 0) dX0_feeding_12 (by decide) ?_
    refine j_istore_n (by decide) rfl dX0_feeding_13 ?_
    refine j_ls [2, 3, 1, 0] rfl ?_
    obtain ⟨m7, h⟩ := h
    exact fX0_feeding_L14_ok hf tx ht hx Q P hP   m7 p1 0 0 h
  · rw [if_pos c] at h
    refine j_iconst (v := (-1)) dX0_feeding_8 (by decide) ?_
    refine j_iret rfl ?_ dX0_feeding_9
    rw [hP]
    exact ⟨(-1), rfl, rfl, h⟩
theorem myX0_held : jY yX0_held cX0_held 6 (some .int) 1 := ⟨q1415, q121, by decide +kernel, by decide +kernel, by decide⟩
def fX0_held_J74 (tx : Nat) (n : Nat) (K : Nat → pKd) (A : pA) (G : pG) (k20 : Int32 → Int32 → Int32 → Int32 → Prop) (Q : Int32 → Prop) (l1 : Int32) (l2 : Int32) (l3 : Int32) (l4 : Int32) : Prop :=
    k20 l1 l2 l3 (l4 + 1)
theorem fX0_held_J74_ok {Γ : jG} {n : Nat} {K : Nat → pKd} {G : pG} {A : pA} {Lg : pL} (hf : fOK n K G) (tx : Nat) (ht : G 0 3 = .ref tx) (hx : xOK n K G tx) (Q : Int32 → Prop) (P : jO → pS → Prop) (hP : P = (fun o u => ∃ (r : Int32), o = .inl (some (.int r)) ∧ u = (n, K, A, Lg, G) ∧ Q r)) (k20 : Int32 → Int32 → Int32 → Int32 → Prop) (ok20 : ∀ (l1 : Int32) (l2 : Int32) (l3 : Int32) (l4 : Int32), k20 l1 l2 l3 l4 → J Γ RX0 cX0_held 6 (some .int) "held" [] 4 0 0 20 [(0, .ref 0), (1, .int l1), (2, .int l2), (3, .int l3), (4, .int l4)] [] (n, K, A, Lg, G) P) (l1 : Int32) (l2 : Int32) (l3 : Int32) (l4 : Int32) (h : fX0_held_J74 tx n K A G k20 Q l1 l2 l3 l4) : J Γ RX0 cX0_held 6 (some .int) "held" [] 4 0 0 74 [(0, .ref 0), (1, .int l1), (2, .int l2), (3, .int l3), (4, .int l4)] [] (n, K, A, Lg, G) P := by
  unfold fX0_held_J74 at h
  refine j_iinc (v := l4 + 1) 4 rfl rfl (by decide) rfl dX0_held_74 ?_
  refine j_goto (tgt := 20) dX0_held_77 (by decide) ?_
  refine j_ls [1, 2, 3, 4, 0] rfl ?_
  exact ok20 l1 l2 l3 (l4 + 1) h
def fX0_held_L20 (tx : Nat) (n : Nat) (K : Nat → pKd) (A : pA) (G : pG)  (Q : Int32 → Prop) : Nat → Int32 → Int32 → Int32 → Int32 → Prop
  | 0, _, _, _, _ => False
  | n9 + 1, l1, l2, l3, l4 =>
    fX0_dogs tx A (fun r1 => (if r1 ≤ l4 then Q l2 else fJ5_get (tx + 2) n K A G l4 (fun r2 => (r2 < n) ∧ ((K r2 = .inl 15) ∧ ((vp_in (A r2 1) 7) ∧ ((vp_in l1 7) ∧ ((if (A (tx + 8 + (A r2 1).toNatClampNeg) (l1).toNatClampNeg) < l3 then fX0_held_J74 tx n K A G (fun x0 x1 x2 x3 => fX0_held_L20 tx n K A G  Q n9 x0 x1 x2 x3) Q l1 l4 (A (tx + 8 + (A r2 1).toNatClampNeg) (l1).toNatClampNeg) l4 else fX0_held_J74 tx n K A G (fun x0 x1 x2 x3 => fX0_held_L20 tx n K A G  Q n9 x0 x1 x2 x3) Q l1 l2 l3 l4))))))))
theorem fX0_held_L20_ok {Γ : jG} {n : Nat} {K : Nat → pKd} {G : pG} {A : pA} {Lg : pL} (hf : fOK n K G) (tx : Nat) (ht : G 0 3 = .ref tx) (hx : xOK n K G tx) (Q : Int32 → Prop) (P : jO → pS → Prop) (hP : P = (fun o u => ∃ (r : Int32), o = .inl (some (.int r)) ∧ u = (n, K, A, Lg, G) ∧ Q r))    : ∀ (n9 : Nat) (l1 : Int32) (l2 : Int32) (l3 : Int32) (l4 : Int32), fX0_held_L20 tx n K A G  Q n9 l1 l2 l3 l4 → J Γ RX0 cX0_held 6 (some .int) "held" [] 4 0 0 20 [(0, .ref 0), (1, .int l1), (2, .int l2), (3, .int l3), (4, .int l4)] [] (n, K, A, Lg, G) P := by
  intro n9
  induction n9 with
  | zero => intro l1 l2 l3 l4 h; exact h.elim
  | succ n9 ih =>
    intro l1 l2 l3 l4 h
    unfold fX0_held_L20 at h
    refine j_iload 4 rfl dX0_held_20 ?_
    refine j_aload_n 0 rfl dX0_held_22 ?_
    refine j_callV (b := 0) (As := []) (st := [.int l4]) (C := RX0) (kc' := 0) (ks' := 0) (tX0_dogs hf tx ht hx _ h) myX0_dogs rfl q1199 q1201 qs34 (by decide) (fun s9 H9 hK9 hR9 h69 => jIs_in hK9 hR9 h69 (f_lt hf (by decide)) (fk_0 hf) rfl) rfl (Nat.le_of_ble_eq_true rfl) rfl (by decide) (Nat.le_refl 0) (Nat.le_refl 0) dX0_held_23 (fun v9 u9 hq => ?_) (fun k9 u9 hq => by obtain ⟨_, e9, _⟩ := hq; cases e9)
    obtain ⟨r1, e9, rfl, h⟩ := hq
    obtain rfl := Sum.inl.inj e9
    show J Γ RX0 cX0_held 6 (some .int) "held" [] 4 0 0 26 [(0, .ref 0), (1, .int l1), (2, .int l2), (3, .int l3), (4, .int l4)] [.int r1, .int l4] (n, K, A, Lg, G) P
    refine j_icmp_ge (tgt := 80) dX0_held_26 (by decide) (fun c => ?_) (fun c => ?_)
    · rw [if_pos c] at h
      refine j_iload_n 2 rfl dX0_held_80 ?_
      refine j_iret rfl ?_ dX0_held_81
      rw [hP]
      exact ⟨l2, rfl, rfl, h⟩
    · rw [if_neg c] at h
      refine j_aload_n 0 rfl dX0_held_29 ?_
      refine j_getfr fl_X0_44_0 rfl (f_lt hf (by decide)) (fk_0 hf) ht dX0_held_30 ?_
      refine j_getfr fl_X0_279_4 rfl (x_lt hx (j := 0) (by decide)) (xk_0 hx) (xg_0_6 hx) dX0_held_33 ?_
      refine j_aload_n 0 rfl dX0_held_36 ?_
      refine j_getfr fl_X0_44_0 rfl (f_lt hf (by decide)) (fk_0 hf) ht dX0_held_37 ?_
      refine j_getfr fl_X0_139_4 rfl (x_lt hx (j := 0) (by decide)) (xk_0 hx) (xg_0_1 hx) dX0_held_40 ?_
      refine j_iload 4 rfl dX0_held_43 ?_
      refine j_callV (b := (tx + 2)) (As := [.int l4]) (st := [.ref (tx + 7)]) (C := RJ5) (kc' := 0) (ks' := 0) (tJ5_get hf (tx + 2) (x_lt hx (j := 2) (by decide)) (xk_2 hx) l4 _ h) myJ5_get rfl q1197 q540 q541 (j_l2 hf.1 (x_lt hx (j := 2) (by decide))) (fun s9 H9 hK9 hR9 h69 => jIs_in hK9 hR9 h69 (x_lt hx (j := 2) (by decide)) (xk_2 hx) rfl) rfl (Nat.le_of_ble_eq_true rfl) rfl (by decide) (Nat.le_refl 0) (Nat.le_refl 0) dX0_held_45 (fun v9 u9 hq => ?_) (fun k9 u9 hq => by obtain ⟨_, e9, _⟩ := hq; cases e9)
      obtain ⟨r2, e9, rfl, h⟩ := hq
      obtain rfl := Sum.inl.inj e9
      show J Γ RX0 cX0_held 6 (some .int) "held" [] 4 0 0 48 [(0, .ref 0), (1, .int l1), (2, .int l2), (3, .int l3), (4, .int l4)] [.ref r2, .ref (tx + 7)] (n, K, A, Lg, G) P
      obtain ⟨b3, h⟩ := h
      obtain ⟨b4, h⟩ := h
      refine j_cast (C := "DogsHour$Dog") q1219 (j_l2 hf.1 b3) (fun s9 H9 hK9 hR9 h69 => jIs_in hK9 hR9 h69 b3 b4 rfl) (Or.inl rfl) dX0_held_48 ?_
      refine j_getfi fl_X0_192_15 rfl b3 b4 dX0_held_51 ?_
      obtain ⟨b5, h⟩ := h
      refine j_aaldJ (t := 11) (j := (A r2 1).toNatClampNeg) rfl rfl rfl (x_lt hx (j := 7) (by decide)) (xk_7 hx) b5 rfl (x_row hx (j_ix b5)).1 dX0_held_54 ?_
      refine j_iload_n 1 rfl dX0_held_55 ?_
      obtain ⟨b6, h⟩ := h
      refine j_ialdJ (j := (l1).toNatClampNeg) (x_rowlt hx (j_ix b5)) (x_row hx (j_ix b5)).2 b6 rfl dX0_held_56 ?_
      refine j_istore (by decide) rfl dX0_held_57 ?_
      refine j_iload 0 rfl dX0_held_59 ?_
      refine j_iload_n 4 rfl dX0_held_61 ?_
      refine j_icmp_lt (tgt := 68) dX0_held_62 (by decide) (fun c => ?_) (fun c => ?_)
      · rw [if_pos c] at h
        refine j_iload 5 rfl dX0_held_68 ?_
        refine j_istore_n (by decide) rfl dX0_held_70 ?_
        refine j_iload 1 rfl dX0_held_71 ?_
        refine j_istore_n (by decide) rfl dX0_held_73 ?_
        refine j_ls [3, 4, 1, 0, 5] rfl ?_
        exact fX0_held_J74_ok hf tx ht hx Q P hP (fun x0 x1 x2 x3 => fX0_held_L20 tx n K A G  Q n9 x0 x1 x2 x3) (fun x0 x1 x2 x3 h9 => ih x0 x1 x2 x3 h9) l1 l4 (A (tx + 8 + (A r2 1).toNatClampNeg) (l1).toNatClampNeg) l4 h
      · rw [if_neg c] at h
        refine j_goto (tgt := 74) dX0_held_65 (by decide) ?_
        refine j_ls [1, 2, 3, 4, 5] rfl ?_
        exact fX0_held_J74_ok hf tx ht hx Q P hP (fun x0 x1 x2 x3 => fX0_held_L20 tx n K A G  Q n9 x0 x1 x2 x3) (fun x0 x1 x2 x3 h9 => ih x0 x1 x2 x3 h9) l1 l2 l3 l4 h
def fX0_held (tx : Nat) (n : Nat) (K : Nat → pKd) (A : pA) (G : pG) (p1 : Int32) (Q : Int32 → Prop) : Prop :=
    fX0_isPlace tx A p1 (fun r7 => (if r7 = 0 then Q (-1) else ∃ m8, fX0_held_L20 tx n K A G  Q m8 p1 (-2) 1000000 0))
theorem tX0_held {Γ : jG} {n : Nat} {K : Nat → pKd} {G : pG} {A : pA} {Lg : pL} (hf : fOK n K G) (tx : Nat) (ht : G 0 3 = .ref tx) (hx : xOK n K G tx) (p1 : Int32) (Q : Int32 → Prop) (h : fX0_held tx n K A G p1 Q) : jMet Γ yX0_held cX0_held 6 (some .int) [] 4 0 0 [.ref 0, .int p1] (n, K, A, Lg, G) (fun o u => ∃ (r : Int32), o = .inl (some (.int r)) ∧ u = (n, K, A, Lg, G) ∧ Q r) := by
  unfold fX0_held at h
  obtain ⟨P, hP⟩ : ∃ P : jO → pS → Prop, P = (fun o u => ∃ (r : Int32), o = .inl (some (.int r)) ∧ u = (n, K, A, Lg, G) ∧ Q r) := ⟨_, rfl⟩
  rw [← hP]
  refine jMet_of rfl rfl rfl (Nat.le_of_ble_eq_true rfl) ?_
  show J Γ RX0 cX0_held 6 (some .int) "held" [] 4 0 0 0 [(0, .ref 0), (1, .int p1)] [] (n, K, A, Lg, G) P
  refine j_aload_n 0 rfl dX0_held_0 ?_
  refine j_iload_n 1 rfl dX0_held_1 ?_
  refine j_callV (b := 0) (As := [.int p1]) (st := []) (C := RX0) (kc' := 0) (ks' := 0) (tX0_isPlace hf tx ht hx p1 _ h) myX0_isPlace rfl q1185 q1187 qs32 (by decide) (fun s9 H9 hK9 hR9 h69 => jIs_in hK9 hR9 h69 (f_lt hf (by decide)) (fk_0 hf) rfl) rfl (Nat.le_of_ble_eq_true rfl) rfl (by decide) (Nat.le_refl 0) (Nat.le_refl 0) dX0_held_2 (fun v9 u9 hq => ?_) (fun k9 u9 hq => by obtain ⟨_, e9, _⟩ := hq; cases e9)
  obtain ⟨r7, e9, rfl, h⟩ := hq
  obtain rfl := Sum.inl.inj e9
  show J Γ RX0 cX0_held 6 (some .int) "held" [] 4 0 0 5 [(0, .ref 0), (1, .int p1)] [.int r7] (n, K, A, Lg, G) P
  refine j_if_ne (tgt := 10) dX0_held_5 (by decide) (fun c => ?_) (fun c => ?_)
  · rw [if_neg c] at h
    refine j_bipush (v := (-2)) dX0_held_10 (by decide) ?_
    refine j_istore_n (by decide) rfl dX0_held_12 ?_
    refine j_ldcw (v := 1000000) q1380 dX0_held_13 ?_
    refine j_istore_n (by decide) rfl dX0_held_16 ?_
    refine j_iconst (v := 0) dX0_held_17 (by decide) ?_
    refine j_istore (by decide) rfl dX0_held_18 ?_
    refine j_ls [3, 4, 2, 1, 0] rfl ?_
    obtain ⟨m8, h⟩ := h
    exact fX0_held_L20_ok hf tx ht hx Q P hP   m8 p1 (-2) 1000000 0 h
  · rw [if_pos c] at h
    refine j_iconst (v := (-1)) dX0_held_8 (by decide) ?_
    refine j_iret rfl ?_ dX0_held_9
    rw [hP]
    exact ⟨(-1), rfl, rfl, h⟩
theorem myX0_tell : jY yX0_tell cX0_tell 3 (some .int) 2 := ⟨q1476, q121, by decide +kernel, by decide +kernel, by decide⟩
def fX0_tell (tx : Nat) (A : pA) (p1 : Int32) (p2 : Int32) (Q : Int32 → pA → Prop) : Prop :=
    fX0_isPerson tx A p1 (fun r1 => (if r1 = 0 then Q (-1) A else (if (A 0 14) = 20 then Q (-1) A else (vp_in (A 0 14) 20) ∧ (∀ A3 : pA, A3 = pup A 275 (A 0 14).toNatClampNeg p1 → (vp_in (A3 0 14) 20) ∧ (∀ A5 : pA, A5 = pup A3 276 (A3 0 14).toNatClampNeg (vp_nar .boolean p2) → ∀ A6 : pA, A6 = pup A5 0 14 ((A5 0 14) + 1) → Q ((A6 0 14) - 1) A6)))))
theorem tX0_tell {Γ : jG} {n : Nat} {K : Nat → pKd} {G : pG} {A : pA} {Lg : pL} (hf : fOK n K G) (tx : Nat) (ht : G 0 3 = .ref tx) (hx : xOK n K G tx) (p1 : Int32) (p2 : Int32) (Q : Int32 → pA → Prop) (h : fX0_tell tx A p1 p2 Q) : jMet Γ yX0_tell cX0_tell 3 (some .int) [] 4 0 0 [.ref 0, .int p1, .int p2] (n, K, A, Lg, G) (fun o u => ∃ (r : Int32) (A' : pA), o = .inl (some (.int r)) ∧ u = (n, K, A', Lg, G) ∧ Q r A') := by
  unfold fX0_tell at h
  obtain ⟨P, hP⟩ : ∃ P : jO → pS → Prop, P = (fun o u => ∃ (r : Int32) (A' : pA), o = .inl (some (.int r)) ∧ u = (n, K, A', Lg, G) ∧ Q r A') := ⟨_, rfl⟩
  rw [← hP]
  refine jMet_of rfl rfl rfl (Nat.le_of_ble_eq_true rfl) ?_
  show J Γ RX0 cX0_tell 3 (some .int) "tell" [] 4 0 0 0 [(0, .ref 0), (1, .int p1), (2, .int p2)] [] (n, K, A, Lg, G) P
  refine j_aload_n 0 rfl dX0_tell_0 ?_
  refine j_iload_n 1 rfl dX0_tell_1 ?_
  refine j_callV (b := 0) (As := [.int p1]) (st := []) (C := RX0) (kc' := 0) (ks' := 0) (tX0_isPerson hf tx ht hx p1 _ h) myX0_isPerson rfl q1224 q1226 qs38 (by decide) (fun s9 H9 hK9 hR9 h69 => jIs_in hK9 hR9 h69 (f_lt hf (by decide)) (fk_0 hf) rfl) rfl (Nat.le_of_ble_eq_true rfl) rfl (by decide) (Nat.le_refl 0) (Nat.le_refl 0) dX0_tell_2 (fun v9 u9 hq => ?_) (fun k9 u9 hq => by obtain ⟨_, e9, _⟩ := hq; cases e9)
  obtain ⟨r1, e9, rfl, h⟩ := hq
  obtain rfl := Sum.inl.inj e9
  show J Γ RX0 cX0_tell 3 (some .int) "tell" [] 4 0 0 5 [(0, .ref 0), (1, .int p1), (2, .int p2)] [.int r1] (n, K, A, Lg, G) P
  refine j_if_eq (tgt := 17) dX0_tell_5 (by decide) (fun c => ?_) (fun c => ?_)
  · rw [if_pos c] at h
    refine j_iconst (v := (-1)) dX0_tell_17 (by decide) ?_
    refine j_iret rfl ?_ dX0_tell_18
    rw [hP]
    exact ⟨(-1), A, rfl, rfl, h⟩
  · rw [if_neg c] at h
    refine j_aload_n 0 rfl dX0_tell_8 ?_
    refine j_getfi fl_X0_122_0 rfl (f_lt hf (by decide)) (fk_0 hf) dX0_tell_9 ?_
    refine j_bipush (v := 20) dX0_tell_12 (by decide) ?_
    refine j_icmp_ne (tgt := 19) dX0_tell_14 (by decide) (fun c => ?_) (fun c => ?_)
    · rw [if_neg c] at h
      refine j_aload_n 0 rfl dX0_tell_19 ?_
      refine j_getfr fl_X0_90_0 rfl (f_lt hf (by decide)) (fk_0 hf) (fg_0_15 hf) dX0_tell_20 ?_
      refine j_aload_n 0 rfl dX0_tell_23 ?_
      refine j_getfi fl_X0_122_0 rfl (f_lt hf (by decide)) (fk_0 hf) dX0_tell_24 ?_
      refine j_iload_n 1 rfl dX0_tell_27 ?_
      obtain ⟨b2, h⟩ := h
      refine j_iastJ (j := (A 0 14).toNatClampNeg) (f_lt hf (by decide)) (fk_275 hf) b2 rfl dX0_tell_28 (fun A3 eA3 => ?_)
      replace h := h A3 eA3
      refine j_aload_n 0 rfl dX0_tell_29 ?_
      refine j_getfr fl_X0_94_0 rfl (f_lt hf (by decide)) (fk_0 hf) (fg_0_16 hf) dX0_tell_30 ?_
      refine j_aload_n 0 rfl dX0_tell_33 ?_
      refine j_getfi fl_X0_122_0 rfl (f_lt hf (by decide)) (fk_0 hf) dX0_tell_34 ?_
      refine j_iload_n 2 rfl dX0_tell_37 ?_
      obtain ⟨b4, h⟩ := h
      refine j_zastJ (j := (A3 0 14).toNatClampNeg) (f_lt hf (by decide)) (fk_276 hf) b4 rfl dX0_tell_38 (fun A5 eA5 => ?_)
      replace h := h A5 eA5
      refine j_aload_n 0 rfl dX0_tell_39 ?_
      refine j_dup rfl dX0_tell_40 ?_
      refine j_getfi fl_X0_122_0 rfl (f_lt hf (by decide)) (fk_0 hf) dX0_tell_41 ?_
      refine j_iconst (v := 1) dX0_tell_44 (by decide) ?_
      refine j_iadd dX0_tell_45 ?_
      refine j_putfiE (fp_X0_122_0 _) rfl rfl rfl (f_lt hf (by decide)) (fk_0 hf) dX0_tell_46 (fun A6 eA6 => ?_)
      replace h := h A6 eA6
      refine j_aload_n 0 rfl dX0_tell_49 ?_
      refine j_getfi fl_X0_122_0 rfl (f_lt hf (by decide)) (fk_0 hf) dX0_tell_50 ?_
      refine j_iconst (v := 1) dX0_tell_53 (by decide) ?_
      refine j_isub dX0_tell_54 ?_
      refine j_iret rfl ?_ dX0_tell_55
      rw [hP]
      exact ⟨(A6 0 14) - 1, A6, rfl, rfl, h⟩
    · rw [if_pos c] at h
      refine j_iconst (v := (-1)) dX0_tell_17 (by decide) ?_
      refine j_iret rfl ?_ dX0_tell_18
      rw [hP]
      exact ⟨(-1), A, rfl, rfl, h⟩
theorem myX0_forget : jY yX0_forget cX0_forget 2 (some .int) 0 := ⟨q1480, q121, by decide +kernel, by decide +kernel, by decide⟩
def fX0_forget (tx : Nat) (A : pA) (Q : Int32 → pA → Prop) : Prop :=
    ∀ A1 : pA, A1 = pup A 0 14 0 → Q (A 0 14) A1
theorem tX0_forget {Γ : jG} {n : Nat} {K : Nat → pKd} {G : pG} {A : pA} {Lg : pL} (hf : fOK n K G) (tx : Nat) (ht : G 0 3 = .ref tx) (hx : xOK n K G tx)  (Q : Int32 → pA → Prop) (h : fX0_forget tx A Q) : jMet Γ yX0_forget cX0_forget 2 (some .int) [] 1 0 0 [.ref 0] (n, K, A, Lg, G) (fun o u => ∃ (r : Int32) (A' : pA), o = .inl (some (.int r)) ∧ u = (n, K, A', Lg, G) ∧ Q r A') := by
  unfold fX0_forget at h
  obtain ⟨P, hP⟩ : ∃ P : jO → pS → Prop, P = (fun o u => ∃ (r : Int32) (A' : pA), o = .inl (some (.int r)) ∧ u = (n, K, A', Lg, G) ∧ Q r A') := ⟨_, rfl⟩
  rw [← hP]
  refine jMet_of rfl rfl rfl (Nat.le_of_ble_eq_true rfl) ?_
  show J Γ RX0 cX0_forget 2 (some .int) "forget" [] 1 0 0 0 [(0, .ref 0)] [] (n, K, A, Lg, G) P
  refine j_aload_n 0 rfl dX0_forget_0 ?_
  refine j_getfi fl_X0_122_0 rfl (f_lt hf (by decide)) (fk_0 hf) dX0_forget_1 ?_
  refine j_istore_n (by decide) rfl dX0_forget_4 ?_
  refine j_aload_n 1 rfl dX0_forget_5 ?_
  refine j_iconst (v := 0) dX0_forget_6 (by decide) ?_
  refine j_putfiE (fp_X0_122_0 _) rfl rfl rfl (f_lt hf (by decide)) (fk_0 hf) dX0_forget_7 (fun A1 eA1 => ?_)
  replace h := h A1 eA1
  refine j_iload_n 0 rfl dX0_forget_10 ?_
  refine j_iret rfl ?_ dX0_forget_11
  rw [hP]
  exact ⟨A 0 14, A1, rfl, rfl, h⟩
theorem myX0_isSo : jY yX0_isSo cX0_isSo 4 (some .boolean) 2 := ⟨q1492, q121, by decide +kernel, by decide +kernel, by decide⟩
def fX0_isSo_J26 (tx : Nat) (A : pA) (k2 : Int32 → Int32 → Int32 → Prop) (Q : Int32 → Prop) (l1 : Int32) (l2 : Int32) (l3 : Int32) (s0 : Int32) : Prop :=
    (vp_in l3 20) ∧ ((if s0 = (A 276 (l3).toNatClampNeg) then k2 l1 l2 (l3 + 1) else Q 0))
theorem fX0_isSo_J26_ok {Γ : jG} {n : Nat} {K : Nat → pKd} {G : pG} {A : pA} {Lg : pL} (hf : fOK n K G) (tx : Nat) (ht : G 0 3 = .ref tx) (hx : xOK n K G tx) (Q : Int32 → Prop) (P : jO → pS → Prop) (hP : P = (fun o u => ∃ (r : Int32), o = .inl (some (.int r)) ∧ u = (n, K, A, Lg, G) ∧ Q r)) (k2 : Int32 → Int32 → Int32 → Prop) (ok2 : ∀ (l1 : Int32) (l2 : Int32) (l3 : Int32), k2 l1 l2 l3 → J Γ RX0 cX0_isSo 4 (some .boolean) "isSo" [] 1 0 0 2 [(0, .ref 0), (1, .int l1), (2, .int l2), (3, .int l3)] [] (n, K, A, Lg, G) P) (l1 : Int32) (l2 : Int32) (l3 : Int32) (s0 : Int32) (h : fX0_isSo_J26 tx A k2 Q l1 l2 l3 s0) : J Γ RX0 cX0_isSo 4 (some .boolean) "isSo" [] 1 0 0 26 [(0, .ref 0), (1, .int l1), (2, .int l2), (3, .int l3)] [.int s0] (n, K, A, Lg, G) P := by
  unfold fX0_isSo_J26 at h
  refine j_aload_n 0 rfl dX0_isSo_26 ?_
  refine j_getfr fl_X0_94_0 rfl (f_lt hf (by decide)) (fk_0 hf) (fg_0_16 hf) dX0_isSo_27 ?_
  refine j_iload_n 3 rfl dX0_isSo_30 ?_
  obtain ⟨b1, h⟩ := h
  refine j_zaldJ (j := (l3).toNatClampNeg) (f_lt hf (by decide)) (fk_276 hf) b1 rfl dX0_isSo_31 ?_
  refine j_icmp_eq (tgt := 37) dX0_isSo_32 (by decide) (fun c => ?_) (fun c => ?_)
  · rw [if_pos c] at h
    refine j_iinc (v := l3 + 1) 3 rfl rfl (by decide) rfl dX0_isSo_37 ?_
    refine j_goto (tgt := 2) dX0_isSo_40 (by decide) ?_
    refine j_ls [1, 2, 3, 0] rfl ?_
    exact ok2 l1 l2 (l3 + 1) h
  · rw [if_neg c] at h
    refine j_iconst (v := 0) dX0_isSo_35 (by decide) ?_
    refine j_zret rfl (by decide) ?_ dX0_isSo_36
    rw [hP]
    exact ⟨0, rfl, rfl, h⟩
def fX0_isSo_L2 (tx : Nat) (A : pA)  (Q : Int32 → Prop) : Nat → Int32 → Int32 → Int32 → Prop
  | 0, _, _, _ => False
  | n9 + 1, l1, l2, l3 =>
    (if l1 ≤ l3 then Q 1 else (vp_in l3 20) ∧ ((if ((l2 >>> ((A 275 (l3).toNatClampNeg) &&& 31)) &&& 1) = 1 then fX0_isSo_J26 tx A (fun x0 x1 x2 => fX0_isSo_L2 tx A  Q n9 x0 x1 x2) Q l1 l2 l3 1 else fX0_isSo_J26 tx A (fun x0 x1 x2 => fX0_isSo_L2 tx A  Q n9 x0 x1 x2) Q l1 l2 l3 0)))
theorem fX0_isSo_L2_ok {Γ : jG} {n : Nat} {K : Nat → pKd} {G : pG} {A : pA} {Lg : pL} (hf : fOK n K G) (tx : Nat) (ht : G 0 3 = .ref tx) (hx : xOK n K G tx) (Q : Int32 → Prop) (P : jO → pS → Prop) (hP : P = (fun o u => ∃ (r : Int32), o = .inl (some (.int r)) ∧ u = (n, K, A, Lg, G) ∧ Q r))    : ∀ (n9 : Nat) (l1 : Int32) (l2 : Int32) (l3 : Int32), fX0_isSo_L2 tx A  Q n9 l1 l2 l3 → J Γ RX0 cX0_isSo 4 (some .boolean) "isSo" [] 1 0 0 2 [(0, .ref 0), (1, .int l1), (2, .int l2), (3, .int l3)] [] (n, K, A, Lg, G) P := by
  intro n9
  induction n9 with
  | zero => intro l1 l2 l3 h; exact h.elim
  | succ n9 ih =>
    intro l1 l2 l3 h
    unfold fX0_isSo_L2 at h
    refine j_iload_n 3 rfl dX0_isSo_2 ?_
    refine j_iload_n 1 rfl dX0_isSo_3 ?_
    refine j_icmp_ge (tgt := 43) dX0_isSo_4 (by decide) (fun c => ?_) (fun c => ?_)
    · rw [if_pos c] at h
      refine j_iconst (v := 1) dX0_isSo_43 (by decide) ?_
      refine j_zret rfl (by decide) ?_ dX0_isSo_44
      rw [hP]
      exact ⟨1, rfl, rfl, h⟩
    · rw [if_neg c] at h
      refine j_iload_n 2 rfl dX0_isSo_7 ?_
      refine j_aload_n 0 rfl dX0_isSo_8 ?_
      refine j_getfr fl_X0_90_0 rfl (f_lt hf (by decide)) (fk_0 hf) (fg_0_15 hf) dX0_isSo_9 ?_
      refine j_iload_n 3 rfl dX0_isSo_12 ?_
      obtain ⟨b2, h⟩ := h
      refine j_ialdJ (j := (l3).toNatClampNeg) (f_lt hf (by decide)) (fk_275 hf) b2 rfl dX0_isSo_13 ?_
      refine j_ishr dX0_isSo_14 ?_
      refine j_iconst (v := 1) dX0_isSo_15 (by decide) ?_
      refine j_iand dX0_isSo_16 ?_
      refine j_iconst (v := 1) dX0_isSo_17 (by decide) ?_
      refine j_icmp_ne (tgt := 25) dX0_isSo_18 (by decide) (fun c => ?_) (fun c => ?_)
      · rw [if_neg c] at h
        refine j_iconst (v := 0) dX0_isSo_25 (by decide) ?_
        exact fX0_isSo_J26_ok hf tx ht hx Q P hP (fun x0 x1 x2 => fX0_isSo_L2 tx A  Q n9 x0 x1 x2) (fun x0 x1 x2 h9 => ih x0 x1 x2 h9) l1 l2 l3 0 h
      · rw [if_pos c] at h
        refine j_iconst (v := 1) dX0_isSo_21 (by decide) ?_
        refine j_goto (tgt := 26) dX0_isSo_22 (by decide) ?_
        exact fX0_isSo_J26_ok hf tx ht hx Q P hP (fun x0 x1 x2 => fX0_isSo_L2 tx A  Q n9 x0 x1 x2) (fun x0 x1 x2 h9 => ih x0 x1 x2 h9) l1 l2 l3 1 h
def fX0_isSo (tx : Nat) (A : pA) (p1 : Int32) (p2 : Int32) (Q : Int32 → Prop) : Prop :=
    ∃ m3, fX0_isSo_L2 tx A  Q m3 p1 p2 0
theorem tX0_isSo {Γ : jG} {n : Nat} {K : Nat → pKd} {G : pG} {A : pA} {Lg : pL} (hf : fOK n K G) (tx : Nat) (ht : G 0 3 = .ref tx) (hx : xOK n K G tx) (p1 : Int32) (p2 : Int32) (Q : Int32 → Prop) (h : fX0_isSo tx A p1 p2 Q) : jMet Γ yX0_isSo cX0_isSo 4 (some .boolean) [] 1 0 0 [.ref 0, .int p1, .int p2] (n, K, A, Lg, G) (fun o u => ∃ (r : Int32), o = .inl (some (.int r)) ∧ u = (n, K, A, Lg, G) ∧ Q r) := by
  unfold fX0_isSo at h
  obtain ⟨P, hP⟩ : ∃ P : jO → pS → Prop, P = (fun o u => ∃ (r : Int32), o = .inl (some (.int r)) ∧ u = (n, K, A, Lg, G) ∧ Q r) := ⟨_, rfl⟩
  rw [← hP]
  refine jMet_of rfl rfl rfl (Nat.le_of_ble_eq_true rfl) ?_
  show J Γ RX0 cX0_isSo 4 (some .boolean) "isSo" [] 1 0 0 0 [(0, .ref 0), (1, .int p1), (2, .int p2)] [] (n, K, A, Lg, G) P
  refine j_iconst (v := 0) dX0_isSo_0 (by decide) ?_
  refine j_istore_n (by decide) rfl dX0_isSo_1 ?_
  refine j_ls [1, 2, 3, 0] rfl ?_
  obtain ⟨m3, h⟩ := h
  exact fX0_isSo_L2_ok hf tx ht hx Q P hP   m3 p1 p2 0 h
theorem myX0_sum : jY yX0_sum cX0_sum 3 (some .int) 1 := ⟨q1430, q121, by decide +kernel, by decide +kernel, by decide⟩
def fX0_sum_L4 (a0 : Nat) (z0 : Nat) (A : pA)  (Q : Int32 → Prop) : Nat → Int32 → Int32 → Prop
  | 0, _, _ => False
  | n9 + 1, l1, l2 =>
    (if (Int32.ofNat z0) ≤ l2 then Q l1 else (vp_in l2 z0) ∧ (fX0_sum_L4 a0 z0 A  Q n9 (l1 + (A a0 (l2).toNatClampNeg)) (l2 + 1)))
theorem fX0_sum_L4_ok {Γ : jG} {n : Nat} {K : Nat → pKd} {G : pG} {A : pA} {Lg : pL} (hf : fOK n K G) (a0 : Nat) (z0 : Nat) (la0 : a0 < n) (ha0 : K a0 = .inr (0, z0)) (Q : Int32 → Prop) (P : jO → pS → Prop) (hP : P = (fun o u => ∃ (r : Int32), o = .inl (some (.int r)) ∧ u = (n, K, A, Lg, G) ∧ Q r))    : ∀ (n9 : Nat) (l1 : Int32) (l2 : Int32), fX0_sum_L4 a0 z0 A  Q n9 l1 l2 → J Γ RX0 cX0_sum 3 (some .int) "sum" [] 1 0 0 4 [(0, .ref a0), (1, .int l1), (2, .int l2)] [] (n, K, A, Lg, G) P := by
  intro n9
  induction n9 with
  | zero => intro l1 l2 h; exact h.elim
  | succ n9 ih =>
    intro l1 l2 h
    unfold fX0_sum_L4 at h
    refine j_iload_n 2 rfl dX0_sum_4 ?_
    refine j_aload_n 0 rfl dX0_sum_5 ?_
    refine j_alen (t := 0) rfl la0 ha0 dX0_sum_6 ?_
    refine j_icmp_ge (tgt := 22) dX0_sum_7 (by decide) (fun c => ?_) (fun c => ?_)
    · rw [if_pos c] at h
      refine j_iload_n 1 rfl dX0_sum_22 ?_
      refine j_iret rfl ?_ dX0_sum_23
      rw [hP]
      exact ⟨l1, rfl, rfl, h⟩
    · rw [if_neg c] at h
      refine j_iload_n 1 rfl dX0_sum_10 ?_
      refine j_aload_n 0 rfl dX0_sum_11 ?_
      refine j_iload_n 2 rfl dX0_sum_12 ?_
      obtain ⟨b1, h⟩ := h
      refine j_ialdJ (j := (l2).toNatClampNeg) la0 ha0 b1 rfl dX0_sum_13 ?_
      refine j_iadd dX0_sum_14 ?_
      refine j_istore_n (by decide) rfl dX0_sum_15 ?_
      refine j_iinc (v := l2 + 1) 2 rfl rfl (by decide) rfl dX0_sum_16 ?_
      refine j_goto (tgt := 4) dX0_sum_19 (by decide) ?_
      refine j_ls [2, 1, 0] rfl ?_
      exact ih (l1 + (A a0 (l2).toNatClampNeg)) (l2 + 1) h
def fX0_sum (a0 : Nat) (z0 : Nat) (A : pA) (Q : Int32 → Prop) : Prop :=
    ∃ m2, fX0_sum_L4 a0 z0 A  Q m2 0 0
theorem tX0_sum {Γ : jG} {n : Nat} {K : Nat → pKd} {G : pG} {A : pA} {Lg : pL} (hf : fOK n K G) (a0 : Nat) (z0 : Nat) (la0 : a0 < n) (ha0 : K a0 = .inr (0, z0))  (Q : Int32 → Prop) (h : fX0_sum a0 z0 A Q) : jMet Γ yX0_sum cX0_sum 3 (some .int) [] 1 0 0 [.ref a0] (n, K, A, Lg, G) (fun o u => ∃ (r : Int32), o = .inl (some (.int r)) ∧ u = (n, K, A, Lg, G) ∧ Q r) := by
  unfold fX0_sum at h
  obtain ⟨P, hP⟩ : ∃ P : jO → pS → Prop, P = (fun o u => ∃ (r : Int32), o = .inl (some (.int r)) ∧ u = (n, K, A, Lg, G) ∧ Q r) := ⟨_, rfl⟩
  rw [← hP]
  refine jMet_of rfl rfl rfl (Nat.le_of_ble_eq_true rfl) ?_
  show J Γ RX0 cX0_sum 3 (some .int) "sum" [] 1 0 0 0 [(0, .ref a0)] [] (n, K, A, Lg, G) P
  refine j_iconst (v := 0) dX0_sum_0 (by decide) ?_
  refine j_istore_n (by decide) rfl dX0_sum_1 ?_
  refine j_iconst (v := 0) dX0_sum_2 (by decide) ?_
  refine j_istore_n (by decide) rfl dX0_sum_3 ?_
  refine j_ls [2, 1, 0] rfl ?_
  obtain ⟨m2, h⟩ := h
  exact fX0_sum_L4_ok hf a0 z0 la0 ha0 Q P hP   m2 0 0 h
theorem myX0_count : jY yX0_count cX0_count 4 (some .int) 1 := ⟨q1522, q121, by decide +kernel, by decide +kernel, by decide⟩
def fX0_count_J258 (tx : Nat) (A : pA)  (Q : Int32 → Prop) (s0 : Int32) (s1 : Int32) : Prop :=
    Q (s1 + s0)
theorem fX0_count_J258_ok {Γ : jG} {n : Nat} {K : Nat → pKd} {G : pG} {A : pA} {Lg : pL} (hf : fOK n K G) (tx : Nat) (ht : G 0 3 = .ref tx) (hx : xOK n K G tx) (Q : Int32 → Prop) (P : jO → pS → Prop) (hP : P = (fun o u => ∃ (r : Int32), o = .inl (some (.int r)) ∧ u = (n, K, A, Lg, G) ∧ Q r))   (s0 : Int32) (s1 : Int32) (h : fX0_count_J258 tx A  Q s0 s1) : J Γ RX0 cX0_count 4 (some .int) "count" [] 3 0 0 258 [] [.int s0, .int s1] (n, K, A, Lg, G) P := by
  unfold fX0_count_J258 at h
  refine j_iadd dX0_count_258 ?_
  refine j_iret rfl ?_ dX0_count_259
  rw [hP]
  exact ⟨s1 + s0, rfl, rfl, h⟩
def fX0_count_J243 (tx : Nat) (A : pA)  (Q : Int32 → Prop) (s0 : Int32) (s1 : Int32) : Prop :=
    (if (A 145 2) = 0 then fX0_count_J258 tx A  Q 0 (s1 + s0) else fX0_count_J258 tx A  Q 1 (s1 + s0))
theorem fX0_count_J243_ok {Γ : jG} {n : Nat} {K : Nat → pKd} {G : pG} {A : pA} {Lg : pL} (hf : fOK n K G) (tx : Nat) (ht : G 0 3 = .ref tx) (hx : xOK n K G tx) (Q : Int32 → Prop) (P : jO → pS → Prop) (hP : P = (fun o u => ∃ (r : Int32), o = .inl (some (.int r)) ∧ u = (n, K, A, Lg, G) ∧ Q r))   (s0 : Int32) (s1 : Int32) (h : fX0_count_J243 tx A  Q s0 s1) : J Γ RX0 cX0_count 4 (some .int) "count" [] 3 0 0 243 [(0, .ref 0)] [.int s0, .int s1] (n, K, A, Lg, G) P := by
  unfold fX0_count_J243 at h
  refine j_iadd dX0_count_243 ?_
  refine j_aload_n 0 rfl dX0_count_244 ?_
  refine j_getfr fl_X0_81_0 rfl (f_lt hf (by decide)) (fk_0 hf) (fg_0_12 hf) dX0_count_245 ?_
  refine j_iconst (v := 2) dX0_count_248 (by decide) ?_
  refine j_zaldJ (j := 2) (f_lt hf (by decide)) (fk_145 hf) (by unfold vp_in; decide) rfl dX0_count_249 ?_
  refine j_if_eq (tgt := 257) dX0_count_250 (by decide) (fun c => ?_) (fun c => ?_)
  · rw [if_pos c] at h
    refine j_iconst (v := 0) dX0_count_257 (by decide) ?_
    refine j_ls [] rfl ?_
    exact fX0_count_J258_ok hf tx ht hx Q P hP   0 (s1 + s0) h
  · rw [if_neg c] at h
    refine j_iconst (v := 1) dX0_count_253 (by decide) ?_
    refine j_goto (tgt := 258) dX0_count_254 (by decide) ?_
    refine j_ls [] rfl ?_
    exact fX0_count_J258_ok hf tx ht hx Q P hP   1 (s1 + s0) h
def fX0_count_J229 (tx : Nat) (A : pA)  (Q : Int32 → Prop) (s0 : Int32) : Prop :=
    (if (A 145 1) = 0 then fX0_count_J243 tx A  Q 0 s0 else fX0_count_J243 tx A  Q 1 s0)
theorem fX0_count_J229_ok {Γ : jG} {n : Nat} {K : Nat → pKd} {G : pG} {A : pA} {Lg : pL} (hf : fOK n K G) (tx : Nat) (ht : G 0 3 = .ref tx) (hx : xOK n K G tx) (Q : Int32 → Prop) (P : jO → pS → Prop) (hP : P = (fun o u => ∃ (r : Int32), o = .inl (some (.int r)) ∧ u = (n, K, A, Lg, G) ∧ Q r))   (s0 : Int32) (h : fX0_count_J229 tx A  Q s0) : J Γ RX0 cX0_count 4 (some .int) "count" [] 3 0 0 229 [(0, .ref 0)] [.int s0] (n, K, A, Lg, G) P := by
  unfold fX0_count_J229 at h
  refine j_aload_n 0 rfl dX0_count_229 ?_
  refine j_getfr fl_X0_81_0 rfl (f_lt hf (by decide)) (fk_0 hf) (fg_0_12 hf) dX0_count_230 ?_
  refine j_iconst (v := 1) dX0_count_233 (by decide) ?_
  refine j_zaldJ (j := 1) (f_lt hf (by decide)) (fk_145 hf) (by unfold vp_in; decide) rfl dX0_count_234 ?_
  refine j_if_eq (tgt := 242) dX0_count_235 (by decide) (fun c => ?_) (fun c => ?_)
  · rw [if_pos c] at h
    refine j_iconst (v := 0) dX0_count_242 (by decide) ?_
    exact fX0_count_J243_ok hf tx ht hx Q P hP   0 s0 h
  · rw [if_neg c] at h
    refine j_iconst (v := 1) dX0_count_238 (by decide) ?_
    refine j_goto (tgt := 243) dX0_count_239 (by decide) ?_
    exact fX0_count_J243_ok hf tx ht hx Q P hP   1 s0 h
def fX0_count_L295 (tx : Nat) (A : pA)  (Q : Int32 → Prop) : Nat → Int32 → Int32 → Prop
  | 0, _, _ => False
  | n9 + 1, l2, l3 =>
    fX0_dogs tx A (fun r1 => (if r1 ≤ l3 then Q l2 else (vp_in l3 5) ∧ (fX0_sum (25 + 15 + (l3).toNatClampNeg) 4 A (fun r3 => fX0_count_L295 tx A  Q n9 (l2 + r3) (l3 + 1)))))
theorem fX0_count_L295_ok {Γ : jG} {n : Nat} {K : Nat → pKd} {G : pG} {A : pA} {Lg : pL} (hf : fOK n K G) (tx : Nat) (ht : G 0 3 = .ref tx) (hx : xOK n K G tx) (Q : Int32 → Prop) (P : jO → pS → Prop) (hP : P = (fun o u => ∃ (r : Int32), o = .inl (some (.int r)) ∧ u = (n, K, A, Lg, G) ∧ Q r))    : ∀ (n9 : Nat) (l2 : Int32) (l3 : Int32), fX0_count_L295 tx A  Q n9 l2 l3 → J Γ RX0 cX0_count 4 (some .int) "count" [] 3 0 0 295 [(0, .ref 0), (2, .int l2), (3, .int l3)] [] (n, K, A, Lg, G) P := by
  intro n9
  induction n9 with
  | zero => intro l2 l3 h; exact h.elim
  | succ n9 ih =>
    intro l2 l3 h
    unfold fX0_count_L295 at h
    refine j_iload_n 2 rfl dX0_count_295 ?_
    refine j_aload_n 0 rfl dX0_count_296 ?_
    refine j_callV (b := 0) (As := []) (st := [.int l3]) (C := RX0) (kc' := 0) (ks' := 0) (tX0_dogs hf tx ht hx _ h) myX0_dogs rfl q1199 q1201 qs34 (by decide) (fun s9 H9 hK9 hR9 h69 => jIs_in hK9 hR9 h69 (f_lt hf (by decide)) (fk_0 hf) rfl) rfl (Nat.le_of_ble_eq_true rfl) rfl (by decide) (Nat.le_refl 0) (Nat.le_refl 0) dX0_count_297 (fun v9 u9 hq => ?_) (fun k9 u9 hq => by obtain ⟨_, e9, _⟩ := hq; cases e9)
    obtain ⟨r1, e9, rfl, h⟩ := hq
    obtain rfl := Sum.inl.inj e9
    show J Γ RX0 cX0_count 4 (some .int) "count" [] 3 0 0 300 [(0, .ref 0), (2, .int l2), (3, .int l3)] [.int r1, .int l3] (n, K, A, Lg, G) P
    refine j_icmp_ge (tgt := 324) dX0_count_300 (by decide) (fun c => ?_) (fun c => ?_)
    · rw [if_pos c] at h
      refine j_iload_n 1 rfl dX0_count_324 ?_
      refine j_iret rfl ?_ dX0_count_325
      rw [hP]
      exact ⟨l2, rfl, rfl, h⟩
    · rw [if_neg c] at h
      refine j_iload_n 1 rfl dX0_count_303 ?_
      refine j_aload_n 0 rfl dX0_count_304 ?_
      refine j_getfr fl_X0_55_0 rfl (f_lt hf (by decide)) (fk_0 hf) (fg_0_7 hf) dX0_count_305 ?_
      refine j_getfr fl_X0_238_5 rfl (t_lt hf isT_town (j := 0) (by decide)) (tk_0 hf isT_town) (tg_0_8 hf isT_town) dX0_count_308 ?_
      refine j_iload_n 2 rfl dX0_count_311 ?_
      obtain ⟨b2, h⟩ := h
      refine j_aaldJ (t := 11) (j := (l3).toNatClampNeg) rfl rfl rfl (t_lt hf isT_town (j := 14) (by decide)) (tk_14 hf isT_town) b2 rfl (t_row14 hf isT_town (j_ix b2)).1 dX0_count_312 ?_
      refine j_callS (As := [.ref (25 + 15 + (l3).toNatClampNeg)]) (st := [.int l2]) (kc' := 0) (ks' := 0) (tX0_sum hf (25 + 15 + (l3).toNatClampNeg) 4 (t_rowlt14 hf isT_town (j_ix b2)) (t_row14 hf isT_town (j_ix b2)).2 _ h) myX0_sum q1428 q1429 rfl (Nat.le_of_ble_eq_true rfl) rfl (by decide) (Nat.le_refl 0) (Nat.le_refl 0) dX0_count_313 (fun v9 u9 hq => ?_) (fun k9 u9 hq => by obtain ⟨_, e9, _⟩ := hq; cases e9)
      obtain ⟨r3, e9, rfl, h⟩ := hq
      obtain rfl := Sum.inl.inj e9
      show J Γ RX0 cX0_count 4 (some .int) "count" [] 3 0 0 316 [(0, .ref 0), (2, .int l2), (3, .int l3)] [.int r3, .int l2] (n, K, A, Lg, G) P
      refine j_iadd dX0_count_316 ?_
      refine j_istore_n (by decide) rfl dX0_count_317 ?_
      refine j_iinc (v := l3 + 1) 2 rfl rfl (by decide) rfl dX0_count_318 ?_
      refine j_goto (tgt := 295) dX0_count_321 (by decide) ?_
      refine j_ls [2, 1, 0] rfl ?_
      exact ih (l2 + r3) (l3 + 1) h
def fX0_count (tx : Nat) (A : pA) (p1 : Int32) (Q : Int32 → Prop) : Prop :=
    (if p1 = 0 then fX0_places tx A (fun r5 => Q r5) else (if p1 = 1 then Q (A tx 7) else (if p1 = 2 then fX0_dogs tx A (fun r8 => Q r8) else (if p1 = 3 then fX0_people tx A (fun r10 => Q r10) else (if p1 = 4 then Q (A tx 8) else (if p1 = 5 then fX5_minute 25 tx A (fun r13 => Q r13) else (if p1 = 6 then fX5_minute 25 tx A (fun r15 => fX4_isHour tx A r15 (fun r16 => (if r16 = 0 then Q 0 else Q 1))) else (if p1 = 7 then Q (A 25 11) else (if p1 = 8 then Q (A 25 9) else (if p1 = 9 then Q (A 25 10) else (if p1 = 10 then fX0_sum (25 + 2) 5 A (fun r21 => Q r21) else (if p1 = 11 then Q (A 2 2) else (if p1 = 12 then Q (A 0 5) else (if p1 = 13 then Q (A 0 14) else (if p1 = 14 then (if (A 145 0) = 0 then fX0_count_J229 tx A  Q 0 else fX0_count_J229 tx A  Q 1) else (if p1 = 15 then fX0_sum (25 + 7) 4 A (fun r27 => Q r27) else (if p1 = 16 then fX0_sum (25 + 6) 4 A (fun r29 => Q r29) else (if p1 = 17 then fX0_sum (25 + 3) 5 A (fun r31 => Q r31) else (if p1 = 18 then ∃ m33, fX0_count_L295 tx A  Q m33 0 0 else (Q (-1)))))))))))))))))))))
theorem tX0_count {Γ : jG} {n : Nat} {K : Nat → pKd} {G : pG} {A : pA} {Lg : pL} (hf : fOK n K G) (tx : Nat) (ht : G 0 3 = .ref tx) (hx : xOK n K G tx) (p1 : Int32) (Q : Int32 → Prop) (h : fX0_count tx A p1 Q) : jMet Γ yX0_count cX0_count 4 (some .int) [] 3 0 0 [.ref 0, .int p1] (n, K, A, Lg, G) (fun o u => ∃ (r : Int32), o = .inl (some (.int r)) ∧ u = (n, K, A, Lg, G) ∧ Q r) := by
  unfold fX0_count at h
  obtain ⟨P, hP⟩ : ∃ P : jO → pS → Prop, P = (fun o u => ∃ (r : Int32), o = .inl (some (.int r)) ∧ u = (n, K, A, Lg, G) ∧ Q r) := ⟨_, rfl⟩
  rw [← hP]
  refine jMet_of rfl rfl rfl (Nat.le_of_ble_eq_true rfl) ?_
  show J Γ RX0 cX0_count 4 (some .int) "count" [] 3 0 0 0 [(0, .ref 0), (1, .int p1)] [] (n, K, A, Lg, G) P
  refine j_iconst (v := 0) dX0_count_0 (by decide) ?_
  refine j_istore_n (by decide) rfl dX0_count_1 ?_
  refine j_iload_n 2 rfl dX0_count_2 ?_
  by_cases c4 : p1 = 0
  · rw [if_pos c4] at h
    have c4T : (p1 : Int32).toInt = 0 := by rw [c4]; rfl
    refine j_tableIn (off := 89) (tgt := 92) (by rw [c4T]; decide) (by rw [c4T]; decide) (by rw [c4T]; rfl) dX0_count_3 (by decide) ?_
    refine j_aload_n 1 rfl dX0_count_92 ?_
    refine j_callV (b := 0) (As := []) (st := []) (C := RX0) (kc' := 0) (ks' := 0) (tX0_places hf tx ht hx _ h) myX0_places rfl q1189 q1191 qs33 (by decide) (fun s9 H9 hK9 hR9 h69 => jIs_in hK9 hR9 h69 (f_lt hf (by decide)) (fk_0 hf) rfl) rfl (Nat.le_of_ble_eq_true rfl) rfl (by decide) (Nat.le_refl 0) (Nat.le_refl 0) dX0_count_93 (fun v9 u9 hq => ?_) (fun k9 u9 hq => by obtain ⟨_, e9, _⟩ := hq; cases e9)
    obtain ⟨r5, e9, rfl, h⟩ := hq
    obtain rfl := Sum.inl.inj e9
    show J Γ RX0 cX0_count 4 (some .int) "count" [] 3 0 0 96 [(2, .int 0), (0, .ref 0), (1, .int p1)] [.int r5] (n, K, A, Lg, G) P
    refine j_iret rfl ?_ dX0_count_96
    rw [hP]
    exact ⟨r5, rfl, rfl, h⟩
  rw [if_neg c4] at h
  by_cases c6 : p1 = 1
  · rw [if_pos c6] at h
    have c6T : (p1 : Int32).toInt = 1 := by rw [c6]; rfl
    refine j_tableIn (off := 94) (tgt := 97) (by rw [c6T]; decide) (by rw [c6T]; decide) (by rw [c6T]; rfl) dX0_count_3 (by decide) ?_
    refine j_aload_n 1 rfl dX0_count_97 ?_
    refine j_getfr fl_X0_44_0 rfl (f_lt hf (by decide)) (fk_0 hf) ht dX0_count_98 ?_
    refine j_getfi fl_X0_351_4 rfl (x_lt hx (j := 0) (by decide)) (xk_0 hx) dX0_count_101 ?_
    refine j_iret rfl ?_ dX0_count_104
    rw [hP]
    exact ⟨A tx 7, rfl, rfl, h⟩
  rw [if_neg c6] at h
  by_cases c7 : p1 = 2
  · rw [if_pos c7] at h
    have c7T : (p1 : Int32).toInt = 2 := by rw [c7]; rfl
    refine j_tableIn (off := 102) (tgt := 105) (by rw [c7T]; decide) (by rw [c7T]; decide) (by rw [c7T]; rfl) dX0_count_3 (by decide) ?_
    refine j_aload_n 1 rfl dX0_count_105 ?_
    refine j_callV (b := 0) (As := []) (st := []) (C := RX0) (kc' := 0) (ks' := 0) (tX0_dogs hf tx ht hx _ h) myX0_dogs rfl q1199 q1201 qs34 (by decide) (fun s9 H9 hK9 hR9 h69 => jIs_in hK9 hR9 h69 (f_lt hf (by decide)) (fk_0 hf) rfl) rfl (Nat.le_of_ble_eq_true rfl) rfl (by decide) (Nat.le_refl 0) (Nat.le_refl 0) dX0_count_106 (fun v9 u9 hq => ?_) (fun k9 u9 hq => by obtain ⟨_, e9, _⟩ := hq; cases e9)
    obtain ⟨r8, e9, rfl, h⟩ := hq
    obtain rfl := Sum.inl.inj e9
    show J Γ RX0 cX0_count 4 (some .int) "count" [] 3 0 0 109 [(2, .int 0), (0, .ref 0), (1, .int p1)] [.int r8] (n, K, A, Lg, G) P
    refine j_iret rfl ?_ dX0_count_109
    rw [hP]
    exact ⟨r8, rfl, rfl, h⟩
  rw [if_neg c7] at h
  by_cases c9 : p1 = 3
  · rw [if_pos c9] at h
    have c9T : (p1 : Int32).toInt = 3 := by rw [c9]; rfl
    refine j_tableIn (off := 107) (tgt := 110) (by rw [c9T]; decide) (by rw [c9T]; decide) (by rw [c9T]; rfl) dX0_count_3 (by decide) ?_
    refine j_aload_n 1 rfl dX0_count_110 ?_
    refine j_callV (b := 0) (As := []) (st := []) (C := RX0) (kc' := 0) (ks' := 0) (tX0_people hf tx ht hx _ h) myX0_people rfl q1203 q1205 qs35 (by decide) (fun s9 H9 hK9 hR9 h69 => jIs_in hK9 hR9 h69 (f_lt hf (by decide)) (fk_0 hf) rfl) rfl (Nat.le_of_ble_eq_true rfl) rfl (by decide) (Nat.le_refl 0) (Nat.le_refl 0) dX0_count_111 (fun v9 u9 hq => ?_) (fun k9 u9 hq => by obtain ⟨_, e9, _⟩ := hq; cases e9)
    obtain ⟨r10, e9, rfl, h⟩ := hq
    obtain rfl := Sum.inl.inj e9
    show J Γ RX0 cX0_count 4 (some .int) "count" [] 3 0 0 114 [(2, .int 0), (0, .ref 0), (1, .int p1)] [.int r10] (n, K, A, Lg, G) P
    refine j_iret rfl ?_ dX0_count_114
    rw [hP]
    exact ⟨r10, rfl, rfl, h⟩
  rw [if_neg c9] at h
  by_cases c11 : p1 = 4
  · rw [if_pos c11] at h
    have c11T : (p1 : Int32).toInt = 4 := by rw [c11]; rfl
    refine j_tableIn (off := 112) (tgt := 115) (by rw [c11T]; decide) (by rw [c11T]; decide) (by rw [c11T]; rfl) dX0_count_3 (by decide) ?_
    refine j_aload_n 1 rfl dX0_count_115 ?_
    refine j_getfr fl_X0_44_0 rfl (f_lt hf (by decide)) (fk_0 hf) ht dX0_count_116 ?_
    refine j_getfi fl_X0_178_4 rfl (x_lt hx (j := 0) (by decide)) (xk_0 hx) dX0_count_119 ?_
    refine j_iret rfl ?_ dX0_count_122
    rw [hP]
    exact ⟨A tx 8, rfl, rfl, h⟩
  rw [if_neg c11] at h
  by_cases c12 : p1 = 5
  · rw [if_pos c12] at h
    have c12T : (p1 : Int32).toInt = 5 := by rw [c12]; rfl
    refine j_tableIn (off := 120) (tgt := 123) (by rw [c12T]; decide) (by rw [c12T]; decide) (by rw [c12T]; rfl) dX0_count_3 (by decide) ?_
    refine j_aload_n 1 rfl dX0_count_123 ?_
    refine j_getfr fl_X0_55_0 rfl (f_lt hf (by decide)) (fk_0 hf) (fg_0_7 hf) dX0_count_124 ?_
    refine j_aload_n 1 rfl dX0_count_127 ?_
    refine j_getfr fl_X0_44_0 rfl (f_lt hf (by decide)) (fk_0 hf) ht dX0_count_128 ?_
    refine j_callV (b := 25) (As := [.ref tx]) (st := []) (C := RX5) (kc' := 0) (ks' := 0) (tX5_minute hf 25 isT_town tx hx _ h) myX5_minute rfl q1389 q1252 q1253 (j_l2 hf.1 (t_lt hf isT_town (j := 0) (by decide))) (fun s9 H9 hK9 hR9 h69 => jIs_in hK9 hR9 h69 (t_lt hf isT_town (j := 0) (by decide)) (tk_0 hf isT_town) rfl) rfl (Nat.le_of_ble_eq_true rfl) rfl (by decide) (Nat.le_refl 0) (Nat.le_refl 0) dX0_count_131 (fun v9 u9 hq => ?_) (fun k9 u9 hq => by obtain ⟨_, e9, _⟩ := hq; cases e9)
    obtain ⟨r13, e9, rfl, h⟩ := hq
    obtain rfl := Sum.inl.inj e9
    show J Γ RX0 cX0_count 4 (some .int) "count" [] 3 0 0 134 [(2, .int 0), (0, .ref 0), (1, .int p1)] [.int r13] (n, K, A, Lg, G) P
    refine j_iret rfl ?_ dX0_count_134
    rw [hP]
    exact ⟨r13, rfl, rfl, h⟩
  rw [if_neg c12] at h
  by_cases c14 : p1 = 6
  · rw [if_pos c14] at h
    have c14T : (p1 : Int32).toInt = 6 := by rw [c14]; rfl
    refine j_tableIn (off := 132) (tgt := 135) (by rw [c14T]; decide) (by rw [c14T]; decide) (by rw [c14T]; rfl) dX0_count_3 (by decide) ?_
    refine j_aload_n 1 rfl dX0_count_135 ?_
    refine j_getfr fl_X0_44_0 rfl (f_lt hf (by decide)) (fk_0 hf) ht dX0_count_136 ?_
    refine j_aload_n 1 rfl dX0_count_139 ?_
    refine j_getfr fl_X0_55_0 rfl (f_lt hf (by decide)) (fk_0 hf) (fg_0_7 hf) dX0_count_140 ?_
    refine j_aload_n 1 rfl dX0_count_143 ?_
    refine j_getfr fl_X0_44_0 rfl (f_lt hf (by decide)) (fk_0 hf) ht dX0_count_144 ?_
    refine j_callV (b := 25) (As := [.ref tx]) (st := [.ref tx]) (C := RX5) (kc' := 0) (ks' := 0) (tX5_minute hf 25 isT_town tx hx _ h) myX5_minute rfl q1389 q1252 q1253 (j_l2 hf.1 (t_lt hf isT_town (j := 0) (by decide))) (fun s9 H9 hK9 hR9 h69 => jIs_in hK9 hR9 h69 (t_lt hf isT_town (j := 0) (by decide)) (tk_0 hf isT_town) rfl) rfl (Nat.le_of_ble_eq_true rfl) rfl (by decide) (Nat.le_refl 0) (Nat.le_refl 0) dX0_count_147 (fun v9 u9 hq => ?_) (fun k9 u9 hq => by obtain ⟨_, e9, _⟩ := hq; cases e9)
    obtain ⟨r15, e9, rfl, h⟩ := hq
    obtain rfl := Sum.inl.inj e9
    show J Γ RX0 cX0_count 4 (some .int) "count" [] 3 0 0 150 [(2, .int 0), (0, .ref 0), (1, .int p1)] [.int r15, .ref tx] (n, K, A, Lg, G) P
    refine j_callV (b := tx) (As := [.int r15]) (st := []) (C := RX4) (kc' := 0) (ks' := 0) (tX4_isHour hf tx hx r15 _ h) myX4_isHour rfl q1402 q1338 q1339 (j_l2 hf.1 (x_lt hx (j := 0) (by decide))) (fun s9 H9 hK9 hR9 h69 => jIs_in hK9 hR9 h69 (x_lt hx (j := 0) (by decide)) (xk_0 hx) rfl) rfl (Nat.le_of_ble_eq_true rfl) rfl (by decide) (Nat.le_refl 0) (Nat.le_refl 0) dX0_count_150 (fun v9 u9 hq => ?_) (fun k9 u9 hq => by obtain ⟨_, e9, _⟩ := hq; cases e9)
    obtain ⟨r16, e9, rfl, h⟩ := hq
    obtain rfl := Sum.inl.inj e9
    show J Γ RX0 cX0_count 4 (some .int) "count" [] 3 0 0 153 [(2, .int 0), (0, .ref 0), (1, .int p1)] [.int r16] (n, K, A, Lg, G) P
    refine j_if_eq (tgt := 160) dX0_count_153 (by decide) (fun c => ?_) (fun c => ?_)
    · rw [if_pos c] at h
      refine j_iconst (v := 0) dX0_count_160 (by decide) ?_
      refine j_iret rfl ?_ dX0_count_161
      rw [hP]
      exact ⟨0, rfl, rfl, h⟩
    · rw [if_neg c] at h
      refine j_iconst (v := 1) dX0_count_156 (by decide) ?_
      refine j_goto (tgt := 161) dX0_count_157 (by decide) ?_
      refine j_iret rfl ?_ dX0_count_161
      rw [hP]
      exact ⟨1, rfl, rfl, h⟩
  rw [if_neg c14] at h
  by_cases c17 : p1 = 7
  · rw [if_pos c17] at h
    have c17T : (p1 : Int32).toInt = 7 := by rw [c17]; rfl
    refine j_tableIn (off := 159) (tgt := 162) (by rw [c17T]; decide) (by rw [c17T]; decide) (by rw [c17T]; rfl) dX0_count_3 (by decide) ?_
    refine j_aload_n 1 rfl dX0_count_162 ?_
    refine j_getfr fl_X0_55_0 rfl (f_lt hf (by decide)) (fk_0 hf) (fg_0_7 hf) dX0_count_163 ?_
    refine j_getfi fl_X0_276_5 rfl (t_lt hf isT_town (j := 0) (by decide)) (tk_0 hf isT_town) dX0_count_166 ?_
    refine j_iret rfl ?_ dX0_count_169
    rw [hP]
    exact ⟨A 25 11, rfl, rfl, h⟩
  rw [if_neg c17] at h
  by_cases c18 : p1 = 8
  · rw [if_pos c18] at h
    have c18T : (p1 : Int32).toInt = 8 := by rw [c18]; rfl
    refine j_tableIn (off := 167) (tgt := 170) (by rw [c18T]; decide) (by rw [c18T]; decide) (by rw [c18T]; rfl) dX0_count_3 (by decide) ?_
    refine j_aload_n 1 rfl dX0_count_170 ?_
    refine j_getfr fl_X0_55_0 rfl (f_lt hf (by decide)) (fk_0 hf) (fg_0_7 hf) dX0_count_171 ?_
    refine j_getfi fl_X0_325_5 rfl (t_lt hf isT_town (j := 0) (by decide)) (tk_0 hf isT_town) dX0_count_174 ?_
    refine j_iret rfl ?_ dX0_count_177
    rw [hP]
    exact ⟨A 25 9, rfl, rfl, h⟩
  rw [if_neg c18] at h
  by_cases c19 : p1 = 9
  · rw [if_pos c19] at h
    have c19T : (p1 : Int32).toInt = 9 := by rw [c19]; rfl
    refine j_tableIn (off := 175) (tgt := 178) (by rw [c19T]; decide) (by rw [c19T]; decide) (by rw [c19T]; rfl) dX0_count_3 (by decide) ?_
    refine j_aload_n 1 rfl dX0_count_178 ?_
    refine j_getfr fl_X0_55_0 rfl (f_lt hf (by decide)) (fk_0 hf) (fg_0_7 hf) dX0_count_179 ?_
    refine j_getfi fl_X0_156_5 rfl (t_lt hf isT_town (j := 0) (by decide)) (tk_0 hf isT_town) dX0_count_182 ?_
    refine j_iret rfl ?_ dX0_count_185
    rw [hP]
    exact ⟨A 25 10, rfl, rfl, h⟩
  rw [if_neg c19] at h
  by_cases c20 : p1 = 10
  · rw [if_pos c20] at h
    have c20T : (p1 : Int32).toInt = 10 := by rw [c20]; rfl
    refine j_tableIn (off := 183) (tgt := 186) (by rw [c20T]; decide) (by rw [c20T]; decide) (by rw [c20T]; rfl) dX0_count_3 (by decide) ?_
    refine j_aload_n 1 rfl dX0_count_186 ?_
    refine j_getfr fl_X0_55_0 rfl (f_lt hf (by decide)) (fk_0 hf) (fg_0_7 hf) dX0_count_187 ?_
    refine j_getfr fl_X0_201_5 rfl (t_lt hf isT_town (j := 0) (by decide)) (tk_0 hf isT_town) (tg_0_1 hf isT_town) dX0_count_190 ?_
    refine j_callS (As := [.ref (25 + 2)]) (st := []) (kc' := 0) (ks' := 0) (tX0_sum hf (25 + 2) 5 (t_lt hf isT_town (j := 2) (by decide)) (tk_2 hf isT_town) _ h) myX0_sum q1428 q1429 rfl (Nat.le_of_ble_eq_true rfl) rfl (by decide) (Nat.le_refl 0) (Nat.le_refl 0) dX0_count_193 (fun v9 u9 hq => ?_) (fun k9 u9 hq => by obtain ⟨_, e9, _⟩ := hq; cases e9)
    obtain ⟨r21, e9, rfl, h⟩ := hq
    obtain rfl := Sum.inl.inj e9
    show J Γ RX0 cX0_count 4 (some .int) "count" [] 3 0 0 196 [(2, .int 0), (0, .ref 0), (1, .int p1)] [.int r21] (n, K, A, Lg, G) P
    refine j_iret rfl ?_ dX0_count_196
    rw [hP]
    exact ⟨r21, rfl, rfl, h⟩
  rw [if_neg c20] at h
  by_cases c22 : p1 = 11
  · rw [if_pos c22] at h
    have c22T : (p1 : Int32).toInt = 11 := by rw [c22]; rfl
    refine j_tableIn (off := 194) (tgt := 197) (by rw [c22T]; decide) (by rw [c22T]; decide) (by rw [c22T]; rfl) dX0_count_3 (by decide) ?_
    refine j_aload_n 1 rfl dX0_count_197 ?_
    refine j_getfr fl_X0_28_0 rfl (f_lt hf (by decide)) (fk_0 hf) (fg_0_1 hf) dX0_count_198 ?_
    refine j_getfi fl_X0_104_2 rfl (f_lt hf (by decide)) (fk_2 hf) dX0_count_201 ?_
    refine j_iret rfl ?_ dX0_count_204
    rw [hP]
    exact ⟨A 2 2, rfl, rfl, h⟩
  rw [if_neg c22] at h
  by_cases c23 : p1 = 12
  · rw [if_pos c23] at h
    have c23T : (p1 : Int32).toInt = 12 := by rw [c23]; rfl
    refine j_tableIn (off := 202) (tgt := 205) (by rw [c23T]; decide) (by rw [c23T]; decide) (by rw [c23T]; rfl) dX0_count_3 (by decide) ?_
    refine j_aload_n 1 rfl dX0_count_205 ?_
    refine j_getfi fl_X0_119_0 rfl (f_lt hf (by decide)) (fk_0 hf) dX0_count_206 ?_
    refine j_iret rfl ?_ dX0_count_209
    rw [hP]
    exact ⟨A 0 5, rfl, rfl, h⟩
  rw [if_neg c23] at h
  by_cases c24 : p1 = 13
  · rw [if_pos c24] at h
    have c24T : (p1 : Int32).toInt = 13 := by rw [c24]; rfl
    refine j_tableIn (off := 207) (tgt := 210) (by rw [c24T]; decide) (by rw [c24T]; decide) (by rw [c24T]; rfl) dX0_count_3 (by decide) ?_
    refine j_aload_n 1 rfl dX0_count_210 ?_
    refine j_getfi fl_X0_122_0 rfl (f_lt hf (by decide)) (fk_0 hf) dX0_count_211 ?_
    refine j_iret rfl ?_ dX0_count_214
    rw [hP]
    exact ⟨A 0 14, rfl, rfl, h⟩
  rw [if_neg c24] at h
  by_cases c25 : p1 = 14
  · rw [if_pos c25] at h
    have c25T : (p1 : Int32).toInt = 14 := by rw [c25]; rfl
    refine j_tableIn (off := 212) (tgt := 215) (by rw [c25T]; decide) (by rw [c25T]; decide) (by rw [c25T]; rfl) dX0_count_3 (by decide) ?_
    refine j_aload_n 1 rfl dX0_count_215 ?_
    refine j_getfr fl_X0_81_0 rfl (f_lt hf (by decide)) (fk_0 hf) (fg_0_12 hf) dX0_count_216 ?_
    refine j_iconst (v := 0) dX0_count_219 (by decide) ?_
    refine j_zaldJ (j := 0) (f_lt hf (by decide)) (fk_145 hf) (by unfold vp_in; decide) rfl dX0_count_220 ?_
    refine j_if_eq (tgt := 228) dX0_count_221 (by decide) (fun c => ?_) (fun c => ?_)
    · rw [if_pos c] at h
      refine j_iconst (v := 0) dX0_count_228 (by decide) ?_
      refine j_ls [1] rfl ?_
      exact fX0_count_J229_ok hf tx ht hx Q P hP   0 h
    · rw [if_neg c] at h
      refine j_iconst (v := 1) dX0_count_224 (by decide) ?_
      refine j_goto (tgt := 229) dX0_count_225 (by decide) ?_
      refine j_ls [1] rfl ?_
      exact fX0_count_J229_ok hf tx ht hx Q P hP   1 h
  rw [if_neg c25] at h
  by_cases c26 : p1 = 15
  · rw [if_pos c26] at h
    have c26T : (p1 : Int32).toInt = 15 := by rw [c26]; rfl
    refine j_tableIn (off := 257) (tgt := 260) (by rw [c26T]; decide) (by rw [c26T]; decide) (by rw [c26T]; rfl) dX0_count_3 (by decide) ?_
    refine j_aload_n 1 rfl dX0_count_260 ?_
    refine j_getfr fl_X0_55_0 rfl (f_lt hf (by decide)) (fk_0 hf) (fg_0_7 hf) dX0_count_261 ?_
    refine j_getfr fl_X0_231_5 rfl (t_lt hf isT_town (j := 0) (by decide)) (tk_0 hf isT_town) (tg_0_6 hf isT_town) dX0_count_264 ?_
    refine j_callS (As := [.ref (25 + 7)]) (st := []) (kc' := 0) (ks' := 0) (tX0_sum hf (25 + 7) 4 (t_lt hf isT_town (j := 7) (by decide)) (tk_7 hf isT_town) _ h) myX0_sum q1428 q1429 rfl (Nat.le_of_ble_eq_true rfl) rfl (by decide) (Nat.le_refl 0) (Nat.le_refl 0) dX0_count_267 (fun v9 u9 hq => ?_) (fun k9 u9 hq => by obtain ⟨_, e9, _⟩ := hq; cases e9)
    obtain ⟨r27, e9, rfl, h⟩ := hq
    obtain rfl := Sum.inl.inj e9
    show J Γ RX0 cX0_count 4 (some .int) "count" [] 3 0 0 270 [(2, .int 0), (0, .ref 0), (1, .int p1)] [.int r27] (n, K, A, Lg, G) P
    refine j_iret rfl ?_ dX0_count_270
    rw [hP]
    exact ⟨r27, rfl, rfl, h⟩
  rw [if_neg c26] at h
  by_cases c28 : p1 = 16
  · rw [if_pos c28] at h
    have c28T : (p1 : Int32).toInt = 16 := by rw [c28]; rfl
    refine j_tableIn (off := 268) (tgt := 271) (by rw [c28T]; decide) (by rw [c28T]; decide) (by rw [c28T]; rfl) dX0_count_3 (by decide) ?_
    refine j_aload_n 1 rfl dX0_count_271 ?_
    refine j_getfr fl_X0_55_0 rfl (f_lt hf (by decide)) (fk_0 hf) (fg_0_7 hf) dX0_count_272 ?_
    refine j_getfr fl_X0_218_5 rfl (t_lt hf isT_town (j := 0) (by decide)) (tk_0 hf isT_town) (tg_0_5 hf isT_town) dX0_count_275 ?_
    refine j_callS (As := [.ref (25 + 6)]) (st := []) (kc' := 0) (ks' := 0) (tX0_sum hf (25 + 6) 4 (t_lt hf isT_town (j := 6) (by decide)) (tk_6 hf isT_town) _ h) myX0_sum q1428 q1429 rfl (Nat.le_of_ble_eq_true rfl) rfl (by decide) (Nat.le_refl 0) (Nat.le_refl 0) dX0_count_278 (fun v9 u9 hq => ?_) (fun k9 u9 hq => by obtain ⟨_, e9, _⟩ := hq; cases e9)
    obtain ⟨r29, e9, rfl, h⟩ := hq
    obtain rfl := Sum.inl.inj e9
    show J Γ RX0 cX0_count 4 (some .int) "count" [] 3 0 0 281 [(2, .int 0), (0, .ref 0), (1, .int p1)] [.int r29] (n, K, A, Lg, G) P
    refine j_iret rfl ?_ dX0_count_281
    rw [hP]
    exact ⟨r29, rfl, rfl, h⟩
  rw [if_neg c28] at h
  by_cases c30 : p1 = 17
  · rw [if_pos c30] at h
    have c30T : (p1 : Int32).toInt = 17 := by rw [c30]; rfl
    refine j_tableIn (off := 279) (tgt := 282) (by rw [c30T]; decide) (by rw [c30T]; decide) (by rw [c30T]; rfl) dX0_count_3 (by decide) ?_
    refine j_aload_n 1 rfl dX0_count_282 ?_
    refine j_getfr fl_X0_55_0 rfl (f_lt hf (by decide)) (fk_0 hf) (fg_0_7 hf) dX0_count_283 ?_
    refine j_getfr fl_X0_204_5 rfl (t_lt hf isT_town (j := 0) (by decide)) (tk_0 hf isT_town) (tg_0_2 hf isT_town) dX0_count_286 ?_
    refine j_callS (As := [.ref (25 + 3)]) (st := []) (kc' := 0) (ks' := 0) (tX0_sum hf (25 + 3) 5 (t_lt hf isT_town (j := 3) (by decide)) (tk_3 hf isT_town) _ h) myX0_sum q1428 q1429 rfl (Nat.le_of_ble_eq_true rfl) rfl (by decide) (Nat.le_refl 0) (Nat.le_refl 0) dX0_count_289 (fun v9 u9 hq => ?_) (fun k9 u9 hq => by obtain ⟨_, e9, _⟩ := hq; cases e9)
    obtain ⟨r31, e9, rfl, h⟩ := hq
    obtain rfl := Sum.inl.inj e9
    show J Γ RX0 cX0_count 4 (some .int) "count" [] 3 0 0 292 [(2, .int 0), (0, .ref 0), (1, .int p1)] [.int r31] (n, K, A, Lg, G) P
    refine j_iret rfl ?_ dX0_count_292
    rw [hP]
    exact ⟨r31, rfl, rfl, h⟩
  rw [if_neg c30] at h
  by_cases c32 : p1 = 18
  · rw [if_pos c32] at h
    have c32T : (p1 : Int32).toInt = 18 := by rw [c32]; rfl
    refine j_tableIn (off := 290) (tgt := 293) (by rw [c32T]; decide) (by rw [c32T]; decide) (by rw [c32T]; rfl) dX0_count_3 (by decide) ?_
    refine j_iconst (v := 0) dX0_count_293 (by decide) ?_
    refine j_istore_n (by decide) rfl dX0_count_294 ?_
    refine j_ls [2, 1, 0] rfl ?_
    obtain ⟨m33, h⟩ := h
    exact fX0_count_L295_ok hf tx ht hx Q P hP   m33 0 0 h
  rw [if_neg c32] at h
  refine j_tableOut (tgt := 326) (by have c4T := lv_neT c4 (a := 0) rfl; have c6T := lv_neT c6 (a := 1) rfl; have c7T := lv_neT c7 (a := 2) rfl; have c9T := lv_neT c9 (a := 3) rfl; have c11T := lv_neT c11 (a := 4) rfl; have c12T := lv_neT c12 (a := 5) rfl; have c14T := lv_neT c14 (a := 6) rfl; have c17T := lv_neT c17 (a := 7) rfl; have c18T := lv_neT c18 (a := 8) rfl; have c19T := lv_neT c19 (a := 9) rfl; have c20T := lv_neT c20 (a := 10) rfl; have c22T := lv_neT c22 (a := 11) rfl; have c23T := lv_neT c23 (a := 12) rfl; have c24T := lv_neT c24 (a := 13) rfl; have c25T := lv_neT c25 (a := 14) rfl; have c26T := lv_neT c26 (a := 15) rfl; have c28T := lv_neT c28 (a := 16) rfl; have c30T := lv_neT c30 (a := 17) rfl; have c32T := lv_neT c32 (a := 18) rfl; omega) dX0_count_3 (by decide) ?_
  refine j_iconst (v := (-1)) dX0_count_326 (by decide) ?_
  refine j_iret rfl ?_ dX0_count_327
  rw [hP]
  exact ⟨(-1), rfl, rfl, h⟩
