set_option maxRecDepth 100000
set_option maxHeartbeats 4000000
theorem myX5_goesBy : jY yX5_goesBy cX5_goesBy 4 none 2 := ⟨q1327, q132, by decide +kernel, by decide +kernel, by decide⟩
def fX5_goesBy_J27 (a0 : Nat) (a1 : Nat) (n : Nat) (K : Nat → pKd) (G : pG) (k2 : Int32 → pA → Prop) (Q : pA → Prop) (l3 : Int32) (A : pA) : Prop :=
    k2 (l3 + 1) A
theorem fX5_goesBy_J27_ok {Γ : jG} {n : Nat} {K : Nat → pKd} {G : pG} {Lg : pL} (hf : fOK n K G) (a0 : Nat) (ha0 : isT a0) (a1 : Nat) (ha1 : xOK n K G a1) (Q : pA → Prop) (P : jO → pS → Prop) (hP : P = (fun o u => ∃ (A' : pA), o = .inl none ∧ u = (n, K, A', Lg, G) ∧ Q A')) (k2 : Int32 → pA → Prop) (ok2 : ∀ (l3 : Int32) (A : pA), k2 l3 A → J Γ RX5 cX5_goesBy 4 none "goesBy" [] 507 0 0 2 [(0, .ref a0), (1, .ref a1), (2, .ref 142), (3, .int l3)] [] (n, K, A, Lg, G) P) (l3 : Int32) (A : pA) (h : fX5_goesBy_J27 a0 a1 n K G k2 Q l3 A) : J Γ RX5 cX5_goesBy 4 none "goesBy" [] 507 0 0 27 [(0, .ref a0), (1, .ref a1), (2, .ref 142), (3, .int l3)] [] (n, K, A, Lg, G) P := by
  unfold fX5_goesBy_J27 at h
  refine j_iinc (v := l3 + 1) 3 rfl rfl (by decide) rfl dX5_goesBy_27 ?_
  refine j_goto (tgt := 2) dX5_goesBy_30 (by decide) ?_
  refine j_ls [1, 2, 3, 0] rfl ?_
  exact ok2 (l3 + 1) A h
def fX5_goesBy_L78 (a0 : Nat) (a1 : Nat) (n : Nat) (K : Nat → pKd) (G : pG)  (Q : pA → Prop) : Nat → Int32 → pA → Prop
  | 0, _, _ => False
  | n9 + 1, l3, A =>
    fJ5_size (a1 + 2) A (fun r1 => (if r1 ≤ l3 then Q A else fX5_forgets a0 a1 n K A G l3 (fun A2 => fX5_goesBy_L78 a0 a1 n K G  Q n9 (l3 + 1) A2)))
theorem fX5_goesBy_L78_ok {Γ : jG} {n : Nat} {K : Nat → pKd} {G : pG} {Lg : pL} (hf : fOK n K G) (a0 : Nat) (ha0 : isT a0) (a1 : Nat) (ha1 : xOK n K G a1) (Q : pA → Prop) (P : jO → pS → Prop) (hP : P = (fun o u => ∃ (A' : pA), o = .inl none ∧ u = (n, K, A', Lg, G) ∧ Q A'))    : ∀ (n9 : Nat) (l3 : Int32) (A : pA), fX5_goesBy_L78 a0 a1 n K G  Q n9 l3 A → J Γ RX5 cX5_goesBy 4 none "goesBy" [] 507 0 0 78 [(0, .ref a0), (1, .ref a1), (3, .int l3)] [] (n, K, A, Lg, G) P := by
  intro n9
  induction n9 with
  | zero => intro l3 A h; exact h.elim
  | succ n9 ih =>
    intro l3 A h
    unfold fX5_goesBy_L78 at h
    refine j_iload_n 2 rfl dX5_goesBy_78 ?_
    refine j_aload_n 1 rfl dX5_goesBy_79 ?_
    refine j_getfr fl_X5_51_4 rfl (x_lt ha1 (j := 0) (by decide)) (xk_0 ha1) (xg_0_1 ha1) dX5_goesBy_80 ?_
    refine j_callV (b := (a1 + 2)) (As := []) (st := [.int l3]) (C := RJ5) (kc' := 0) (ks' := 0) (tJ5_size hf (a1 + 2) (x_lt ha1 (j := 2) (by decide)) (xk_2 ha1) _ h) myJ5_size rfl q535 q536 q537 (j_l2 hf.1 (x_lt ha1 (j := 2) (by decide))) (fun s9 H9 hK9 hR9 h69 => jIs_in hK9 hR9 h69 (x_lt ha1 (j := 2) (by decide)) (xk_2 ha1) rfl) rfl (Nat.le_of_ble_eq_true rfl) rfl (by decide) (Nat.le_refl 0) (Nat.le_refl 0) dX5_goesBy_83 (fun v9 u9 hq => ?_) (fun k9 u9 hq => by obtain ⟨_, e9, _⟩ := hq; cases e9)
    obtain ⟨r1, e9, rfl, h⟩ := hq
    obtain rfl := Sum.inl.inj e9
    show J Γ RX5 cX5_goesBy 4 none "goesBy" [] 507 0 0 86 [(0, .ref a0), (1, .ref a1), (3, .int l3)] [.int r1, .int l3] (n, K, A, Lg, G) P
    refine j_icmp_ge (tgt := 101) dX5_goesBy_86 (by decide) (fun c => ?_) (fun c => ?_)
    · rw [if_pos c] at h
      refine j_vret rfl ?_ dX5_goesBy_101
      rw [hP]
      exact ⟨A, rfl, rfl, h⟩
    · rw [if_neg c] at h
      refine j_aload_n 0 rfl dX5_goesBy_89 ?_
      refine j_aload_n 1 rfl dX5_goesBy_90 ?_
      refine j_iload_n 2 rfl dX5_goesBy_91 ?_
      refine j_callV (b := a0) (As := [.ref a1, .int l3]) (st := []) (C := RX5) (kc' := 0) (ks' := 0) (tX5_forgets hf a0 ha0 a1 ha1 l3 _ h) myX5_forgets rfl q1366 q1368 qs45 (j_l2 hf.1 (t_lt hf ha0 (j := 0) (by decide))) (fun s9 H9 hK9 hR9 h69 => jIs_in hK9 hR9 h69 (t_lt hf ha0 (j := 0) (by decide)) (tk_0 hf ha0) rfl) rfl (Nat.le_of_ble_eq_true rfl) rfl (by decide) (Nat.le_refl 0) (Nat.le_refl 0) dX5_goesBy_92 (fun v9 u9 hq => ?_) (fun k9 u9 hq => by obtain ⟨_, e9, _⟩ := hq; cases e9)
      obtain ⟨A2, e9, rfl, h⟩ := hq
      obtain rfl := Sum.inl.inj e9
      show J Γ RX5 cX5_goesBy 4 none "goesBy" [] 507 0 0 95 [(0, .ref a0), (1, .ref a1), (3, .int l3)] [] (n, K, A2, Lg, G) P
      refine j_iinc (v := l3 + 1) 2 rfl rfl (by decide) rfl dX5_goesBy_95 ?_
      refine j_goto (tgt := 78) dX5_goesBy_98 (by decide) ?_
      refine j_ls [1, 2, 0] rfl ?_
      exact ih (l3 + 1) A2 h
def fX5_goesBy_J51 (a0 : Nat) (a1 : Nat) (n : Nat) (K : Nat → pKd) (G : pG)  (Q : pA → Prop) (s0 : Int32) (A : pA) : Prop :=
    (vp_in s0 2) ∧ (fTime a0 a1 ((s0).toNatClampNeg) n K A G (fun A4 => ∀ A5 : pA, A5 = pup A4 a0 11 ((A4 a0 11) + 1) → fX5_minute a0 a1 A5 (fun r6 => (if r6 = 0 then ∃ m7, fX5_goesBy_L78 a0 a1 n K G  Q m7 0 A5 else Q A5))))
theorem fX5_goesBy_J51_ok {Γ : jG} {n : Nat} {K : Nat → pKd} {G : pG} {Lg : pL} (hf : fOK n K G) (a0 : Nat) (ha0 : isT a0) (a1 : Nat) (ha1 : xOK n K G a1) (Q : pA → Prop) (P : jO → pS → Prop) (hP : P = (fun o u => ∃ (A' : pA), o = .inl none ∧ u = (n, K, A', Lg, G) ∧ Q A'))   (s0 : Int32) (A : pA) (h : fX5_goesBy_J51 a0 a1 n K G  Q s0 A) : J Γ RX5 cX5_goesBy 4 none "goesBy" [] 507 0 0 51 [(0, .ref a0), (1, .ref a1)] [.int s0, .ref 142] (n, K, A, Lg, G) P := by
  unfold fX5_goesBy_J51 at h
  obtain ⟨b3, h⟩ := h
  refine j_aaldJ (t := 10) (j := (s0).toNatClampNeg) rfl rfl rfl (f_lt hf (by decide)) (fk_142 hf) b3 rfl (times_row hf (j_ix b3)) dX5_goesBy_51 ?_
  refine j_aload_n 0 rfl dX5_goesBy_52 ?_
  refine j_aload_n 1 rfl dX5_goesBy_53 ?_
  refine j_callTime (st := []) hf a0 ha0 a1 ha1 ((s0).toNatClampNeg) (j_ix b3) h q1341 (by decide) (Nat.le_of_ble_eq_true rfl) dX5_goesBy_54 (fun A4 h => ?_)
  show J Γ RX5 cX5_goesBy 4 none "goesBy" [] 507 0 0 57 [(0, .ref a0), (1, .ref a1)] [] (n, K, A4, Lg, G) P
  refine j_aload_n 0 rfl dX5_goesBy_57 ?_
  refine j_dup rfl dX5_goesBy_58 ?_
  refine j_getfi fl_X5_89_5 rfl (t_lt hf ha0 (j := 0) (by decide)) (tk_0 hf ha0) dX5_goesBy_59 ?_
  refine j_iconst (v := 1) dX5_goesBy_62 (by decide) ?_
  refine j_iadd dX5_goesBy_63 ?_
  refine j_putfiE (fp_X5_89_5 _) rfl rfl rfl (t_lt hf ha0 (j := 0) (by decide)) (tk_0 hf ha0) dX5_goesBy_64 (fun A5 eA5 => ?_)
  replace h := h A5 eA5
  refine j_aload_n 0 rfl dX5_goesBy_67 ?_
  refine j_aload_n 1 rfl dX5_goesBy_68 ?_
  refine j_callV (b := a0) (As := [.ref a1]) (st := []) (C := RX5) (kc' := 0) (ks' := 0) (tX5_minute hf a0 ha0 a1 ha1 _ h) myX5_minute rfl q1251 q1252 q1253 (j_l2 hf.1 (t_lt hf ha0 (j := 0) (by decide))) (fun s9 H9 hK9 hR9 h69 => jIs_in hK9 hR9 h69 (t_lt hf ha0 (j := 0) (by decide)) (tk_0 hf ha0) rfl) rfl (Nat.le_of_ble_eq_true rfl) rfl (by decide) (Nat.le_refl 0) (Nat.le_refl 0) dX5_goesBy_69 (fun v9 u9 hq => ?_) (fun k9 u9 hq => by obtain ⟨_, e9, _⟩ := hq; cases e9)
  obtain ⟨r6, e9, rfl, h⟩ := hq
  obtain rfl := Sum.inl.inj e9
  show J Γ RX5 cX5_goesBy 4 none "goesBy" [] 507 0 0 72 [(0, .ref a0), (1, .ref a1)] [.int r6] (n, K, A5, Lg, G) P
  refine j_if_eq (tgt := 76) dX5_goesBy_72 (by decide) (fun c => ?_) (fun c => ?_)
  · rw [if_pos c] at h
    refine j_iconst (v := 0) dX5_goesBy_76 (by decide) ?_
    refine j_istore_n (by decide) rfl dX5_goesBy_77 ?_
    refine j_ls [1, 2, 0] rfl ?_
    obtain ⟨m7, h⟩ := h
    exact fX5_goesBy_L78_ok hf a0 ha0 a1 ha1 Q P hP   m7 0 A5 h
  · rw [if_neg c] at h
    refine j_vret rfl ?_ dX5_goesBy_75
    rw [hP]
    exact ⟨A5, rfl, rfl, h⟩
def fX5_goesBy_L2 (a0 : Nat) (a1 : Nat) (n : Nat) (K : Nat → pKd) (G : pG)  (Q : pA → Prop) : Nat → Int32 → pA → Prop
  | 0, _, _ => False
  | n9 + 1, l3, A =>
    fJ5_size (a1 + 3) A (fun r8 => (if r8 ≤ l3 then fX5_minute a0 a1 A (fun r9 => fX4_isHour a1 A r9 (fun r10 => (if r10 = 0 then fX5_goesBy_J51 a0 a1 n K G  Q 0 A else fX5_goesBy_J51 a0 a1 n K G  Q 1 A))) else fX5_isFetched a0 A l3 (fun r11 => (if r11 = 0 then fX5_walks a0 a1 n K A G l3 (fun A12 => fX5_goesBy_J27 a0 a1 n K G (fun x0 x1 => fX5_goesBy_L2 a0 a1 n K G  Q n9 x0 x1) Q l3 A12) else fX5_goesBy_J27 a0 a1 n K G (fun x0 x1 => fX5_goesBy_L2 a0 a1 n K G  Q n9 x0 x1) Q l3 A))))
theorem fX5_goesBy_L2_ok {Γ : jG} {n : Nat} {K : Nat → pKd} {G : pG} {Lg : pL} (hf : fOK n K G) (a0 : Nat) (ha0 : isT a0) (a1 : Nat) (ha1 : xOK n K G a1) (Q : pA → Prop) (P : jO → pS → Prop) (hP : P = (fun o u => ∃ (A' : pA), o = .inl none ∧ u = (n, K, A', Lg, G) ∧ Q A'))    : ∀ (n9 : Nat) (l3 : Int32) (A : pA), fX5_goesBy_L2 a0 a1 n K G  Q n9 l3 A → J Γ RX5 cX5_goesBy 4 none "goesBy" [] 507 0 0 2 [(0, .ref a0), (1, .ref a1), (2, .ref 142), (3, .int l3)] [] (n, K, A, Lg, G) P := by
  intro n9
  induction n9 with
  | zero => intro l3 A h; exact h.elim
  | succ n9 ih =>
    intro l3 A h
    unfold fX5_goesBy_L2 at h
    refine j_iload_n 3 rfl dX5_goesBy_2 ?_
    refine j_aload_n 1 rfl dX5_goesBy_3 ?_
    refine j_getfr fl_X5_73_4 rfl (x_lt ha1 (j := 0) (by decide)) (xk_0 ha1) (xg_0_2 ha1) dX5_goesBy_4 ?_
    refine j_callV (b := (a1 + 3)) (As := []) (st := [.int l3]) (C := RJ5) (kc' := 0) (ks' := 0) (tJ5_size hf (a1 + 3) (x_lt ha1 (j := 3) (by decide)) (xk_3 ha1) _ h) myJ5_size rfl q535 q536 q537 (j_l2 hf.1 (x_lt ha1 (j := 3) (by decide))) (fun s9 H9 hK9 hR9 h69 => jIs_in hK9 hR9 h69 (x_lt ha1 (j := 3) (by decide)) (xk_3 ha1) rfl) rfl (Nat.le_of_ble_eq_true rfl) rfl (by decide) (Nat.le_refl 0) (Nat.le_refl 0) dX5_goesBy_7 (fun v9 u9 hq => ?_) (fun k9 u9 hq => by obtain ⟨_, e9, _⟩ := hq; cases e9)
    obtain ⟨r8, e9, rfl, h⟩ := hq
    obtain rfl := Sum.inl.inj e9
    show J Γ RX5 cX5_goesBy 4 none "goesBy" [] 507 0 0 10 [(0, .ref a0), (1, .ref a1), (2, .ref 142), (3, .int l3)] [.int r8, .int l3] (n, K, A, Lg, G) P
    refine j_icmp_ge (tgt := 33) dX5_goesBy_10 (by decide) (fun c => ?_) (fun c => ?_)
    · rw [if_pos c] at h
      refine j_aload_n 2 rfl dX5_goesBy_33 ?_
      refine j_aload_n 1 rfl dX5_goesBy_34 ?_
      refine j_aload_n 0 rfl dX5_goesBy_35 ?_
      refine j_aload_n 1 rfl dX5_goesBy_36 ?_
      refine j_callV (b := a0) (As := [.ref a1]) (st := [.ref a1, .ref 142]) (C := RX5) (kc' := 0) (ks' := 0) (tX5_minute hf a0 ha0 a1 ha1 _ h) myX5_minute rfl q1251 q1252 q1253 (j_l2 hf.1 (t_lt hf ha0 (j := 0) (by decide))) (fun s9 H9 hK9 hR9 h69 => jIs_in hK9 hR9 h69 (t_lt hf ha0 (j := 0) (by decide)) (tk_0 hf ha0) rfl) rfl (Nat.le_of_ble_eq_true rfl) rfl (by decide) (Nat.le_refl 0) (Nat.le_refl 0) dX5_goesBy_37 (fun v9 u9 hq => ?_) (fun k9 u9 hq => by obtain ⟨_, e9, _⟩ := hq; cases e9)
      obtain ⟨r9, e9, rfl, h⟩ := hq
      obtain rfl := Sum.inl.inj e9
      show J Γ RX5 cX5_goesBy 4 none "goesBy" [] 507 0 0 40 [(0, .ref a0), (1, .ref a1), (2, .ref 142), (3, .int l3)] [.int r9, .ref a1, .ref 142] (n, K, A, Lg, G) P
      refine j_callV (b := a1) (As := [.int r9]) (st := [.ref 142]) (C := RX4) (kc' := 0) (ks' := 0) (tX4_isHour hf a1 ha1 r9 _ h) myX4_isHour rfl q1337 q1338 q1339 (j_l2 hf.1 (x_lt ha1 (j := 0) (by decide))) (fun s9 H9 hK9 hR9 h69 => jIs_in hK9 hR9 h69 (x_lt ha1 (j := 0) (by decide)) (xk_0 ha1) rfl) rfl (Nat.le_of_ble_eq_true rfl) rfl (by decide) (Nat.le_refl 0) (Nat.le_refl 0) dX5_goesBy_40 (fun v9 u9 hq => ?_) (fun k9 u9 hq => by obtain ⟨_, e9, _⟩ := hq; cases e9)
      obtain ⟨r10, e9, rfl, h⟩ := hq
      obtain rfl := Sum.inl.inj e9
      show J Γ RX5 cX5_goesBy 4 none "goesBy" [] 507 0 0 43 [(0, .ref a0), (1, .ref a1), (2, .ref 142), (3, .int l3)] [.int r10, .ref 142] (n, K, A, Lg, G) P
      refine j_if_eq (tgt := 50) dX5_goesBy_43 (by decide) (fun c => ?_) (fun c => ?_)
      · rw [if_pos c] at h
        refine j_iconst (v := 0) dX5_goesBy_50 (by decide) ?_
        refine j_ls [0, 1] rfl ?_
        exact fX5_goesBy_J51_ok hf a0 ha0 a1 ha1 Q P hP   0 A h
      · rw [if_neg c] at h
        refine j_iconst (v := 1) dX5_goesBy_46 (by decide) ?_
        refine j_goto (tgt := 51) dX5_goesBy_47 (by decide) ?_
        refine j_ls [0, 1] rfl ?_
        exact fX5_goesBy_J51_ok hf a0 ha0 a1 ha1 Q P hP   1 A h
    · rw [if_neg c] at h
      refine j_aload_n 0 rfl dX5_goesBy_13 ?_
      refine j_iload_n 3 rfl dX5_goesBy_14 ?_
      refine j_callV (b := a0) (As := [.int l3]) (st := []) (C := RX5) (kc' := 0) (ks' := 0) (tX5_isFetched hf a0 ha0 l3 _ h) myX5_isFetched rfl q1328 q1230 q1231 (j_l2 hf.1 (t_lt hf ha0 (j := 0) (by decide))) (fun s9 H9 hK9 hR9 h69 => jIs_in hK9 hR9 h69 (t_lt hf ha0 (j := 0) (by decide)) (tk_0 hf ha0) rfl) rfl (Nat.le_of_ble_eq_true rfl) rfl (by decide) (Nat.le_refl 0) (Nat.le_refl 0) dX5_goesBy_15 (fun v9 u9 hq => ?_) (fun k9 u9 hq => by obtain ⟨_, e9, _⟩ := hq; cases e9)
      obtain ⟨r11, e9, rfl, h⟩ := hq
      obtain rfl := Sum.inl.inj e9
      show J Γ RX5 cX5_goesBy 4 none "goesBy" [] 507 0 0 18 [(0, .ref a0), (1, .ref a1), (2, .ref 142), (3, .int l3)] [.int r11] (n, K, A, Lg, G) P
      refine j_if_ne (tgt := 27) dX5_goesBy_18 (by decide) (fun c => ?_) (fun c => ?_)
      · rw [if_neg c] at h
        exact fX5_goesBy_J27_ok hf a0 ha0 a1 ha1 Q P hP (fun x0 x1 => fX5_goesBy_L2 a0 a1 n K G  Q n9 x0 x1) (fun x0 x1 h9 => ih x0 x1 h9) l3 A h
      · rw [if_pos c] at h
        refine j_aload_n 0 rfl dX5_goesBy_21 ?_
        refine j_aload_n 1 rfl dX5_goesBy_22 ?_
        refine j_iload_n 3 rfl dX5_goesBy_23 ?_
        refine j_callV (b := a0) (As := [.ref a1, .int l3]) (st := []) (C := RX5) (kc' := 0) (ks' := 0) (tX5_walks hf a0 ha0 a1 ha1 l3 _ h) myX5_walks rfl q1329 q1331 qs44 (j_l2 hf.1 (t_lt hf ha0 (j := 0) (by decide))) (fun s9 H9 hK9 hR9 h69 => jIs_in hK9 hR9 h69 (t_lt hf ha0 (j := 0) (by decide)) (tk_0 hf ha0) rfl) rfl (Nat.le_of_ble_eq_true rfl) rfl (by decide) (Nat.le_refl 0) (Nat.le_refl 0) dX5_goesBy_24 (fun v9 u9 hq => ?_) (fun k9 u9 hq => by obtain ⟨_, e9, _⟩ := hq; cases e9)
        obtain ⟨A12, e9, rfl, h⟩ := hq
        obtain rfl := Sum.inl.inj e9
        show J Γ RX5 cX5_goesBy 4 none "goesBy" [] 507 0 0 27 [(0, .ref a0), (1, .ref a1), (2, .ref 142), (3, .int l3)] [] (n, K, A12, Lg, G) P
        exact fX5_goesBy_J27_ok hf a0 ha0 a1 ha1 Q P hP (fun x0 x1 => fX5_goesBy_L2 a0 a1 n K G  Q n9 x0 x1) (fun x0 x1 h9 => ih x0 x1 h9) l3 A12 h
def fX5_goesBy (a0 : Nat) (a1 : Nat) (n : Nat) (K : Nat → pKd) (A : pA) (G : pG) (Q : pA → Prop) : Prop :=
    ∃ m13, fX5_goesBy_L2 a0 a1 n K G  Q m13 0 A
theorem tX5_goesBy {Γ : jG} {n : Nat} {K : Nat → pKd} {G : pG} {A : pA} {Lg : pL} (hf : fOK n K G) (a0 : Nat) (ha0 : isT a0) (a1 : Nat) (ha1 : xOK n K G a1)  (Q : pA → Prop) (h : fX5_goesBy a0 a1 n K A G Q) : jMet Γ yX5_goesBy cX5_goesBy 4 none [] 507 0 0 [.ref a0, .ref a1, .ref 142] (n, K, A, Lg, G) (fun o u => ∃ (A' : pA), o = .inl none ∧ u = (n, K, A', Lg, G) ∧ Q A') := by
  unfold fX5_goesBy at h
  obtain ⟨P, hP⟩ : ∃ P : jO → pS → Prop, P = (fun o u => ∃ (A' : pA), o = .inl none ∧ u = (n, K, A', Lg, G) ∧ Q A') := ⟨_, rfl⟩
  rw [← hP]
  refine jMet_of rfl rfl rfl (Nat.le_of_ble_eq_true rfl) ?_
  show J Γ RX5 cX5_goesBy 4 none "goesBy" [] 507 0 0 0 [(0, .ref a0), (1, .ref a1), (2, .ref 142)] [] (n, K, A, Lg, G) P
  refine j_iconst (v := 0) dX5_goesBy_0 (by decide) ?_
  refine j_istore_n (by decide) rfl dX5_goesBy_1 ?_
  refine j_ls [1, 2, 3, 0] rfl ?_
  obtain ⟨m13, h⟩ := h
  exact fX5_goesBy_L2_ok hf a0 ha0 a1 ha1 Q P hP   m13 0 A h
theorem myX0_mind : jY yX0_mind cX0_mind 4 (some .int) 3 := ⟨q1240, q121, by decide +kernel, by decide +kernel, by decide⟩
def fX0_mind_J16 (tx : Nat) (n : Nat) (K : Nat → pKd) (G : pG)  (Q : Int32 → pA → Prop) (A : pA) : Prop :=
    Q (-100000) A
theorem fX0_mind_J16_ok {Γ : jG} {n : Nat} {K : Nat → pKd} {G : pG} {Lg : pL} (hf : fOK n K G) (tx : Nat) (ht : G 0 3 = .ref tx) (hx : xOK n K G tx) (Q : Int32 → pA → Prop) (P : jO → pS → Prop) (hP : P = (fun o u => ∃ (r : Int32) (A' : pA), o = .inl (some (.int r)) ∧ u = (n, K, A', Lg, G) ∧ Q r A'))   (A : pA) (h : fX0_mind_J16 tx n K G  Q A) : J Γ RX0 cX0_mind 4 (some .int) "mind" [] 504 0 0 16 [] [] (n, K, A, Lg, G) P := by
  unfold fX0_mind_J16 at h
  refine j_ldc (v := (-100000)) q1241 dX0_mind_16 ?_
  refine j_iret rfl ?_ dX0_mind_18
  rw [hP]
  exact ⟨(-100000), A, rfl, rfl, h⟩
def fX0_mind (tx : Nat) (n : Nat) (K : Nat → pKd) (A : pA) (G : pG) (p1 : Int32) (p2 : Int32) (p3 : Int32) (Q : Int32 → pA → Prop) : Prop :=
    fX0_isDog tx A p1 (fun r1 => (if r1 = 0 then fX0_mind_J16 tx n K G  Q A else fX0_isPerson tx A p2 (fun r2 => (if r2 = 0 then fX0_mind_J16 tx n K G  Q A else (if p3 = 0 then (vp_in p1 5) ∧ ((vp_in p2 4) ∧ (Q (A (25 + 9 + (p1).toNatClampNeg) (p2).toNatClampNeg) A)) else (if p3 = 1 then (vp_in p1 5) ∧ ((vp_in p2 4) ∧ (Q (A (25 + 15 + (p1).toNatClampNeg) (p2).toNatClampNeg) A)) else (if p3 = 2 then fX5_wants 25 tx n K A G p1 p2 (fun r10 A11 => Q r10 A11) else (if p3 = 3 then fX5_takesOf 25 tx n K A G p1 p2 (fun r13 A14 => Q r13 A14) else (if p3 = 4 then fX5_fades 25 tx n K A G p1 p2 (fun r16 A17 => Q r16 A17) else (Q (-100000) A))))))))))
theorem tX0_mind {Γ : jG} {n : Nat} {K : Nat → pKd} {G : pG} {A : pA} {Lg : pL} (hf : fOK n K G) (tx : Nat) (ht : G 0 3 = .ref tx) (hx : xOK n K G tx) (p1 : Int32) (p2 : Int32) (p3 : Int32) (Q : Int32 → pA → Prop) (h : fX0_mind tx n K A G p1 p2 p3 Q) : jMet Γ yX0_mind cX0_mind 4 (some .int) [] 504 0 0 [.ref 0, .int p1, .int p2, .int p3] (n, K, A, Lg, G) (fun o u => ∃ (r : Int32) (A' : pA), o = .inl (some (.int r)) ∧ u = (n, K, A', Lg, G) ∧ Q r A') := by
  unfold fX0_mind at h
  obtain ⟨P, hP⟩ : ∃ P : jO → pS → Prop, P = (fun o u => ∃ (r : Int32) (A' : pA), o = .inl (some (.int r)) ∧ u = (n, K, A', Lg, G) ∧ Q r A') := ⟨_, rfl⟩
  rw [← hP]
  refine jMet_of rfl rfl rfl (Nat.le_of_ble_eq_true rfl) ?_
  show J Γ RX0 cX0_mind 4 (some .int) "mind" [] 504 0 0 0 [(0, .ref 0), (1, .int p1), (2, .int p2), (3, .int p3)] [] (n, K, A, Lg, G) P
  refine j_aload_n 0 rfl dX0_mind_0 ?_
  refine j_iload_n 1 rfl dX0_mind_1 ?_
  refine j_callV (b := 0) (As := [.int p1]) (st := []) (C := RX0) (kc' := 0) (ks' := 0) (tX0_isDog hf tx ht hx p1 _ h) myX0_isDog rfl q1215 q1217 qs37 (by decide) (fun s9 H9 hK9 hR9 h69 => jIs_in hK9 hR9 h69 (f_lt hf (by decide)) (fk_0 hf) rfl) rfl (Nat.le_of_ble_eq_true rfl) rfl (by decide) (Nat.le_refl 0) (Nat.le_refl 0) dX0_mind_2 (fun v9 u9 hq => ?_) (fun k9 u9 hq => by obtain ⟨_, e9, _⟩ := hq; cases e9)
  obtain ⟨r1, e9, rfl, h⟩ := hq
  obtain rfl := Sum.inl.inj e9
  show J Γ RX0 cX0_mind 4 (some .int) "mind" [] 504 0 0 5 [(0, .ref 0), (1, .int p1), (2, .int p2), (3, .int p3)] [.int r1] (n, K, A, Lg, G) P
  refine j_if_eq (tgt := 16) dX0_mind_5 (by decide) (fun c => ?_) (fun c => ?_)
  · rw [if_pos c] at h
    refine j_ls [] rfl ?_
    exact fX0_mind_J16_ok hf tx ht hx Q P hP   A h
  · rw [if_neg c] at h
    refine j_aload_n 0 rfl dX0_mind_8 ?_
    refine j_iload_n 2 rfl dX0_mind_9 ?_
    refine j_callV (b := 0) (As := [.int p2]) (st := []) (C := RX0) (kc' := 0) (ks' := 0) (tX0_isPerson hf tx ht hx p2 _ h) myX0_isPerson rfl q1224 q1226 qs38 (by decide) (fun s9 H9 hK9 hR9 h69 => jIs_in hK9 hR9 h69 (f_lt hf (by decide)) (fk_0 hf) rfl) rfl (Nat.le_of_ble_eq_true rfl) rfl (by decide) (Nat.le_refl 0) (Nat.le_refl 0) dX0_mind_10 (fun v9 u9 hq => ?_) (fun k9 u9 hq => by obtain ⟨_, e9, _⟩ := hq; cases e9)
    obtain ⟨r2, e9, rfl, h⟩ := hq
    obtain rfl := Sum.inl.inj e9
    show J Γ RX0 cX0_mind 4 (some .int) "mind" [] 504 0 0 13 [(0, .ref 0), (1, .int p1), (2, .int p2), (3, .int p3)] [.int r2] (n, K, A, Lg, G) P
    refine j_if_ne (tgt := 19) dX0_mind_13 (by decide) (fun c => ?_) (fun c => ?_)
    · rw [if_neg c] at h
      refine j_iload_n 3 rfl dX0_mind_19 ?_
      by_cases c3 : p3 = 0
      · rw [if_pos c3] at h
        have c3T : (p3 : Int32).toInt = 0 := by rw [c3]; rfl
        refine j_tableIn (off := 36) (tgt := 56) (by rw [c3T]; decide) (by rw [c3T]; decide) (by rw [c3T]; rfl) dX0_mind_20 (by decide) ?_
        refine j_aload_n 0 rfl dX0_mind_56 ?_
        refine j_getfr fl_X0_55_0 rfl (f_lt hf (by decide)) (fk_0 hf) (fg_0_7 hf) dX0_mind_57 ?_
        refine j_getfr fl_X0_235_5 rfl (t_lt hf isT_town (j := 0) (by decide)) (tk_0 hf isT_town) (tg_0_7 hf isT_town) dX0_mind_60 ?_
        refine j_iload_n 1 rfl dX0_mind_63 ?_
        obtain ⟨b4, h⟩ := h
        refine j_aaldJ (t := 11) (j := (p1).toNatClampNeg) rfl rfl rfl (t_lt hf isT_town (j := 8) (by decide)) (tk_8 hf isT_town) b4 rfl (t_row8 hf isT_town (j_ix b4)).1 dX0_mind_64 ?_
        refine j_iload_n 2 rfl dX0_mind_65 ?_
        obtain ⟨b5, h⟩ := h
        refine j_ialdJ (j := (p2).toNatClampNeg) (t_rowlt8 hf isT_town (j_ix b4)) (t_row8 hf isT_town (j_ix b4)).2 b5 rfl dX0_mind_66 ?_
        refine j_iret rfl ?_ dX0_mind_67
        rw [hP]
        exact ⟨A (25 + 9 + (p1).toNatClampNeg) (p2).toNatClampNeg, A, rfl, rfl, h⟩
      rw [if_neg c3] at h
      by_cases c6 : p3 = 1
      · rw [if_pos c6] at h
        have c6T : (p3 : Int32).toInt = 1 := by rw [c6]; rfl
        refine j_tableIn (off := 48) (tgt := 68) (by rw [c6T]; decide) (by rw [c6T]; decide) (by rw [c6T]; rfl) dX0_mind_20 (by decide) ?_
        refine j_aload_n 0 rfl dX0_mind_68 ?_
        refine j_getfr fl_X0_55_0 rfl (f_lt hf (by decide)) (fk_0 hf) (fg_0_7 hf) dX0_mind_69 ?_
        refine j_getfr fl_X0_238_5 rfl (t_lt hf isT_town (j := 0) (by decide)) (tk_0 hf isT_town) (tg_0_8 hf isT_town) dX0_mind_72 ?_
        refine j_iload_n 1 rfl dX0_mind_75 ?_
        obtain ⟨b7, h⟩ := h
        refine j_aaldJ (t := 11) (j := (p1).toNatClampNeg) rfl rfl rfl (t_lt hf isT_town (j := 14) (by decide)) (tk_14 hf isT_town) b7 rfl (t_row14 hf isT_town (j_ix b7)).1 dX0_mind_76 ?_
        refine j_iload_n 2 rfl dX0_mind_77 ?_
        obtain ⟨b8, h⟩ := h
        refine j_ialdJ (j := (p2).toNatClampNeg) (t_rowlt14 hf isT_town (j_ix b7)) (t_row14 hf isT_town (j_ix b7)).2 b8 rfl dX0_mind_78 ?_
        refine j_iret rfl ?_ dX0_mind_79
        rw [hP]
        exact ⟨A (25 + 15 + (p1).toNatClampNeg) (p2).toNatClampNeg, A, rfl, rfl, h⟩
      rw [if_neg c6] at h
      by_cases c9 : p3 = 2
      · rw [if_pos c9] at h
        have c9T : (p3 : Int32).toInt = 2 := by rw [c9]; rfl
        refine j_tableIn (off := 60) (tgt := 80) (by rw [c9T]; decide) (by rw [c9T]; decide) (by rw [c9T]; rfl) dX0_mind_20 (by decide) ?_
        refine j_aload_n 0 rfl dX0_mind_80 ?_
        refine j_getfr fl_X0_55_0 rfl (f_lt hf (by decide)) (fk_0 hf) (fg_0_7 hf) dX0_mind_81 ?_
        refine j_aload_n 0 rfl dX0_mind_84 ?_
        refine j_getfr fl_X0_44_0 rfl (f_lt hf (by decide)) (fk_0 hf) ht dX0_mind_85 ?_
        refine j_iload_n 1 rfl dX0_mind_88 ?_
        refine j_iload_n 2 rfl dX0_mind_89 ?_
        refine j_callV (b := 25) (As := [.ref tx, .int p1, .int p2]) (st := []) (C := RX5) (kc' := 0) (ks' := 0) (tX5_wants hf 25 isT_town tx hx p1 p2 _ h) myX5_wants rfl q1242 q1243 q1244 (j_l2 hf.1 (t_lt hf isT_town (j := 0) (by decide))) (fun s9 H9 hK9 hR9 h69 => jIs_in hK9 hR9 h69 (t_lt hf isT_town (j := 0) (by decide)) (tk_0 hf isT_town) rfl) rfl (Nat.le_of_ble_eq_true rfl) rfl (by decide) (Nat.le_refl 0) (Nat.le_refl 0) dX0_mind_90 (fun v9 u9 hq => ?_) (fun k9 u9 hq => by obtain ⟨_, _, e9, _⟩ := hq; cases e9)
        obtain ⟨r10, A11, e9, rfl, h⟩ := hq
        obtain rfl := Sum.inl.inj e9
        show J Γ RX0 cX0_mind 4 (some .int) "mind" [] 504 0 0 93 [(0, .ref 0), (1, .int p1), (2, .int p2), (3, .int p3)] [.int r10] (n, K, A11, Lg, G) P
        refine j_iret rfl ?_ dX0_mind_93
        rw [hP]
        exact ⟨r10, A11, rfl, rfl, h⟩
      rw [if_neg c9] at h
      by_cases c12 : p3 = 3
      · rw [if_pos c12] at h
        have c12T : (p3 : Int32).toInt = 3 := by rw [c12]; rfl
        refine j_tableIn (off := 74) (tgt := 94) (by rw [c12T]; decide) (by rw [c12T]; decide) (by rw [c12T]; rfl) dX0_mind_20 (by decide) ?_
        refine j_aload_n 0 rfl dX0_mind_94 ?_
        refine j_getfr fl_X0_55_0 rfl (f_lt hf (by decide)) (fk_0 hf) (fg_0_7 hf) dX0_mind_95 ?_
        refine j_aload_n 0 rfl dX0_mind_98 ?_
        refine j_getfr fl_X0_44_0 rfl (f_lt hf (by decide)) (fk_0 hf) ht dX0_mind_99 ?_
        refine j_iload_n 1 rfl dX0_mind_102 ?_
        refine j_iload_n 2 rfl dX0_mind_103 ?_
        refine j_callV (b := 25) (As := [.ref tx, .int p1, .int p2]) (st := []) (C := RX5) (kc' := 0) (ks' := 0) (tX5_takesOf hf 25 isT_town tx hx p1 p2 _ h) myX5_takesOf rfl q1272 q1273 q1274 (j_l2 hf.1 (t_lt hf isT_town (j := 0) (by decide))) (fun s9 H9 hK9 hR9 h69 => jIs_in hK9 hR9 h69 (t_lt hf isT_town (j := 0) (by decide)) (tk_0 hf isT_town) rfl) rfl (Nat.le_of_ble_eq_true rfl) rfl (by decide) (Nat.le_refl 0) (Nat.le_refl 0) dX0_mind_104 (fun v9 u9 hq => ?_) (fun k9 u9 hq => by obtain ⟨_, _, e9, _⟩ := hq; cases e9)
        obtain ⟨r13, A14, e9, rfl, h⟩ := hq
        obtain rfl := Sum.inl.inj e9
        show J Γ RX0 cX0_mind 4 (some .int) "mind" [] 504 0 0 107 [(0, .ref 0), (1, .int p1), (2, .int p2), (3, .int p3)] [.int r13] (n, K, A14, Lg, G) P
        refine j_iret rfl ?_ dX0_mind_107
        rw [hP]
        exact ⟨r13, A14, rfl, rfl, h⟩
      rw [if_neg c12] at h
      by_cases c15 : p3 = 4
      · rw [if_pos c15] at h
        have c15T : (p3 : Int32).toInt = 4 := by rw [c15]; rfl
        refine j_tableIn (off := 88) (tgt := 108) (by rw [c15T]; decide) (by rw [c15T]; decide) (by rw [c15T]; rfl) dX0_mind_20 (by decide) ?_
        refine j_aload_n 0 rfl dX0_mind_108 ?_
        refine j_getfr fl_X0_55_0 rfl (f_lt hf (by decide)) (fk_0 hf) (fg_0_7 hf) dX0_mind_109 ?_
        refine j_aload_n 0 rfl dX0_mind_112 ?_
        refine j_getfr fl_X0_44_0 rfl (f_lt hf (by decide)) (fk_0 hf) ht dX0_mind_113 ?_
        refine j_iload_n 1 rfl dX0_mind_116 ?_
        refine j_iload_n 2 rfl dX0_mind_117 ?_
        refine j_callV (b := 25) (As := [.ref tx, .int p1, .int p2]) (st := []) (C := RX5) (kc' := 0) (ks' := 0) (tX5_fades hf 25 isT_town tx hx p1 p2 _ h) myX5_fades rfl q1281 q1282 q1283 (j_l2 hf.1 (t_lt hf isT_town (j := 0) (by decide))) (fun s9 H9 hK9 hR9 h69 => jIs_in hK9 hR9 h69 (t_lt hf isT_town (j := 0) (by decide)) (tk_0 hf isT_town) rfl) rfl (Nat.le_of_ble_eq_true rfl) rfl (by decide) (Nat.le_refl 0) (Nat.le_refl 0) dX0_mind_118 (fun v9 u9 hq => ?_) (fun k9 u9 hq => by obtain ⟨_, _, e9, _⟩ := hq; cases e9)
        obtain ⟨r16, A17, e9, rfl, h⟩ := hq
        obtain rfl := Sum.inl.inj e9
        show J Γ RX0 cX0_mind 4 (some .int) "mind" [] 504 0 0 121 [(0, .ref 0), (1, .int p1), (2, .int p2), (3, .int p3)] [.int r16] (n, K, A17, Lg, G) P
        refine j_iret rfl ?_ dX0_mind_121
        rw [hP]
        exact ⟨r16, A17, rfl, rfl, h⟩
      rw [if_neg c15] at h
      refine j_tableOut (tgt := 122) (by have c3T := lv_neT c3 (a := 0) rfl; have c6T := lv_neT c6 (a := 1) rfl; have c9T := lv_neT c9 (a := 2) rfl; have c12T := lv_neT c12 (a := 3) rfl; have c15T := lv_neT c15 (a := 4) rfl; omega) dX0_mind_20 (by decide) ?_
      refine j_ldc (v := (-100000)) q1241 dX0_mind_122 ?_
      refine j_iret rfl ?_ dX0_mind_124
      rw [hP]
      exact ⟨(-100000), A, rfl, rfl, h⟩
    · rw [if_pos c] at h
      refine j_ls [] rfl ?_
      exact fX0_mind_J16_ok hf tx ht hx Q P hP   A h
theorem myX0_keeps : jY yX0_keeps cX0_keeps 1 none 0 := ⟨q1292, q121, by decide +kernel, by decide +kernel, by decide⟩
def fX0_keeps (tx : Nat) (A : pA) (Q : pA → Prop) : Prop :=
    (vp_in (A 0 6) 40) ∧ (fX5_takes (278 + 23 * (A 0 6).toNatClampNeg) 25 A (fun A2 => ∀ A3 : pA, A3 = pup A2 0 6 (((A2 0 6) + 1) - ((A2 0 6) + 1) / 40 * 40) → ∀ A4 : pA, A4 = pup A3 0 5 (pmin 40 ((A3 0 5) + 1)) → Q A4))
theorem tX0_keeps {Γ : jG} {n : Nat} {K : Nat → pKd} {G : pG} {A : pA} {Lg : pL} (hf : fOK n K G) (tx : Nat) (ht : G 0 3 = .ref tx) (hx : xOK n K G tx)  (Q : pA → Prop) (h : fX0_keeps tx A Q) : jMet Γ yX0_keeps cX0_keeps 1 none [] 3 0 0 [.ref 0] (n, K, A, Lg, G) (fun o u => ∃ (A' : pA), o = .inl none ∧ u = (n, K, A', Lg, G) ∧ Q A') := by
  unfold fX0_keeps at h
  obtain ⟨P, hP⟩ : ∃ P : jO → pS → Prop, P = (fun o u => ∃ (A' : pA), o = .inl none ∧ u = (n, K, A', Lg, G) ∧ Q A') := ⟨_, rfl⟩
  rw [← hP]
  refine jMet_of rfl rfl rfl (Nat.le_of_ble_eq_true rfl) ?_
  show J Γ RX0 cX0_keeps 1 none "keeps" [] 3 0 0 0 [(0, .ref 0)] [] (n, K, A, Lg, G) P
  refine j_aload_n 0 rfl dX0_keeps_0 ?_
  refine j_getfr fl_X0_62_0 rfl (f_lt hf (by decide)) (fk_0 hf) (fg_0_9 hf) dX0_keeps_1 ?_
  refine j_aload_n 0 rfl dX0_keeps_4 ?_
  refine j_getfi fl_X0_251_0 rfl (f_lt hf (by decide)) (fk_0 hf) dX0_keeps_5 ?_
  obtain ⟨b1, h⟩ := h
  refine j_aaldJ (t := 9) (j := (A 0 6).toNatClampNeg) rfl rfl rfl (f_lt hf (by decide)) (fk_71 hf) b1 rfl (past_row hf (j_ix b1)) dX0_keeps_8 ?_
  refine j_aload_n 0 rfl dX0_keeps_9 ?_
  refine j_getfr fl_X0_55_0 rfl (f_lt hf (by decide)) (fk_0 hf) (fg_0_7 hf) dX0_keeps_10 ?_
  refine j_callV (b := (278 + 23 * (A 0 6).toNatClampNeg)) (As := [.ref 25]) (st := []) (C := RX5) (kc' := 0) (ks' := 0) (tX5_takes hf (278 + 23 * (A 0 6).toNatClampNeg) (isT_past (j_ix b1)) 25 isT_town _ h) myX5_takes rfl q1293 q1294 q1295 (j_l2 hf.1 (t_lt hf (isT_past (j_ix b1)) (j := 0) (by decide))) (fun s9 H9 hK9 hR9 h69 => jIs_in hK9 hR9 h69 (t_lt hf (isT_past (j_ix b1)) (j := 0) (by decide)) (tk_0 hf (isT_past (j_ix b1))) rfl) rfl (Nat.le_of_ble_eq_true rfl) rfl (by decide) (Nat.le_refl 0) (Nat.le_refl 0) dX0_keeps_13 (fun v9 u9 hq => ?_) (fun k9 u9 hq => by obtain ⟨_, e9, _⟩ := hq; cases e9)
  obtain ⟨A2, e9, rfl, h⟩ := hq
  obtain rfl := Sum.inl.inj e9
  show J Γ RX0 cX0_keeps 1 none "keeps" [] 3 0 0 16 [(0, .ref 0)] [] (n, K, A2, Lg, G) P
  refine j_aload_n 0 rfl dX0_keeps_16 ?_
  refine j_aload_n 0 rfl dX0_keeps_17 ?_
  refine j_getfi fl_X0_251_0 rfl (f_lt hf (by decide)) (fk_0 hf) dX0_keeps_18 ?_
  refine j_iconst (v := 1) dX0_keeps_21 (by decide) ?_
  refine j_iadd dX0_keeps_22 ?_
  refine j_bipush (v := 40) dX0_keeps_23 (by decide) ?_
  refine j_irem (by decide) dX0_keeps_25 ?_
  refine j_putfiE (fp_X0_251_0 _) rfl rfl rfl (f_lt hf (by decide)) (fk_0 hf) dX0_keeps_26 (fun A3 eA3 => ?_)
  replace h := h A3 eA3
  refine j_aload_n 0 rfl dX0_keeps_29 ?_
  refine j_bipush (v := 40) dX0_keeps_30 (by decide) ?_
  refine j_aload_n 0 rfl dX0_keeps_32 ?_
  refine j_getfi fl_X0_119_0 rfl (f_lt hf (by decide)) (fk_0 hf) dX0_keeps_33 ?_
  refine j_iconst (v := 1) dX0_keeps_36 (by decide) ?_
  refine j_iadd dX0_keeps_37 ?_
  refine j_mmin q1279 q917 q153 q918 (Nat.le_of_ble_eq_true rfl) (by decide) dX0_keeps_38 ?_
  refine j_putfiE (fp_X0_119_0 _) rfl rfl rfl (f_lt hf (by decide)) (fk_0 hf) dX0_keeps_41 (fun A4 eA4 => ?_)
  replace h := h A4 eA4
  refine j_vret rfl ?_ dX0_keeps_44
  rw [hP]
  exact ⟨A4, rfl, rfl, h⟩
theorem myX0_go : jY yX0_go cX0_go 4 (some .boolean) 2 := ⟨q1288, q121, by decide +kernel, by decide +kernel, by decide⟩
def fX0_go_J45 (tx : Nat)  (Q : Int32 → pA → Prop) (l1 : Int32) (s0 : Int32) (A : pA) : Prop :=
    (vp_in l1 4) ∧ ((if (A (25 + 5) (l1).toNatClampNeg) = s0 then Q 0 A else fX0_keeps tx A (fun A2 => (vp_in l1 4) ∧ (∀ A4 : pA, A4 = pup A2 (25 + 5) (l1).toNatClampNeg s0 → Q 1 A4))))
theorem fX0_go_J45_ok {Γ : jG} {n : Nat} {K : Nat → pKd} {G : pG} {Lg : pL} (hf : fOK n K G) (tx : Nat) (ht : G 0 3 = .ref tx) (hx : xOK n K G tx) (Q : Int32 → pA → Prop) (P : jO → pS → Prop) (hP : P = (fun o u => ∃ (r : Int32) (A' : pA), o = .inl (some (.int r)) ∧ u = (n, K, A', Lg, G) ∧ Q r A'))   (l1 : Int32) (s0 : Int32) (A : pA) (h : fX0_go_J45 tx  Q l1 s0 A) : J Γ RX0 cX0_go 4 (some .boolean) "go" [] 4 0 0 45 [(0, .ref 0), (1, .int l1)] [.int s0] (n, K, A, Lg, G) P := by
  unfold fX0_go_J45 at h
  refine j_istore_n (by decide) rfl dX0_go_45 ?_
  refine j_aload_n 1 rfl dX0_go_46 ?_
  refine j_getfr fl_X0_55_0 rfl (f_lt hf (by decide)) (fk_0 hf) (fg_0_7 hf) dX0_go_47 ?_
  refine j_getfr fl_X0_221_5 rfl (t_lt hf isT_town (j := 0) (by decide)) (tk_0 hf isT_town) (tg_0_4 hf isT_town) dX0_go_50 ?_
  refine j_iload_n 2 rfl dX0_go_53 ?_
  obtain ⟨b1, h⟩ := h
  refine j_ialdJ (j := (l1).toNatClampNeg) (t_lt hf isT_town (j := 5) (by decide)) (tk_5 hf isT_town) b1 rfl dX0_go_54 ?_
  refine j_iload_n 0 rfl dX0_go_55 ?_
  refine j_icmp_ne (tgt := 61) dX0_go_56 (by decide) (fun c => ?_) (fun c => ?_)
  · rw [if_neg c] at h
    refine j_aload_n 1 rfl dX0_go_61 ?_
    refine j_callV (b := 0) (As := []) (st := []) (C := RX0) (kc' := 0) (ks' := 0) (tX0_keeps hf tx ht hx _ h) myX0_keeps rfl q1289 q1291 qs41 (by decide) (fun s9 H9 hK9 hR9 h69 => jIs_in hK9 hR9 h69 (f_lt hf (by decide)) (fk_0 hf) rfl) rfl (Nat.le_of_ble_eq_true rfl) rfl (by decide) (Nat.le_refl 0) (Nat.le_refl 0) dX0_go_62 (fun v9 u9 hq => ?_) (fun k9 u9 hq => by obtain ⟨_, e9, _⟩ := hq; cases e9)
    obtain ⟨A2, e9, rfl, h⟩ := hq
    obtain rfl := Sum.inl.inj e9
    show J Γ RX0 cX0_go 4 (some .boolean) "go" [] 4 0 0 65 [(3, .int s0), (0, .ref 0), (1, .int l1)] [] (n, K, A2, Lg, G) P
    refine j_aload_n 1 rfl dX0_go_65 ?_
    refine j_getfr fl_X0_55_0 rfl (f_lt hf (by decide)) (fk_0 hf) (fg_0_7 hf) dX0_go_66 ?_
    refine j_getfr fl_X0_221_5 rfl (t_lt hf isT_town (j := 0) (by decide)) (tk_0 hf isT_town) (tg_0_4 hf isT_town) dX0_go_69 ?_
    refine j_iload_n 2 rfl dX0_go_72 ?_
    refine j_iload_n 0 rfl dX0_go_73 ?_
    obtain ⟨b3, h⟩ := h
    refine j_iastJ (j := (l1).toNatClampNeg) (t_lt hf isT_town (j := 5) (by decide)) (tk_5 hf isT_town) b3 rfl dX0_go_74 (fun A4 eA4 => ?_)
    replace h := h A4 eA4
    refine j_iconst (v := 1) dX0_go_75 (by decide) ?_
    refine j_zret rfl (by decide) ?_ dX0_go_76
    rw [hP]
    exact ⟨1, A4, rfl, rfl, h⟩
  · rw [if_pos c] at h
    refine j_iconst (v := 0) dX0_go_59 (by decide) ?_
    refine j_zret rfl (by decide) ?_ dX0_go_60
    rw [hP]
    exact ⟨0, A, rfl, rfl, h⟩
def fX0_go_J21 (tx : Nat)  (Q : Int32 → pA → Prop) (l1 : Int32) (l2 : Int32) (A : pA) : Prop :=
    fX5_isFetched 25 A l1 (fun r5 => (if r5 = 0 then (if l2 = (-1) then fX0_go_J45 tx  Q l1 (-2) A else fX0_go_J45 tx  Q l1 l2 A) else Q 0 A))
theorem fX0_go_J21_ok {Γ : jG} {n : Nat} {K : Nat → pKd} {G : pG} {Lg : pL} (hf : fOK n K G) (tx : Nat) (ht : G 0 3 = .ref tx) (hx : xOK n K G tx) (Q : Int32 → pA → Prop) (P : jO → pS → Prop) (hP : P = (fun o u => ∃ (r : Int32) (A' : pA), o = .inl (some (.int r)) ∧ u = (n, K, A', Lg, G) ∧ Q r A'))   (l1 : Int32) (l2 : Int32) (A : pA) (h : fX0_go_J21 tx  Q l1 l2 A) : J Γ RX0 cX0_go 4 (some .boolean) "go" [] 4 0 0 21 [(0, .ref 0), (1, .int l1), (2, .int l2)] [] (n, K, A, Lg, G) P := by
  unfold fX0_go_J21 at h
  refine j_aload_n 0 rfl dX0_go_21 ?_
  refine j_getfr fl_X0_55_0 rfl (f_lt hf (by decide)) (fk_0 hf) (fg_0_7 hf) dX0_go_22 ?_
  refine j_iload_n 1 rfl dX0_go_25 ?_
  refine j_callV (b := 25) (As := [.int l1]) (st := []) (C := RX5) (kc' := 0) (ks' := 0) (tX5_isFetched hf 25 isT_town l1 _ h) myX5_isFetched rfl q1229 q1230 q1231 (j_l2 hf.1 (t_lt hf isT_town (j := 0) (by decide))) (fun s9 H9 hK9 hR9 h69 => jIs_in hK9 hR9 h69 (t_lt hf isT_town (j := 0) (by decide)) (tk_0 hf isT_town) rfl) rfl (Nat.le_of_ble_eq_true rfl) rfl (by decide) (Nat.le_refl 0) (Nat.le_refl 0) dX0_go_26 (fun v9 u9 hq => ?_) (fun k9 u9 hq => by obtain ⟨_, e9, _⟩ := hq; cases e9)
  obtain ⟨r5, e9, rfl, h⟩ := hq
  obtain rfl := Sum.inl.inj e9
  show J Γ RX0 cX0_go 4 (some .boolean) "go" [] 4 0 0 29 [(0, .ref 0), (1, .int l1), (2, .int l2)] [.int r5] (n, K, A, Lg, G) P
  refine j_if_eq (tgt := 34) dX0_go_29 (by decide) (fun c => ?_) (fun c => ?_)
  · rw [if_pos c] at h
    refine j_iload_n 2 rfl dX0_go_34 ?_
    refine j_iconst (v := (-1)) dX0_go_35 (by decide) ?_
    refine j_icmp_ne (tgt := 44) dX0_go_36 (by decide) (fun c => ?_) (fun c => ?_)
    · rw [if_neg c] at h
      refine j_iload_n 2 rfl dX0_go_44 ?_
      refine j_ls [0, 1] rfl ?_
      exact fX0_go_J45_ok hf tx ht hx Q P hP   l1 l2 A h
    · rw [if_pos c] at h
      refine j_bipush (v := (-2)) dX0_go_39 (by decide) ?_
      refine j_goto (tgt := 45) dX0_go_41 (by decide) ?_
      refine j_ls [0, 1] rfl ?_
      exact fX0_go_J45_ok hf tx ht hx Q P hP   l1 (-2) A h
  · rw [if_neg c] at h
    refine j_iconst (v := 0) dX0_go_32 (by decide) ?_
    refine j_zret rfl (by decide) ?_ dX0_go_33
    rw [hP]
    exact ⟨0, A, rfl, rfl, h⟩
def fX0_go (tx : Nat) (A : pA) (p1 : Int32) (p2 : Int32) (Q : Int32 → pA → Prop) : Prop :=
    fX0_isPerson tx A p1 (fun r6 => (if r6 = 0 then Q 0 A else (if p2 = (-1) then fX0_go_J21 tx  Q p1 p2 A else fX0_isPlace tx A p2 (fun r7 => (if r7 = 0 then Q 0 A else fX0_go_J21 tx  Q p1 p2 A)))))
theorem tX0_go {Γ : jG} {n : Nat} {K : Nat → pKd} {G : pG} {A : pA} {Lg : pL} (hf : fOK n K G) (tx : Nat) (ht : G 0 3 = .ref tx) (hx : xOK n K G tx) (p1 : Int32) (p2 : Int32) (Q : Int32 → pA → Prop) (h : fX0_go tx A p1 p2 Q) : jMet Γ yX0_go cX0_go 4 (some .boolean) [] 4 0 0 [.ref 0, .int p1, .int p2] (n, K, A, Lg, G) (fun o u => ∃ (r : Int32) (A' : pA), o = .inl (some (.int r)) ∧ u = (n, K, A', Lg, G) ∧ Q r A') := by
  unfold fX0_go at h
  obtain ⟨P, hP⟩ : ∃ P : jO → pS → Prop, P = (fun o u => ∃ (r : Int32) (A' : pA), o = .inl (some (.int r)) ∧ u = (n, K, A', Lg, G) ∧ Q r A') := ⟨_, rfl⟩
  rw [← hP]
  refine jMet_of rfl rfl rfl (Nat.le_of_ble_eq_true rfl) ?_
  show J Γ RX0 cX0_go 4 (some .boolean) "go" [] 4 0 0 0 [(0, .ref 0), (1, .int p1), (2, .int p2)] [] (n, K, A, Lg, G) P
  refine j_aload_n 0 rfl dX0_go_0 ?_
  refine j_iload_n 1 rfl dX0_go_1 ?_
  refine j_callV (b := 0) (As := [.int p1]) (st := []) (C := RX0) (kc' := 0) (ks' := 0) (tX0_isPerson hf tx ht hx p1 _ h) myX0_isPerson rfl q1224 q1226 qs38 (by decide) (fun s9 H9 hK9 hR9 h69 => jIs_in hK9 hR9 h69 (f_lt hf (by decide)) (fk_0 hf) rfl) rfl (Nat.le_of_ble_eq_true rfl) rfl (by decide) (Nat.le_refl 0) (Nat.le_refl 0) dX0_go_2 (fun v9 u9 hq => ?_) (fun k9 u9 hq => by obtain ⟨_, e9, _⟩ := hq; cases e9)
  obtain ⟨r6, e9, rfl, h⟩ := hq
  obtain rfl := Sum.inl.inj e9
  show J Γ RX0 cX0_go 4 (some .boolean) "go" [] 4 0 0 5 [(0, .ref 0), (1, .int p1), (2, .int p2)] [.int r6] (n, K, A, Lg, G) P
  refine j_if_eq (tgt := 32) dX0_go_5 (by decide) (fun c => ?_) (fun c => ?_)
  · rw [if_pos c] at h
    refine j_iconst (v := 0) dX0_go_32 (by decide) ?_
    refine j_zret rfl (by decide) ?_ dX0_go_33
    rw [hP]
    exact ⟨0, A, rfl, rfl, h⟩
  · rw [if_neg c] at h
    refine j_iload_n 2 rfl dX0_go_8 ?_
    refine j_iconst (v := (-1)) dX0_go_9 (by decide) ?_
    refine j_icmp_eq (tgt := 21) dX0_go_10 (by decide) (fun c => ?_) (fun c => ?_)
    · rw [if_pos c] at h
      exact fX0_go_J21_ok hf tx ht hx Q P hP   p1 p2 A h
    · rw [if_neg c] at h
      refine j_aload_n 0 rfl dX0_go_13 ?_
      refine j_iload_n 2 rfl dX0_go_14 ?_
      refine j_callV (b := 0) (As := [.int p2]) (st := []) (C := RX0) (kc' := 0) (ks' := 0) (tX0_isPlace hf tx ht hx p2 _ h) myX0_isPlace rfl q1185 q1187 qs32 (by decide) (fun s9 H9 hK9 hR9 h69 => jIs_in hK9 hR9 h69 (f_lt hf (by decide)) (fk_0 hf) rfl) rfl (Nat.le_of_ble_eq_true rfl) rfl (by decide) (Nat.le_refl 0) (Nat.le_refl 0) dX0_go_15 (fun v9 u9 hq => ?_) (fun k9 u9 hq => by obtain ⟨_, e9, _⟩ := hq; cases e9)
      obtain ⟨r7, e9, rfl, h⟩ := hq
      obtain rfl := Sum.inl.inj e9
      show J Γ RX0 cX0_go 4 (some .boolean) "go" [] 4 0 0 18 [(0, .ref 0), (1, .int p1), (2, .int p2)] [.int r7] (n, K, A, Lg, G) P
      refine j_if_eq (tgt := 32) dX0_go_18 (by decide) (fun c => ?_) (fun c => ?_)
      · rw [if_pos c] at h
        refine j_iconst (v := 0) dX0_go_32 (by decide) ?_
        refine j_zret rfl (by decide) ?_ dX0_go_33
        rw [hP]
        exact ⟨0, A, rfl, rfl, h⟩
      · rw [if_neg c] at h
        exact fX0_go_J21_ok hf tx ht hx Q P hP   p1 p2 A h
theorem myX0_give : jY yX0_give cX0_give 4 (some .int) 3 := ⟨q1304, q121, by decide +kernel, by decide +kernel, by decide⟩
def fX0_give (tx : Nat) (A : pA) (p1 : Int32) (p2 : Int32) (p3 : Int32) (Q : Int32 → pA → Prop) : Prop :=
    fX0_isPerson tx A p1 (fun r1 => (if r1 = 0 then Q (-1) A else fX0_isDog tx A p2 (fun r2 => (if r2 = 0 then Q (-1) A else fX0_isIn A p3 1 99 (fun r3 => (if r3 = 0 then Q (-1) A else fX0_areTogether tx A p1 p2 (fun r4 => (if r4 = 0 then Q (-2) A else (vp_in p1 4) ∧ ((if (A (25 + 6) (p1).toNatClampNeg) < p3 then Q (-2) A else (vp_in p2 5) ∧ ((vp_in p1 4) ∧ ((if ((A (25 + 9 + (p2).toNatClampNeg) (p1).toNatClampNeg) + p3) ≤ 999 then fX0_keeps tx A (fun A8 => (vp_in p1 4) ∧ ((vp_in p1 4) ∧ (∀ A11 : pA, A11 = pup A8 (25 + 6) (p1).toNatClampNeg ((A8 (25 + 6) (p1).toNatClampNeg) - p3) → (vp_in p2 5) ∧ ((vp_in p1 4) ∧ ((vp_in p1 4) ∧ (∀ A15 : pA, A15 = pup A11 (25 + 9 + (p2).toNatClampNeg) (p1).toNatClampNeg ((A11 (25 + 9 + (p2).toNatClampNeg) (p1).toNatClampNeg) + p3) → (vp_in p2 5) ∧ ((vp_in p1 4) ∧ (Q (A15 (25 + 9 + (p2).toNatClampNeg) (p1).toNatClampNeg) A15)))))))) else Q (-2) A)))))))))))))
theorem tX0_give {Γ : jG} {n : Nat} {K : Nat → pKd} {G : pG} {A : pA} {Lg : pL} (hf : fOK n K G) (tx : Nat) (ht : G 0 3 = .ref tx) (hx : xOK n K G tx) (p1 : Int32) (p2 : Int32) (p3 : Int32) (Q : Int32 → pA → Prop) (h : fX0_give tx A p1 p2 p3 Q) : jMet Γ yX0_give cX0_give 4 (some .int) [] 4 0 0 [.ref 0, .int p1, .int p2, .int p3] (n, K, A, Lg, G) (fun o u => ∃ (r : Int32) (A' : pA), o = .inl (some (.int r)) ∧ u = (n, K, A', Lg, G) ∧ Q r A') := by
  unfold fX0_give at h
  obtain ⟨P, hP⟩ : ∃ P : jO → pS → Prop, P = (fun o u => ∃ (r : Int32) (A' : pA), o = .inl (some (.int r)) ∧ u = (n, K, A', Lg, G) ∧ Q r A') := ⟨_, rfl⟩
  rw [← hP]
  refine jMet_of rfl rfl rfl (Nat.le_of_ble_eq_true rfl) ?_
  show J Γ RX0 cX0_give 4 (some .int) "give" [] 4 0 0 0 [(0, .ref 0), (1, .int p1), (2, .int p2), (3, .int p3)] [] (n, K, A, Lg, G) P
  refine j_aload_n 0 rfl dX0_give_0 ?_
  refine j_iload_n 1 rfl dX0_give_1 ?_
  refine j_callV (b := 0) (As := [.int p1]) (st := []) (C := RX0) (kc' := 0) (ks' := 0) (tX0_isPerson hf tx ht hx p1 _ h) myX0_isPerson rfl q1224 q1226 qs38 (by decide) (fun s9 H9 hK9 hR9 h69 => jIs_in hK9 hR9 h69 (f_lt hf (by decide)) (fk_0 hf) rfl) rfl (Nat.le_of_ble_eq_true rfl) rfl (by decide) (Nat.le_refl 0) (Nat.le_refl 0) dX0_give_2 (fun v9 u9 hq => ?_) (fun k9 u9 hq => by obtain ⟨_, e9, _⟩ := hq; cases e9)
  obtain ⟨r1, e9, rfl, h⟩ := hq
  obtain rfl := Sum.inl.inj e9
  show J Γ RX0 cX0_give 4 (some .int) "give" [] 4 0 0 5 [(0, .ref 0), (1, .int p1), (2, .int p2), (3, .int p3)] [.int r1] (n, K, A, Lg, G) P
  refine j_if_eq (tgt := 26) dX0_give_5 (by decide) (fun c => ?_) (fun c => ?_)
  · rw [if_pos c] at h
    refine j_iconst (v := (-1)) dX0_give_26 (by decide) ?_
    refine j_iret rfl ?_ dX0_give_27
    rw [hP]
    exact ⟨(-1), A, rfl, rfl, h⟩
  · rw [if_neg c] at h
    refine j_aload_n 0 rfl dX0_give_8 ?_
    refine j_iload_n 2 rfl dX0_give_9 ?_
    refine j_callV (b := 0) (As := [.int p2]) (st := []) (C := RX0) (kc' := 0) (ks' := 0) (tX0_isDog hf tx ht hx p2 _ h) myX0_isDog rfl q1215 q1217 qs37 (by decide) (fun s9 H9 hK9 hR9 h69 => jIs_in hK9 hR9 h69 (f_lt hf (by decide)) (fk_0 hf) rfl) rfl (Nat.le_of_ble_eq_true rfl) rfl (by decide) (Nat.le_refl 0) (Nat.le_refl 0) dX0_give_10 (fun v9 u9 hq => ?_) (fun k9 u9 hq => by obtain ⟨_, e9, _⟩ := hq; cases e9)
    obtain ⟨r2, e9, rfl, h⟩ := hq
    obtain rfl := Sum.inl.inj e9
    show J Γ RX0 cX0_give 4 (some .int) "give" [] 4 0 0 13 [(0, .ref 0), (1, .int p1), (2, .int p2), (3, .int p3)] [.int r2] (n, K, A, Lg, G) P
    refine j_if_eq (tgt := 26) dX0_give_13 (by decide) (fun c => ?_) (fun c => ?_)
    · rw [if_pos c] at h
      refine j_iconst (v := (-1)) dX0_give_26 (by decide) ?_
      refine j_iret rfl ?_ dX0_give_27
      rw [hP]
      exact ⟨(-1), A, rfl, rfl, h⟩
    · rw [if_neg c] at h
      refine j_iload_n 3 rfl dX0_give_16 ?_
      refine j_iconst (v := 1) dX0_give_17 (by decide) ?_
      refine j_bipush (v := 99) dX0_give_18 (by decide) ?_
      refine j_callS (As := [.int p3, .int 1, .int 99]) (st := []) (kc' := 0) (ks' := 0) (tX0_isIn hf p3 1 99 _ h) myX0_isIn q1194 q1195 rfl (Nat.le_of_ble_eq_true rfl) rfl (by decide) (Nat.le_refl 0) (Nat.le_refl 0) dX0_give_20 (fun v9 u9 hq => ?_) (fun k9 u9 hq => by obtain ⟨_, e9, _⟩ := hq; cases e9)
      obtain ⟨r3, e9, rfl, h⟩ := hq
      obtain rfl := Sum.inl.inj e9
      show J Γ RX0 cX0_give 4 (some .int) "give" [] 4 0 0 23 [(0, .ref 0), (1, .int p1), (2, .int p2), (3, .int p3)] [.int r3] (n, K, A, Lg, G) P
      refine j_if_ne (tgt := 28) dX0_give_23 (by decide) (fun c => ?_) (fun c => ?_)
      · rw [if_neg c] at h
        refine j_aload_n 0 rfl dX0_give_28 ?_
        refine j_iload_n 1 rfl dX0_give_29 ?_
        refine j_iload_n 2 rfl dX0_give_30 ?_
        refine j_callV (b := 0) (As := [.int p1, .int p2]) (st := []) (C := RX0) (kc' := 0) (ks' := 0) (tX0_areTogether hf tx ht hx p1 p2 _ h) myX0_areTogether rfl q1305 q1307 qs42 (by decide) (fun s9 H9 hK9 hR9 h69 => jIs_in hK9 hR9 h69 (f_lt hf (by decide)) (fk_0 hf) rfl) rfl (Nat.le_of_ble_eq_true rfl) rfl (by decide) (Nat.le_refl 0) (Nat.le_refl 0) dX0_give_31 (fun v9 u9 hq => ?_) (fun k9 u9 hq => by obtain ⟨_, e9, _⟩ := hq; cases e9)
        obtain ⟨r4, e9, rfl, h⟩ := hq
        obtain rfl := Sum.inl.inj e9
        show J Γ RX0 cX0_give 4 (some .int) "give" [] 4 0 0 34 [(0, .ref 0), (1, .int p1), (2, .int p2), (3, .int p3)] [.int r4] (n, K, A, Lg, G) P
        refine j_if_eq (tgt := 69) dX0_give_34 (by decide) (fun c => ?_) (fun c => ?_)
        · rw [if_pos c] at h
          refine j_bipush (v := (-2)) dX0_give_69 (by decide) ?_
          refine j_iret rfl ?_ dX0_give_71
          rw [hP]
          exact ⟨(-2), A, rfl, rfl, h⟩
        · rw [if_neg c] at h
          refine j_aload_n 0 rfl dX0_give_37 ?_
          refine j_getfr fl_X0_55_0 rfl (f_lt hf (by decide)) (fk_0 hf) (fg_0_7 hf) dX0_give_38 ?_
          refine j_getfr fl_X0_218_5 rfl (t_lt hf isT_town (j := 0) (by decide)) (tk_0 hf isT_town) (tg_0_5 hf isT_town) dX0_give_41 ?_
          refine j_iload_n 1 rfl dX0_give_44 ?_
          obtain ⟨b5, h⟩ := h
          refine j_ialdJ (j := (p1).toNatClampNeg) (t_lt hf isT_town (j := 6) (by decide)) (tk_6 hf isT_town) b5 rfl dX0_give_45 ?_
          refine j_iload_n 3 rfl dX0_give_46 ?_
          refine j_icmp_lt (tgt := 69) dX0_give_47 (by decide) (fun c => ?_) (fun c => ?_)
          · rw [if_pos c] at h
            refine j_bipush (v := (-2)) dX0_give_69 (by decide) ?_
            refine j_iret rfl ?_ dX0_give_71
            rw [hP]
            exact ⟨(-2), A, rfl, rfl, h⟩
          · rw [if_neg c] at h
            refine j_aload_n 0 rfl dX0_give_50 ?_
            refine j_getfr fl_X0_55_0 rfl (f_lt hf (by decide)) (fk_0 hf) (fg_0_7 hf) dX0_give_51 ?_
            refine j_getfr fl_X0_235_5 rfl (t_lt hf isT_town (j := 0) (by decide)) (tk_0 hf isT_town) (tg_0_7 hf isT_town) dX0_give_54 ?_
            refine j_iload_n 2 rfl dX0_give_57 ?_
            obtain ⟨b6, h⟩ := h
            refine j_aaldJ (t := 11) (j := (p2).toNatClampNeg) rfl rfl rfl (t_lt hf isT_town (j := 8) (by decide)) (tk_8 hf isT_town) b6 rfl (t_row8 hf isT_town (j_ix b6)).1 dX0_give_58 ?_
            refine j_iload_n 1 rfl dX0_give_59 ?_
            obtain ⟨b7, h⟩ := h
            refine j_ialdJ (j := (p1).toNatClampNeg) (t_rowlt8 hf isT_town (j_ix b6)) (t_row8 hf isT_town (j_ix b6)).2 b7 rfl dX0_give_60 ?_
            refine j_iload_n 3 rfl dX0_give_61 ?_
            refine j_iadd dX0_give_62 ?_
            refine j_sipush (v := 999) dX0_give_63 (by decide) ?_
            refine j_icmp_le (tgt := 72) dX0_give_66 (by decide) (fun c => ?_) (fun c => ?_)
            · rw [if_pos c] at h
              refine j_aload_n 0 rfl dX0_give_72 ?_
              refine j_callV (b := 0) (As := []) (st := []) (C := RX0) (kc' := 0) (ks' := 0) (tX0_keeps hf tx ht hx _ h) myX0_keeps rfl q1289 q1291 qs41 (by decide) (fun s9 H9 hK9 hR9 h69 => jIs_in hK9 hR9 h69 (f_lt hf (by decide)) (fk_0 hf) rfl) rfl (Nat.le_of_ble_eq_true rfl) rfl (by decide) (Nat.le_refl 0) (Nat.le_refl 0) dX0_give_73 (fun v9 u9 hq => ?_) (fun k9 u9 hq => by obtain ⟨_, e9, _⟩ := hq; cases e9)
              obtain ⟨A8, e9, rfl, h⟩ := hq
              obtain rfl := Sum.inl.inj e9
              show J Γ RX0 cX0_give 4 (some .int) "give" [] 4 0 0 76 [(0, .ref 0), (1, .int p1), (2, .int p2), (3, .int p3)] [] (n, K, A8, Lg, G) P
              refine j_aload_n 0 rfl dX0_give_76 ?_
              refine j_getfr fl_X0_55_0 rfl (f_lt hf (by decide)) (fk_0 hf) (fg_0_7 hf) dX0_give_77 ?_
              refine j_getfr fl_X0_218_5 rfl (t_lt hf isT_town (j := 0) (by decide)) (tk_0 hf isT_town) (tg_0_5 hf isT_town) dX0_give_80 ?_
              refine j_iload_n 1 rfl dX0_give_83 ?_
              refine j_dup2 rfl rfl dX0_give_84 ?_
              obtain ⟨b9, h⟩ := h
              refine j_ialdJ (j := (p1).toNatClampNeg) (t_lt hf isT_town (j := 6) (by decide)) (tk_6 hf isT_town) b9 rfl dX0_give_85 ?_
              refine j_iload_n 3 rfl dX0_give_86 ?_
              refine j_isub dX0_give_87 ?_
              obtain ⟨b10, h⟩ := h
              refine j_iastJ (j := (p1).toNatClampNeg) (t_lt hf isT_town (j := 6) (by decide)) (tk_6 hf isT_town) b10 rfl dX0_give_88 (fun A11 eA11 => ?_)
              replace h := h A11 eA11
              refine j_aload_n 0 rfl dX0_give_89 ?_
              refine j_getfr fl_X0_55_0 rfl (f_lt hf (by decide)) (fk_0 hf) (fg_0_7 hf) dX0_give_90 ?_
              refine j_getfr fl_X0_235_5 rfl (t_lt hf isT_town (j := 0) (by decide)) (tk_0 hf isT_town) (tg_0_7 hf isT_town) dX0_give_93 ?_
              refine j_iload_n 2 rfl dX0_give_96 ?_
              obtain ⟨b12, h⟩ := h
              refine j_aaldJ (t := 11) (j := (p2).toNatClampNeg) rfl rfl rfl (t_lt hf isT_town (j := 8) (by decide)) (tk_8 hf isT_town) b12 rfl (t_row8 hf isT_town (j_ix b12)).1 dX0_give_97 ?_
              refine j_iload_n 1 rfl dX0_give_98 ?_
              refine j_dup2 rfl rfl dX0_give_99 ?_
              obtain ⟨b13, h⟩ := h
              refine j_ialdJ (j := (p1).toNatClampNeg) (t_rowlt8 hf isT_town (j_ix b12)) (t_row8 hf isT_town (j_ix b12)).2 b13 rfl dX0_give_100 ?_
              refine j_iload_n 3 rfl dX0_give_101 ?_
              refine j_iadd dX0_give_102 ?_
              obtain ⟨b14, h⟩ := h
              refine j_iastJ (j := (p1).toNatClampNeg) (t_rowlt8 hf isT_town (j_ix b12)) (t_row8 hf isT_town (j_ix b12)).2 b14 rfl dX0_give_103 (fun A15 eA15 => ?_)
              replace h := h A15 eA15
              refine j_aload_n 0 rfl dX0_give_104 ?_
              refine j_getfr fl_X0_55_0 rfl (f_lt hf (by decide)) (fk_0 hf) (fg_0_7 hf) dX0_give_105 ?_
              refine j_getfr fl_X0_235_5 rfl (t_lt hf isT_town (j := 0) (by decide)) (tk_0 hf isT_town) (tg_0_7 hf isT_town) dX0_give_108 ?_
              refine j_iload_n 2 rfl dX0_give_111 ?_
              obtain ⟨b16, h⟩ := h
              refine j_aaldJ (t := 11) (j := (p2).toNatClampNeg) rfl rfl rfl (t_lt hf isT_town (j := 8) (by decide)) (tk_8 hf isT_town) b16 rfl (t_row8 hf isT_town (j_ix b16)).1 dX0_give_112 ?_
              refine j_iload_n 1 rfl dX0_give_113 ?_
              obtain ⟨b17, h⟩ := h
              refine j_ialdJ (j := (p1).toNatClampNeg) (t_rowlt8 hf isT_town (j_ix b16)) (t_row8 hf isT_town (j_ix b16)).2 b17 rfl dX0_give_114 ?_
              refine j_iret rfl ?_ dX0_give_115
              rw [hP]
              exact ⟨A15 (25 + 9 + (p2).toNatClampNeg) (p1).toNatClampNeg, A15, rfl, rfl, h⟩
            · rw [if_neg c] at h
              refine j_bipush (v := (-2)) dX0_give_69 (by decide) ?_
              refine j_iret rfl ?_ dX0_give_71
              rw [hP]
              exact ⟨(-2), A, rfl, rfl, h⟩
      · rw [if_pos c] at h
        refine j_iconst (v := (-1)) dX0_give_26 (by decide) ?_
        refine j_iret rfl ?_ dX0_give_27
        rw [hP]
        exact ⟨(-1), A, rfl, rfl, h⟩
theorem myX0_kick : jY yX0_kick cX0_kick 3 (some .int) 2 := ⟨q1312, q121, by decide +kernel, by decide +kernel, by decide⟩
def fX0_kick (tx : Nat) (A : pA) (p1 : Int32) (p2 : Int32) (Q : Int32 → pA → Prop) : Prop :=
    fX0_isPerson tx A p1 (fun r1 => (if r1 = 0 then Q (-1) A else fX0_isDog tx A p2 (fun r2 => (if r2 = 0 then Q (-1) A else fX0_areTogether tx A p1 p2 (fun r3 => (if r3 = 0 then Q (-2) A else (vp_in p2 5) ∧ ((vp_in p1 4) ∧ ((if (A (25 + 15 + (p2).toNatClampNeg) (p1).toNatClampNeg) = 999 then Q (-2) A else fX0_keeps tx A (fun A6 => (vp_in p2 5) ∧ ((vp_in p1 4) ∧ ((vp_in p1 4) ∧ (∀ A10 : pA, A10 = pup A6 (25 + 15 + (p2).toNatClampNeg) (p1).toNatClampNeg ((A6 (25 + 15 + (p2).toNatClampNeg) (p1).toNatClampNeg) + 1) → (vp_in p2 5) ∧ ((vp_in p1 4) ∧ (Q (A10 (25 + 15 + (p2).toNatClampNeg) (p1).toNatClampNeg) A10)))))))))))))))
theorem tX0_kick {Γ : jG} {n : Nat} {K : Nat → pKd} {G : pG} {A : pA} {Lg : pL} (hf : fOK n K G) (tx : Nat) (ht : G 0 3 = .ref tx) (hx : xOK n K G tx) (p1 : Int32) (p2 : Int32) (Q : Int32 → pA → Prop) (h : fX0_kick tx A p1 p2 Q) : jMet Γ yX0_kick cX0_kick 3 (some .int) [] 4 0 0 [.ref 0, .int p1, .int p2] (n, K, A, Lg, G) (fun o u => ∃ (r : Int32) (A' : pA), o = .inl (some (.int r)) ∧ u = (n, K, A', Lg, G) ∧ Q r A') := by
  unfold fX0_kick at h
  obtain ⟨P, hP⟩ : ∃ P : jO → pS → Prop, P = (fun o u => ∃ (r : Int32) (A' : pA), o = .inl (some (.int r)) ∧ u = (n, K, A', Lg, G) ∧ Q r A') := ⟨_, rfl⟩
  rw [← hP]
  refine jMet_of rfl rfl rfl (Nat.le_of_ble_eq_true rfl) ?_
  show J Γ RX0 cX0_kick 3 (some .int) "kick" [] 4 0 0 0 [(0, .ref 0), (1, .int p1), (2, .int p2)] [] (n, K, A, Lg, G) P
  refine j_aload_n 0 rfl dX0_kick_0 ?_
  refine j_iload_n 1 rfl dX0_kick_1 ?_
  refine j_callV (b := 0) (As := [.int p1]) (st := []) (C := RX0) (kc' := 0) (ks' := 0) (tX0_isPerson hf tx ht hx p1 _ h) myX0_isPerson rfl q1224 q1226 qs38 (by decide) (fun s9 H9 hK9 hR9 h69 => jIs_in hK9 hR9 h69 (f_lt hf (by decide)) (fk_0 hf) rfl) rfl (Nat.le_of_ble_eq_true rfl) rfl (by decide) (Nat.le_refl 0) (Nat.le_refl 0) dX0_kick_2 (fun v9 u9 hq => ?_) (fun k9 u9 hq => by obtain ⟨_, e9, _⟩ := hq; cases e9)
  obtain ⟨r1, e9, rfl, h⟩ := hq
  obtain rfl := Sum.inl.inj e9
  show J Γ RX0 cX0_kick 3 (some .int) "kick" [] 4 0 0 5 [(0, .ref 0), (1, .int p1), (2, .int p2)] [.int r1] (n, K, A, Lg, G) P
  refine j_if_eq (tgt := 16) dX0_kick_5 (by decide) (fun c => ?_) (fun c => ?_)
  · rw [if_pos c] at h
    refine j_iconst (v := (-1)) dX0_kick_16 (by decide) ?_
    refine j_iret rfl ?_ dX0_kick_17
    rw [hP]
    exact ⟨(-1), A, rfl, rfl, h⟩
  · rw [if_neg c] at h
    refine j_aload_n 0 rfl dX0_kick_8 ?_
    refine j_iload_n 2 rfl dX0_kick_9 ?_
    refine j_callV (b := 0) (As := [.int p2]) (st := []) (C := RX0) (kc' := 0) (ks' := 0) (tX0_isDog hf tx ht hx p2 _ h) myX0_isDog rfl q1215 q1217 qs37 (by decide) (fun s9 H9 hK9 hR9 h69 => jIs_in hK9 hR9 h69 (f_lt hf (by decide)) (fk_0 hf) rfl) rfl (Nat.le_of_ble_eq_true rfl) rfl (by decide) (Nat.le_refl 0) (Nat.le_refl 0) dX0_kick_10 (fun v9 u9 hq => ?_) (fun k9 u9 hq => by obtain ⟨_, e9, _⟩ := hq; cases e9)
    obtain ⟨r2, e9, rfl, h⟩ := hq
    obtain rfl := Sum.inl.inj e9
    show J Γ RX0 cX0_kick 3 (some .int) "kick" [] 4 0 0 13 [(0, .ref 0), (1, .int p1), (2, .int p2)] [.int r2] (n, K, A, Lg, G) P
    refine j_if_ne (tgt := 18) dX0_kick_13 (by decide) (fun c => ?_) (fun c => ?_)
    · rw [if_neg c] at h
      refine j_aload_n 0 rfl dX0_kick_18 ?_
      refine j_iload_n 1 rfl dX0_kick_19 ?_
      refine j_iload_n 2 rfl dX0_kick_20 ?_
      refine j_callV (b := 0) (As := [.int p1, .int p2]) (st := []) (C := RX0) (kc' := 0) (ks' := 0) (tX0_areTogether hf tx ht hx p1 p2 _ h) myX0_areTogether rfl q1305 q1307 qs42 (by decide) (fun s9 H9 hK9 hR9 h69 => jIs_in hK9 hR9 h69 (f_lt hf (by decide)) (fk_0 hf) rfl) rfl (Nat.le_of_ble_eq_true rfl) rfl (by decide) (Nat.le_refl 0) (Nat.le_refl 0) dX0_kick_21 (fun v9 u9 hq => ?_) (fun k9 u9 hq => by obtain ⟨_, e9, _⟩ := hq; cases e9)
      obtain ⟨r3, e9, rfl, h⟩ := hq
      obtain rfl := Sum.inl.inj e9
      show J Γ RX0 cX0_kick 3 (some .int) "kick" [] 4 0 0 24 [(0, .ref 0), (1, .int p1), (2, .int p2)] [.int r3] (n, K, A, Lg, G) P
      refine j_if_eq (tgt := 44) dX0_kick_24 (by decide) (fun c => ?_) (fun c => ?_)
      · rw [if_pos c] at h
        refine j_bipush (v := (-2)) dX0_kick_44 (by decide) ?_
        refine j_iret rfl ?_ dX0_kick_46
        rw [hP]
        exact ⟨(-2), A, rfl, rfl, h⟩
      · rw [if_neg c] at h
        refine j_aload_n 0 rfl dX0_kick_27 ?_
        refine j_getfr fl_X0_55_0 rfl (f_lt hf (by decide)) (fk_0 hf) (fg_0_7 hf) dX0_kick_28 ?_
        refine j_getfr fl_X0_238_5 rfl (t_lt hf isT_town (j := 0) (by decide)) (tk_0 hf isT_town) (tg_0_8 hf isT_town) dX0_kick_31 ?_
        refine j_iload_n 2 rfl dX0_kick_34 ?_
        obtain ⟨b4, h⟩ := h
        refine j_aaldJ (t := 11) (j := (p2).toNatClampNeg) rfl rfl rfl (t_lt hf isT_town (j := 14) (by decide)) (tk_14 hf isT_town) b4 rfl (t_row14 hf isT_town (j_ix b4)).1 dX0_kick_35 ?_
        refine j_iload_n 1 rfl dX0_kick_36 ?_
        obtain ⟨b5, h⟩ := h
        refine j_ialdJ (j := (p1).toNatClampNeg) (t_rowlt14 hf isT_town (j_ix b4)) (t_row14 hf isT_town (j_ix b4)).2 b5 rfl dX0_kick_37 ?_
        refine j_sipush (v := 999) dX0_kick_38 (by decide) ?_
        refine j_icmp_ne (tgt := 47) dX0_kick_41 (by decide) (fun c => ?_) (fun c => ?_)
        · rw [if_neg c] at h
          refine j_aload_n 0 rfl dX0_kick_47 ?_
          refine j_callV (b := 0) (As := []) (st := []) (C := RX0) (kc' := 0) (ks' := 0) (tX0_keeps hf tx ht hx _ h) myX0_keeps rfl q1289 q1291 qs41 (by decide) (fun s9 H9 hK9 hR9 h69 => jIs_in hK9 hR9 h69 (f_lt hf (by decide)) (fk_0 hf) rfl) rfl (Nat.le_of_ble_eq_true rfl) rfl (by decide) (Nat.le_refl 0) (Nat.le_refl 0) dX0_kick_48 (fun v9 u9 hq => ?_) (fun k9 u9 hq => by obtain ⟨_, e9, _⟩ := hq; cases e9)
          obtain ⟨A6, e9, rfl, h⟩ := hq
          obtain rfl := Sum.inl.inj e9
          show J Γ RX0 cX0_kick 3 (some .int) "kick" [] 4 0 0 51 [(0, .ref 0), (1, .int p1), (2, .int p2)] [] (n, K, A6, Lg, G) P
          refine j_aload_n 0 rfl dX0_kick_51 ?_
          refine j_getfr fl_X0_55_0 rfl (f_lt hf (by decide)) (fk_0 hf) (fg_0_7 hf) dX0_kick_52 ?_
          refine j_getfr fl_X0_238_5 rfl (t_lt hf isT_town (j := 0) (by decide)) (tk_0 hf isT_town) (tg_0_8 hf isT_town) dX0_kick_55 ?_
          refine j_iload_n 2 rfl dX0_kick_58 ?_
          obtain ⟨b7, h⟩ := h
          refine j_aaldJ (t := 11) (j := (p2).toNatClampNeg) rfl rfl rfl (t_lt hf isT_town (j := 14) (by decide)) (tk_14 hf isT_town) b7 rfl (t_row14 hf isT_town (j_ix b7)).1 dX0_kick_59 ?_
          refine j_iload_n 1 rfl dX0_kick_60 ?_
          refine j_dup2 rfl rfl dX0_kick_61 ?_
          obtain ⟨b8, h⟩ := h
          refine j_ialdJ (j := (p1).toNatClampNeg) (t_rowlt14 hf isT_town (j_ix b7)) (t_row14 hf isT_town (j_ix b7)).2 b8 rfl dX0_kick_62 ?_
          refine j_iconst (v := 1) dX0_kick_63 (by decide) ?_
          refine j_iadd dX0_kick_64 ?_
          obtain ⟨b9, h⟩ := h
          refine j_iastJ (j := (p1).toNatClampNeg) (t_rowlt14 hf isT_town (j_ix b7)) (t_row14 hf isT_town (j_ix b7)).2 b9 rfl dX0_kick_65 (fun A10 eA10 => ?_)
          replace h := h A10 eA10
          refine j_aload_n 0 rfl dX0_kick_66 ?_
          refine j_getfr fl_X0_55_0 rfl (f_lt hf (by decide)) (fk_0 hf) (fg_0_7 hf) dX0_kick_67 ?_
          refine j_getfr fl_X0_238_5 rfl (t_lt hf isT_town (j := 0) (by decide)) (tk_0 hf isT_town) (tg_0_8 hf isT_town) dX0_kick_70 ?_
          refine j_iload_n 2 rfl dX0_kick_73 ?_
          obtain ⟨b11, h⟩ := h
          refine j_aaldJ (t := 11) (j := (p2).toNatClampNeg) rfl rfl rfl (t_lt hf isT_town (j := 14) (by decide)) (tk_14 hf isT_town) b11 rfl (t_row14 hf isT_town (j_ix b11)).1 dX0_kick_74 ?_
          refine j_iload_n 1 rfl dX0_kick_75 ?_
          obtain ⟨b12, h⟩ := h
          refine j_ialdJ (j := (p1).toNatClampNeg) (t_rowlt14 hf isT_town (j_ix b11)) (t_row14 hf isT_town (j_ix b11)).2 b12 rfl dX0_kick_76 ?_
          refine j_iret rfl ?_ dX0_kick_77
          rw [hP]
          exact ⟨A10 (25 + 15 + (p2).toNatClampNeg) (p1).toNatClampNeg, A10, rfl, rfl, h⟩
        · rw [if_pos c] at h
          refine j_bipush (v := (-2)) dX0_kick_44 (by decide) ?_
          refine j_iret rfl ?_ dX0_kick_46
          rw [hP]
          exact ⟨(-2), A, rfl, rfl, h⟩
    · rw [if_pos c] at h
      refine j_iconst (v := (-1)) dX0_kick_16 (by decide) ?_
      refine j_iret rfl ?_ dX0_kick_17
      rw [hP]
      exact ⟨(-1), A, rfl, rfl, h⟩
theorem myX0_runs : jY yX0_runs cX0_runs 4 none 2 := ⟨q1323, q121, by decide +kernel, by decide +kernel, by decide⟩
def fX0_runs_L2 (tx : Nat) (a1 : Nat) (n : Nat) (K : Nat → pKd) (G : pG)  (Q : pA → Prop) : Nat → Int32 → Int32 → pA → Prop
  | 0, _, _, _ => False
  | n9 + 1, l2, l3, A =>
    (if l2 ≤ l3 then Q A else fX5_goesBy a1 tx n K A G (fun A1 => fX0_runs_L2 tx a1 n K G  Q n9 l2 (l3 + 1) A1))
theorem fX0_runs_L2_ok {Γ : jG} {n : Nat} {K : Nat → pKd} {G : pG} {Lg : pL} (hf : fOK n K G) (tx : Nat) (ht : G 0 3 = .ref tx) (hx : xOK n K G tx) (a1 : Nat) (ha1 : isT a1) (Q : pA → Prop) (P : jO → pS → Prop) (hP : P = (fun o u => ∃ (A' : pA), o = .inl none ∧ u = (n, K, A', Lg, G) ∧ Q A'))    : ∀ (n9 : Nat) (l2 : Int32) (l3 : Int32) (A : pA), fX0_runs_L2 tx a1 n K G  Q n9 l2 l3 A → J Γ RX0 cX0_runs 4 none "runs" [] 508 0 0 2 [(0, .ref 0), (1, .ref a1), (2, .int l2), (3, .int l3)] [] (n, K, A, Lg, G) P := by
  intro n9
  induction n9 with
  | zero => intro l2 l3 A h; exact h.elim
  | succ n9 ih =>
    intro l2 l3 A h
    unfold fX0_runs_L2 at h
    refine j_iload_n 3 rfl dX0_runs_2 ?_
    refine j_iload_n 2 rfl dX0_runs_3 ?_
    refine j_icmp_ge (tgt := 25) dX0_runs_4 (by decide) (fun c => ?_) (fun c => ?_)
    · rw [if_pos c] at h
      refine j_vret rfl ?_ dX0_runs_25
      rw [hP]
      exact ⟨A, rfl, rfl, h⟩
    · rw [if_neg c] at h
      refine j_aload_n 1 rfl dX0_runs_7 ?_
      refine j_aload_n 0 rfl dX0_runs_8 ?_
      refine j_getfr fl_X0_44_0 rfl (f_lt hf (by decide)) (fk_0 hf) ht dX0_runs_9 ?_
      refine j_aload_n 0 rfl dX0_runs_12 ?_
      refine j_getfr fl_X0_77_0 rfl (f_lt hf (by decide)) (fk_0 hf) (fg_0_11 hf) dX0_runs_13 ?_
      refine j_callV (b := a1) (As := [.ref tx, .ref 142]) (st := []) (C := RX5) (kc' := 0) (ks' := 0) (tX5_goesBy hf a1 ha1 tx hx _ h) myX5_goesBy rfl q1324 q1325 q1326 (j_l2 hf.1 (t_lt hf ha1 (j := 0) (by decide))) (fun s9 H9 hK9 hR9 h69 => jIs_in hK9 hR9 h69 (t_lt hf ha1 (j := 0) (by decide)) (tk_0 hf ha1) rfl) rfl (Nat.le_of_ble_eq_true rfl) rfl (by decide) (Nat.le_refl 0) (Nat.le_refl 0) dX0_runs_16 (fun v9 u9 hq => ?_) (fun k9 u9 hq => by obtain ⟨_, e9, _⟩ := hq; cases e9)
      obtain ⟨A1, e9, rfl, h⟩ := hq
      obtain rfl := Sum.inl.inj e9
      show J Γ RX0 cX0_runs 4 none "runs" [] 508 0 0 19 [(0, .ref 0), (1, .ref a1), (2, .int l2), (3, .int l3)] [] (n, K, A1, Lg, G) P
      refine j_iinc (v := l3 + 1) 3 rfl rfl (by decide) rfl dX0_runs_19 ?_
      refine j_goto (tgt := 2) dX0_runs_22 (by decide) ?_
      refine j_ls [1, 2, 3, 0] rfl ?_
      exact ih l2 (l3 + 1) A1 h
def fX0_runs (tx : Nat) (a1 : Nat) (n : Nat) (K : Nat → pKd) (A : pA) (G : pG) (p2 : Int32) (Q : pA → Prop) : Prop :=
    ∃ m2, fX0_runs_L2 tx a1 n K G  Q m2 p2 0 A
theorem tX0_runs {Γ : jG} {n : Nat} {K : Nat → pKd} {G : pG} {A : pA} {Lg : pL} (hf : fOK n K G) (tx : Nat) (ht : G 0 3 = .ref tx) (hx : xOK n K G tx) (a1 : Nat) (ha1 : isT a1) (p2 : Int32) (Q : pA → Prop) (h : fX0_runs tx a1 n K A G p2 Q) : jMet Γ yX0_runs cX0_runs 4 none [] 508 0 0 [.ref 0, .ref a1, .int p2] (n, K, A, Lg, G) (fun o u => ∃ (A' : pA), o = .inl none ∧ u = (n, K, A', Lg, G) ∧ Q A') := by
  unfold fX0_runs at h
  obtain ⟨P, hP⟩ : ∃ P : jO → pS → Prop, P = (fun o u => ∃ (A' : pA), o = .inl none ∧ u = (n, K, A', Lg, G) ∧ Q A') := ⟨_, rfl⟩
  rw [← hP]
  refine jMet_of rfl rfl rfl (Nat.le_of_ble_eq_true rfl) ?_
  show J Γ RX0 cX0_runs 4 none "runs" [] 508 0 0 0 [(0, .ref 0), (1, .ref a1), (2, .int p2)] [] (n, K, A, Lg, G) P
  refine j_iconst (v := 0) dX0_runs_0 (by decide) ?_
  refine j_istore_n (by decide) rfl dX0_runs_1 ?_
  refine j_ls [1, 2, 3, 0] rfl ?_
  obtain ⟨m2, h⟩ := h
  exact fX0_runs_L2_ok hf tx ht hx a1 ha1 Q P hP   m2 p2 0 A h
theorem myX0_minutes : jY yX0_minutes cX0_minutes 2 (some .int) 1 := ⟨q1316, q121, by decide +kernel, by decide +kernel, by decide⟩
def fX0_minutes_J17 (tx : Nat) (n : Nat) (K : Nat → pKd) (G : pG)  (Q : Int32 → pA → Prop) (l1 : Int32) (A : pA) : Prop :=
    fX0_runs tx 25 n K A G l1 (fun A1 => Q (A1 25 11) A1)
theorem fX0_minutes_J17_ok {Γ : jG} {n : Nat} {K : Nat → pKd} {G : pG} {Lg : pL} (hf : fOK n K G) (tx : Nat) (ht : G 0 3 = .ref tx) (hx : xOK n K G tx) (Q : Int32 → pA → Prop) (P : jO → pS → Prop) (hP : P = (fun o u => ∃ (r : Int32) (A' : pA), o = .inl (some (.int r)) ∧ u = (n, K, A', Lg, G) ∧ Q r A'))   (l1 : Int32) (A : pA) (h : fX0_minutes_J17 tx n K G  Q l1 A) : J Γ RX0 cX0_minutes 2 (some .int) "minutes" [] 509 0 0 17 [(0, .ref 0), (1, .int l1)] [] (n, K, A, Lg, G) P := by
  unfold fX0_minutes_J17 at h
  refine j_aload_n 0 rfl dX0_minutes_17 ?_
  refine j_aload_n 0 rfl dX0_minutes_18 ?_
  refine j_getfr fl_X0_55_0 rfl (f_lt hf (by decide)) (fk_0 hf) (fg_0_7 hf) dX0_minutes_19 ?_
  refine j_iload_n 1 rfl dX0_minutes_22 ?_
  refine j_callV (b := 0) (As := [.ref 25, .int l1]) (st := []) (C := RX0) (kc' := 0) (ks' := 0) (tX0_runs hf tx ht hx 25 isT_town l1 _ h) myX0_runs rfl q1320 q1322 qs43 (by decide) (fun s9 H9 hK9 hR9 h69 => jIs_in hK9 hR9 h69 (f_lt hf (by decide)) (fk_0 hf) rfl) rfl (Nat.le_of_ble_eq_true rfl) rfl (by decide) (Nat.le_refl 0) (Nat.le_refl 0) dX0_minutes_23 (fun v9 u9 hq => ?_) (fun k9 u9 hq => by obtain ⟨_, e9, _⟩ := hq; cases e9)
  obtain ⟨A1, e9, rfl, h⟩ := hq
  obtain rfl := Sum.inl.inj e9
  show J Γ RX0 cX0_minutes 2 (some .int) "minutes" [] 509 0 0 26 [(0, .ref 0), (1, .int l1)] [] (n, K, A1, Lg, G) P
  refine j_aload_n 0 rfl dX0_minutes_26 ?_
  refine j_getfr fl_X0_55_0 rfl (f_lt hf (by decide)) (fk_0 hf) (fg_0_7 hf) dX0_minutes_27 ?_
  refine j_getfi fl_X0_276_5 rfl (t_lt hf isT_town (j := 0) (by decide)) (tk_0 hf isT_town) dX0_minutes_30 ?_
  refine j_iret rfl ?_ dX0_minutes_33
  rw [hP]
  exact ⟨A1 25 11, A1, rfl, rfl, h⟩
def fX0_minutes (tx : Nat) (n : Nat) (K : Nat → pKd) (A : pA) (G : pG) (p1 : Int32) (Q : Int32 → pA → Prop) : Prop :=
    fX0_isAhead A p1 (fun r2 => (if r2 = 0 then Q (-1) A else (if p1 ≤ 0 then fX0_minutes_J17 tx n K G  Q p1 A else fX0_keeps tx A (fun A3 => fX0_minutes_J17 tx n K G  Q p1 A3))))
theorem tX0_minutes {Γ : jG} {n : Nat} {K : Nat → pKd} {G : pG} {A : pA} {Lg : pL} (hf : fOK n K G) (tx : Nat) (ht : G 0 3 = .ref tx) (hx : xOK n K G tx) (p1 : Int32) (Q : Int32 → pA → Prop) (h : fX0_minutes tx n K A G p1 Q) : jMet Γ yX0_minutes cX0_minutes 2 (some .int) [] 509 0 0 [.ref 0, .int p1] (n, K, A, Lg, G) (fun o u => ∃ (r : Int32) (A' : pA), o = .inl (some (.int r)) ∧ u = (n, K, A', Lg, G) ∧ Q r A') := by
  unfold fX0_minutes at h
  obtain ⟨P, hP⟩ : ∃ P : jO → pS → Prop, P = (fun o u => ∃ (r : Int32) (A' : pA), o = .inl (some (.int r)) ∧ u = (n, K, A', Lg, G) ∧ Q r A') := ⟨_, rfl⟩
  rw [← hP]
  refine jMet_of rfl rfl rfl (Nat.le_of_ble_eq_true rfl) ?_
  show J Γ RX0 cX0_minutes 2 (some .int) "minutes" [] 509 0 0 0 [(0, .ref 0), (1, .int p1)] [] (n, K, A, Lg, G) P
  refine j_iload_n 1 rfl dX0_minutes_0 ?_
  refine j_callS (As := [.int p1]) (st := []) (kc' := 0) (ks' := 0) (tX0_isAhead hf p1 _ h) myX0_isAhead q1317 q1318 rfl (Nat.le_of_ble_eq_true rfl) rfl (by decide) (Nat.le_refl 0) (Nat.le_refl 0) dX0_minutes_1 (fun v9 u9 hq => ?_) (fun k9 u9 hq => by obtain ⟨_, e9, _⟩ := hq; cases e9)
  obtain ⟨r2, e9, rfl, h⟩ := hq
  obtain rfl := Sum.inl.inj e9
  show J Γ RX0 cX0_minutes 2 (some .int) "minutes" [] 509 0 0 4 [(0, .ref 0), (1, .int p1)] [.int r2] (n, K, A, Lg, G) P
  refine j_if_ne (tgt := 9) dX0_minutes_4 (by decide) (fun c => ?_) (fun c => ?_)
  · rw [if_neg c] at h
    refine j_iload_n 1 rfl dX0_minutes_9 ?_
    refine j_if_le (tgt := 17) dX0_minutes_10 (by decide) (fun c => ?_) (fun c => ?_)
    · rw [if_pos c] at h
      exact fX0_minutes_J17_ok hf tx ht hx Q P hP   p1 A h
    · rw [if_neg c] at h
      refine j_aload_n 0 rfl dX0_minutes_13 ?_
      refine j_callV (b := 0) (As := []) (st := []) (C := RX0) (kc' := 0) (ks' := 0) (tX0_keeps hf tx ht hx _ h) myX0_keeps rfl q1289 q1291 qs41 (by decide) (fun s9 H9 hK9 hR9 h69 => jIs_in hK9 hR9 h69 (f_lt hf (by decide)) (fk_0 hf) rfl) rfl (Nat.le_of_ble_eq_true rfl) rfl (by decide) (Nat.le_refl 0) (Nat.le_refl 0) dX0_minutes_14 (fun v9 u9 hq => ?_) (fun k9 u9 hq => by obtain ⟨_, e9, _⟩ := hq; cases e9)
      obtain ⟨A3, e9, rfl, h⟩ := hq
      obtain rfl := Sum.inl.inj e9
      show J Γ RX0 cX0_minutes 2 (some .int) "minutes" [] 509 0 0 17 [(0, .ref 0), (1, .int p1)] [] (n, K, A3, Lg, G) P
      exact fX0_minutes_J17_ok hf tx ht hx Q P hP   p1 A3 h
  · rw [if_pos c] at h
    refine j_iconst (v := (-1)) dX0_minutes_7 (by decide) ?_
    refine j_iret rfl ?_ dX0_minutes_8
    rw [hP]
    exact ⟨(-1), A, rfl, rfl, h⟩
theorem myX0_undo : jY yX0_undo cX0_undo 1 (some .boolean) 0 := ⟨q1375, q121, by decide +kernel, by decide +kernel, by decide⟩
def fX0_undo (tx : Nat) (A : pA) (Q : Int32 → pA → Prop) : Prop :=
    (if (A 0 5) = 0 then Q 0 A else ∀ A1 : pA, A1 = pup A 0 5 ((A 0 5) - 1) → ∀ A2 : pA, A2 = pup A1 0 6 ((((A1 0 6) + 40) - 1) - (((A1 0 6) + 40) - 1) / 40 * 40) → (vp_in (A2 0 6) 40) ∧ (fX5_takes 25 (278 + 23 * (A2 0 6).toNatClampNeg) A2 (fun A4 => Q 1 A4)))
theorem tX0_undo {Γ : jG} {n : Nat} {K : Nat → pKd} {G : pG} {A : pA} {Lg : pL} (hf : fOK n K G) (tx : Nat) (ht : G 0 3 = .ref tx) (hx : xOK n K G tx)  (Q : Int32 → pA → Prop) (h : fX0_undo tx A Q) : jMet Γ yX0_undo cX0_undo 1 (some .boolean) [] 3 0 0 [.ref 0] (n, K, A, Lg, G) (fun o u => ∃ (r : Int32) (A' : pA), o = .inl (some (.int r)) ∧ u = (n, K, A', Lg, G) ∧ Q r A') := by
  unfold fX0_undo at h
  obtain ⟨P, hP⟩ : ∃ P : jO → pS → Prop, P = (fun o u => ∃ (r : Int32) (A' : pA), o = .inl (some (.int r)) ∧ u = (n, K, A', Lg, G) ∧ Q r A') := ⟨_, rfl⟩
  rw [← hP]
  refine jMet_of rfl rfl rfl (Nat.le_of_ble_eq_true rfl) ?_
  show J Γ RX0 cX0_undo 1 (some .boolean) "undo" [] 3 0 0 0 [(0, .ref 0)] [] (n, K, A, Lg, G) P
  refine j_aload_n 0 rfl dX0_undo_0 ?_
  refine j_getfi fl_X0_119_0 rfl (f_lt hf (by decide)) (fk_0 hf) dX0_undo_1 ?_
  refine j_if_ne (tgt := 9) dX0_undo_4 (by decide) (fun c => ?_) (fun c => ?_)
  · rw [if_neg c] at h
    refine j_aload_n 0 rfl dX0_undo_9 ?_
    refine j_dup rfl dX0_undo_10 ?_
    refine j_getfi fl_X0_119_0 rfl (f_lt hf (by decide)) (fk_0 hf) dX0_undo_11 ?_
    refine j_iconst (v := 1) dX0_undo_14 (by decide) ?_
    refine j_isub dX0_undo_15 ?_
    refine j_putfiE (fp_X0_119_0 _) rfl rfl rfl (f_lt hf (by decide)) (fk_0 hf) dX0_undo_16 (fun A1 eA1 => ?_)
    replace h := h A1 eA1
    refine j_aload_n 0 rfl dX0_undo_19 ?_
    refine j_aload_n 0 rfl dX0_undo_20 ?_
    refine j_getfi fl_X0_251_0 rfl (f_lt hf (by decide)) (fk_0 hf) dX0_undo_21 ?_
    refine j_bipush (v := 40) dX0_undo_24 (by decide) ?_
    refine j_iadd dX0_undo_26 ?_
    refine j_iconst (v := 1) dX0_undo_27 (by decide) ?_
    refine j_isub dX0_undo_28 ?_
    refine j_bipush (v := 40) dX0_undo_29 (by decide) ?_
    refine j_irem (by decide) dX0_undo_31 ?_
    refine j_putfiE (fp_X0_251_0 _) rfl rfl rfl (f_lt hf (by decide)) (fk_0 hf) dX0_undo_32 (fun A2 eA2 => ?_)
    replace h := h A2 eA2
    refine j_aload_n 0 rfl dX0_undo_35 ?_
    refine j_getfr fl_X0_55_0 rfl (f_lt hf (by decide)) (fk_0 hf) (fg_0_7 hf) dX0_undo_36 ?_
    refine j_aload_n 0 rfl dX0_undo_39 ?_
    refine j_getfr fl_X0_62_0 rfl (f_lt hf (by decide)) (fk_0 hf) (fg_0_9 hf) dX0_undo_40 ?_
    refine j_aload_n 0 rfl dX0_undo_43 ?_
    refine j_getfi fl_X0_251_0 rfl (f_lt hf (by decide)) (fk_0 hf) dX0_undo_44 ?_
    obtain ⟨b3, h⟩ := h
    refine j_aaldJ (t := 9) (j := (A2 0 6).toNatClampNeg) rfl rfl rfl (f_lt hf (by decide)) (fk_71 hf) b3 rfl (past_row hf (j_ix b3)) dX0_undo_47 ?_
    refine j_callV (b := 25) (As := [.ref (278 + 23 * (A2 0 6).toNatClampNeg)]) (st := []) (C := RX5) (kc' := 0) (ks' := 0) (tX5_takes hf 25 isT_town (278 + 23 * (A2 0 6).toNatClampNeg) (isT_past (j_ix b3)) _ h) myX5_takes rfl q1293 q1294 q1295 (j_l2 hf.1 (t_lt hf isT_town (j := 0) (by decide))) (fun s9 H9 hK9 hR9 h69 => jIs_in hK9 hR9 h69 (t_lt hf isT_town (j := 0) (by decide)) (tk_0 hf isT_town) rfl) rfl (Nat.le_of_ble_eq_true rfl) rfl (by decide) (Nat.le_refl 0) (Nat.le_refl 0) dX0_undo_48 (fun v9 u9 hq => ?_) (fun k9 u9 hq => by obtain ⟨_, e9, _⟩ := hq; cases e9)
    obtain ⟨A4, e9, rfl, h⟩ := hq
    obtain rfl := Sum.inl.inj e9
    show J Γ RX0 cX0_undo 1 (some .boolean) "undo" [] 3 0 0 51 [(0, .ref 0)] [] (n, K, A4, Lg, G) P
    refine j_iconst (v := 1) dX0_undo_51 (by decide) ?_
    refine j_zret rfl (by decide) ?_ dX0_undo_52
    rw [hP]
    exact ⟨1, A4, rfl, rfl, h⟩
  · rw [if_pos c] at h
    refine j_iconst (v := 0) dX0_undo_7 (by decide) ?_
    refine j_zret rfl (by decide) ?_ dX0_undo_8
    rw [hP]
    exact ⟨0, A, rfl, rfl, h⟩
theorem myX0_minds : jY yX0_minds cX0_minds 2 (some .int) 1 := ⟨q1406, q121, by decide +kernel, by decide +kernel, by decide⟩
def fX0_minds (tx : Nat) (n : Nat) (K : Nat → pKd) (A : pA) (G : pG) (p1 : Int32) (Q : Int32 → pA → Prop) : Prop :=
    fX0_isDog tx A p1 (fun r1 => (if r1 = 0 then Q (-1) A else fX5_minds 25 tx n K A G p1 (fun r2 A3 => Q r2 A3)))
theorem tX0_minds {Γ : jG} {n : Nat} {K : Nat → pKd} {G : pG} {A : pA} {Lg : pL} (hf : fOK n K G) (tx : Nat) (ht : G 0 3 = .ref tx) (hx : xOK n K G tx) (p1 : Int32) (Q : Int32 → pA → Prop) (h : fX0_minds tx n K A G p1 Q) : jMet Γ yX0_minds cX0_minds 2 (some .int) [] 505 0 0 [.ref 0, .int p1] (n, K, A, Lg, G) (fun o u => ∃ (r : Int32) (A' : pA), o = .inl (some (.int r)) ∧ u = (n, K, A', Lg, G) ∧ Q r A') := by
  unfold fX0_minds at h
  obtain ⟨P, hP⟩ : ∃ P : jO → pS → Prop, P = (fun o u => ∃ (r : Int32) (A' : pA), o = .inl (some (.int r)) ∧ u = (n, K, A', Lg, G) ∧ Q r A') := ⟨_, rfl⟩
  rw [← hP]
  refine jMet_of rfl rfl rfl (Nat.le_of_ble_eq_true rfl) ?_
  show J Γ RX0 cX0_minds 2 (some .int) "minds" [] 505 0 0 0 [(0, .ref 0), (1, .int p1)] [] (n, K, A, Lg, G) P
  refine j_aload_n 0 rfl dX0_minds_0 ?_
  refine j_iload_n 1 rfl dX0_minds_1 ?_
  refine j_callV (b := 0) (As := [.int p1]) (st := []) (C := RX0) (kc' := 0) (ks' := 0) (tX0_isDog hf tx ht hx p1 _ h) myX0_isDog rfl q1215 q1217 qs37 (by decide) (fun s9 H9 hK9 hR9 h69 => jIs_in hK9 hR9 h69 (f_lt hf (by decide)) (fk_0 hf) rfl) rfl (Nat.le_of_ble_eq_true rfl) rfl (by decide) (Nat.le_refl 0) (Nat.le_refl 0) dX0_minds_2 (fun v9 u9 hq => ?_) (fun k9 u9 hq => by obtain ⟨_, e9, _⟩ := hq; cases e9)
  obtain ⟨r1, e9, rfl, h⟩ := hq
  obtain rfl := Sum.inl.inj e9
  show J Γ RX0 cX0_minds 2 (some .int) "minds" [] 505 0 0 5 [(0, .ref 0), (1, .int p1)] [.int r1] (n, K, A, Lg, G) P
  refine j_if_eq (tgt := 23) dX0_minds_5 (by decide) (fun c => ?_) (fun c => ?_)
  · rw [if_pos c] at h
    refine j_iconst (v := (-1)) dX0_minds_23 (by decide) ?_
    refine j_iret rfl ?_ dX0_minds_24
    rw [hP]
    exact ⟨(-1), A, rfl, rfl, h⟩
  · rw [if_neg c] at h
    refine j_aload_n 0 rfl dX0_minds_8 ?_
    refine j_getfr fl_X0_55_0 rfl (f_lt hf (by decide)) (fk_0 hf) (fg_0_7 hf) dX0_minds_9 ?_
    refine j_aload_n 0 rfl dX0_minds_12 ?_
    refine j_getfr fl_X0_44_0 rfl (f_lt hf (by decide)) (fk_0 hf) ht dX0_minds_13 ?_
    refine j_iload_n 1 rfl dX0_minds_16 ?_
    refine j_callV (b := 25) (As := [.ref tx, .int p1]) (st := []) (C := RX5) (kc' := 0) (ks' := 0) (tX5_minds hf 25 isT_town tx hx p1 _ h) myX5_minds rfl q1407 q1353 q1354 (j_l2 hf.1 (t_lt hf isT_town (j := 0) (by decide))) (fun s9 H9 hK9 hR9 h69 => jIs_in hK9 hR9 h69 (t_lt hf isT_town (j := 0) (by decide)) (tk_0 hf isT_town) rfl) rfl (Nat.le_of_ble_eq_true rfl) rfl (by decide) (Nat.le_refl 0) (Nat.le_refl 0) dX0_minds_17 (fun v9 u9 hq => ?_) (fun k9 u9 hq => by obtain ⟨_, _, e9, _⟩ := hq; cases e9)
    obtain ⟨r2, A3, e9, rfl, h⟩ := hq
    obtain rfl := Sum.inl.inj e9
    show J Γ RX0 cX0_minds 2 (some .int) "minds" [] 505 0 0 20 [(0, .ref 0), (1, .int p1)] [.int r2] (n, K, A3, Lg, G) P
    refine j_goto (tgt := 24) dX0_minds_20 (by decide) ?_
    refine j_iret rfl ?_ dX0_minds_24
    rw [hP]
    exact ⟨r2, A3, rfl, rfl, h⟩
theorem myX0_grudge : jY yX0_grudge cX0_grudge 5 (some .int) 2 := ⟨q1419, q121, by decide +kernel, by decide +kernel, by decide⟩
def fX0_grudge_L31 (tx : Nat) (n : Nat) (K : Nat → pKd) (G : pG)  (Q : Int32 → pA → Prop) : Nat → Int32 → Int32 → Int32 → pA → Prop
  | 0, _, _, _, _ => False
  | n9 + 1, l1, l2, l3, A =>
    (if 99 < l3 then Q (-2) A else (vp_in l1 5) ∧ ((vp_in l2 4) ∧ ((vp_in l1 5) ∧ ((vp_in l2 4) ∧ ((if (A (48 + 9 + (l1).toNatClampNeg) (l2).toNatClampNeg) < (A (48 + 15 + (l1).toNatClampNeg) (l2).toNatClampNeg) then fX5_fades 48 tx n K A G l1 l2 (fun r5 A6 => (vp_in l1 5) ∧ ((vp_in l1 5) ∧ ((vp_in l2 4) ∧ ((vp_in l2 4) ∧ (∀ A11 : pA, A11 = pup A6 (48 + 9 + (l1).toNatClampNeg) (l2).toNatClampNeg (pmax 0 ((A6 (48 + 9 + (l1).toNatClampNeg) (l2).toNatClampNeg) - r5)) → (vp_in l1 5) ∧ ((vp_in l1 5) ∧ ((vp_in l2 4) ∧ ((vp_in l2 4) ∧ (∀ A16 : pA, A16 = pup A11 (48 + 15 + (l1).toNatClampNeg) (l2).toNatClampNeg (pmax 0 ((A11 (48 + 15 + (l1).toNatClampNeg) (l2).toNatClampNeg) - r5)) → fX0_grudge_L31 tx n K G  Q n9 l1 l2 (l3 + 1) A16))))))))) else Q l3 A))))))
theorem fX0_grudge_L31_ok {Γ : jG} {n : Nat} {K : Nat → pKd} {G : pG} {Lg : pL} (hf : fOK n K G) (tx : Nat) (ht : G 0 3 = .ref tx) (hx : xOK n K G tx) (Q : Int32 → pA → Prop) (P : jO → pS → Prop) (hP : P = (fun o u => ∃ (r : Int32) (A' : pA), o = .inl (some (.int r)) ∧ u = (n, K, A', Lg, G) ∧ Q r A'))    : ∀ (n9 : Nat) (l1 : Int32) (l2 : Int32) (l3 : Int32) (A : pA), fX0_grudge_L31 tx n K G  Q n9 l1 l2 l3 A → J Γ RX0 cX0_grudge 5 (some .int) "grudge" [] 504 0 0 31 [(0, .ref 0), (1, .int l1), (2, .int l2), (3, .int l3)] [] (n, K, A, Lg, G) P := by
  intro n9
  induction n9 with
  | zero => intro l1 l2 l3 A h; exact h.elim
  | succ n9 ih =>
    intro l1 l2 l3 A h
    unfold fX0_grudge_L31 at h
    refine j_iload_n 3 rfl dX0_grudge_31 ?_
    refine j_bipush (v := 99) dX0_grudge_32 (by decide) ?_
    refine j_icmp_gt (tgt := 143) dX0_grudge_34 (by decide) (fun c => ?_) (fun c => ?_)
    · rw [if_pos c] at h
      refine j_bipush (v := (-2)) dX0_grudge_143 (by decide) ?_
      refine j_iret rfl ?_ dX0_grudge_145
      rw [hP]
      exact ⟨(-2), A, rfl, rfl, h⟩
    · rw [if_neg c] at h
      refine j_aload_n 0 rfl dX0_grudge_37 ?_
      refine j_getfr fl_X0_59_0 rfl (f_lt hf (by decide)) (fk_0 hf) (fg_0_8 hf) dX0_grudge_38 ?_
      refine j_getfr fl_X0_238_5 rfl (t_lt hf isT_trial (j := 0) (by decide)) (tk_0 hf isT_trial) (tg_0_8 hf isT_trial) dX0_grudge_41 ?_
      refine j_iload_n 1 rfl dX0_grudge_44 ?_
      obtain ⟨b1, h⟩ := h
      refine j_aaldJ (t := 11) (j := (l1).toNatClampNeg) rfl rfl rfl (t_lt hf isT_trial (j := 14) (by decide)) (tk_14 hf isT_trial) b1 rfl (t_row14 hf isT_trial (j_ix b1)).1 dX0_grudge_45 ?_
      refine j_iload_n 2 rfl dX0_grudge_46 ?_
      obtain ⟨b2, h⟩ := h
      refine j_ialdJ (j := (l2).toNatClampNeg) (t_rowlt14 hf isT_trial (j_ix b1)) (t_row14 hf isT_trial (j_ix b1)).2 b2 rfl dX0_grudge_47 ?_
      refine j_aload_n 0 rfl dX0_grudge_48 ?_
      refine j_getfr fl_X0_59_0 rfl (f_lt hf (by decide)) (fk_0 hf) (fg_0_8 hf) dX0_grudge_49 ?_
      refine j_getfr fl_X0_235_5 rfl (t_lt hf isT_trial (j := 0) (by decide)) (tk_0 hf isT_trial) (tg_0_7 hf isT_trial) dX0_grudge_52 ?_
      refine j_iload_n 1 rfl dX0_grudge_55 ?_
      obtain ⟨b3, h⟩ := h
      refine j_aaldJ (t := 11) (j := (l1).toNatClampNeg) rfl rfl rfl (t_lt hf isT_trial (j := 8) (by decide)) (tk_8 hf isT_trial) b3 rfl (t_row8 hf isT_trial (j_ix b3)).1 dX0_grudge_56 ?_
      refine j_iload_n 2 rfl dX0_grudge_57 ?_
      obtain ⟨b4, h⟩ := h
      refine j_ialdJ (j := (l2).toNatClampNeg) (t_rowlt8 hf isT_trial (j_ix b3)) (t_row8 hf isT_trial (j_ix b3)).2 b4 rfl dX0_grudge_58 ?_
      refine j_icmp_gt (tgt := 64) dX0_grudge_59 (by decide) (fun c => ?_) (fun c => ?_)
      · rw [if_pos c] at h
        refine j_aload_n 0 rfl dX0_grudge_64 ?_
        refine j_getfr fl_X0_59_0 rfl (f_lt hf (by decide)) (fk_0 hf) (fg_0_8 hf) dX0_grudge_65 ?_
        refine j_aload_n 0 rfl dX0_grudge_68 ?_
        refine j_getfr fl_X0_44_0 rfl (f_lt hf (by decide)) (fk_0 hf) ht dX0_grudge_69 ?_
        refine j_iload_n 1 rfl dX0_grudge_72 ?_
        refine j_iload_n 2 rfl dX0_grudge_73 ?_
        refine j_callV (b := 48) (As := [.ref tx, .int l1, .int l2]) (st := []) (C := RX5) (kc' := 0) (ks' := 0) (tX5_fades hf 48 isT_trial tx hx l1 l2 _ h) myX5_fades rfl q1281 q1282 q1283 (j_l2 hf.1 (t_lt hf isT_trial (j := 0) (by decide))) (fun s9 H9 hK9 hR9 h69 => jIs_in hK9 hR9 h69 (t_lt hf isT_trial (j := 0) (by decide)) (tk_0 hf isT_trial) rfl) rfl (Nat.le_of_ble_eq_true rfl) rfl (by decide) (Nat.le_refl 0) (Nat.le_refl 0) dX0_grudge_74 (fun v9 u9 hq => ?_) (fun k9 u9 hq => by obtain ⟨_, _, e9, _⟩ := hq; cases e9)
        obtain ⟨r5, A6, e9, rfl, h⟩ := hq
        obtain rfl := Sum.inl.inj e9
        show J Γ RX0 cX0_grudge 5 (some .int) "grudge" [] 504 0 0 77 [(0, .ref 0), (1, .int l1), (2, .int l2), (3, .int l3)] [.int r5] (n, K, A6, Lg, G) P
        refine j_istore (by decide) rfl dX0_grudge_77 ?_
        refine j_aload_n 1 rfl dX0_grudge_79 ?_
        refine j_getfr fl_X0_59_0 rfl (f_lt hf (by decide)) (fk_0 hf) (fg_0_8 hf) dX0_grudge_80 ?_
        refine j_getfr fl_X0_235_5 rfl (t_lt hf isT_trial (j := 0) (by decide)) (tk_0 hf isT_trial) (tg_0_7 hf isT_trial) dX0_grudge_83 ?_
        refine j_iload_n 2 rfl dX0_grudge_86 ?_
        obtain ⟨b7, h⟩ := h
        refine j_aaldJ (t := 11) (j := (l1).toNatClampNeg) rfl rfl rfl (t_lt hf isT_trial (j := 8) (by decide)) (tk_8 hf isT_trial) b7 rfl (t_row8 hf isT_trial (j_ix b7)).1 dX0_grudge_87 ?_
        refine j_iload_n 3 rfl dX0_grudge_88 ?_
        refine j_iconst (v := 0) dX0_grudge_89 (by decide) ?_
        refine j_aload_n 1 rfl dX0_grudge_90 ?_
        refine j_getfr fl_X0_59_0 rfl (f_lt hf (by decide)) (fk_0 hf) (fg_0_8 hf) dX0_grudge_91 ?_
        refine j_getfr fl_X0_235_5 rfl (t_lt hf isT_trial (j := 0) (by decide)) (tk_0 hf isT_trial) (tg_0_7 hf isT_trial) dX0_grudge_94 ?_
        refine j_iload_n 2 rfl dX0_grudge_97 ?_
        obtain ⟨b8, h⟩ := h
        refine j_aaldJ (t := 11) (j := (l1).toNatClampNeg) rfl rfl rfl (t_lt hf isT_trial (j := 8) (by decide)) (tk_8 hf isT_trial) b8 rfl (t_row8 hf isT_trial (j_ix b8)).1 dX0_grudge_98 ?_
        refine j_iload_n 3 rfl dX0_grudge_99 ?_
        obtain ⟨b9, h⟩ := h
        refine j_ialdJ (j := (l2).toNatClampNeg) (t_rowlt8 hf isT_trial (j_ix b8)) (t_row8 hf isT_trial (j_ix b8)).2 b9 rfl dX0_grudge_100 ?_
        refine j_iload 0 rfl dX0_grudge_101 ?_
        refine j_isub dX0_grudge_103 ?_
        refine j_mmax q1280 q899 q153 q900 (Nat.le_of_ble_eq_true rfl) (by decide) dX0_grudge_104 ?_
        obtain ⟨b10, h⟩ := h
        refine j_iastJ (j := (l2).toNatClampNeg) (t_rowlt8 hf isT_trial (j_ix b7)) (t_row8 hf isT_trial (j_ix b7)).2 b10 rfl dX0_grudge_107 (fun A11 eA11 => ?_)
        replace h := h A11 eA11
        refine j_aload_n 1 rfl dX0_grudge_108 ?_
        refine j_getfr fl_X0_59_0 rfl (f_lt hf (by decide)) (fk_0 hf) (fg_0_8 hf) dX0_grudge_109 ?_
        refine j_getfr fl_X0_238_5 rfl (t_lt hf isT_trial (j := 0) (by decide)) (tk_0 hf isT_trial) (tg_0_8 hf isT_trial) dX0_grudge_112 ?_
        refine j_iload_n 2 rfl dX0_grudge_115 ?_
        obtain ⟨b12, h⟩ := h
        refine j_aaldJ (t := 11) (j := (l1).toNatClampNeg) rfl rfl rfl (t_lt hf isT_trial (j := 14) (by decide)) (tk_14 hf isT_trial) b12 rfl (t_row14 hf isT_trial (j_ix b12)).1 dX0_grudge_116 ?_
        refine j_iload_n 3 rfl dX0_grudge_117 ?_
        refine j_iconst (v := 0) dX0_grudge_118 (by decide) ?_
        refine j_aload_n 1 rfl dX0_grudge_119 ?_
        refine j_getfr fl_X0_59_0 rfl (f_lt hf (by decide)) (fk_0 hf) (fg_0_8 hf) dX0_grudge_120 ?_
        refine j_getfr fl_X0_238_5 rfl (t_lt hf isT_trial (j := 0) (by decide)) (tk_0 hf isT_trial) (tg_0_8 hf isT_trial) dX0_grudge_123 ?_
        refine j_iload_n 2 rfl dX0_grudge_126 ?_
        obtain ⟨b13, h⟩ := h
        refine j_aaldJ (t := 11) (j := (l1).toNatClampNeg) rfl rfl rfl (t_lt hf isT_trial (j := 14) (by decide)) (tk_14 hf isT_trial) b13 rfl (t_row14 hf isT_trial (j_ix b13)).1 dX0_grudge_127 ?_
        refine j_iload_n 3 rfl dX0_grudge_128 ?_
        obtain ⟨b14, h⟩ := h
        refine j_ialdJ (j := (l2).toNatClampNeg) (t_rowlt14 hf isT_trial (j_ix b13)) (t_row14 hf isT_trial (j_ix b13)).2 b14 rfl dX0_grudge_129 ?_
        refine j_iload 0 rfl dX0_grudge_130 ?_
        refine j_isub dX0_grudge_132 ?_
        refine j_mmax q1280 q899 q153 q900 (Nat.le_of_ble_eq_true rfl) (by decide) dX0_grudge_133 ?_
        obtain ⟨b15, h⟩ := h
        refine j_iastJ (j := (l2).toNatClampNeg) (t_rowlt14 hf isT_trial (j_ix b12)) (t_row14 hf isT_trial (j_ix b12)).2 b15 rfl dX0_grudge_136 (fun A16 eA16 => ?_)
        replace h := h A16 eA16
        refine j_iinc (v := l3 + 1) 4 rfl rfl (by decide) rfl dX0_grudge_137 ?_
        refine j_goto (tgt := 31) dX0_grudge_140 (by decide) ?_
        refine j_ls [2, 3, 4, 0] rfl ?_
        exact ih l1 l2 (l3 + 1) A16 h
      · rw [if_neg c] at h
        refine j_iload_n 3 rfl dX0_grudge_62 ?_
        refine j_iret rfl ?_ dX0_grudge_63
        rw [hP]
        exact ⟨l3, A, rfl, rfl, h⟩
def fX0_grudge (tx : Nat) (n : Nat) (K : Nat → pKd) (A : pA) (G : pG) (p1 : Int32) (p2 : Int32) (Q : Int32 → pA → Prop) : Prop :=
    fX0_isDog tx A p1 (fun r17 => (if r17 = 0 then Q (-1) A else fX0_isPerson tx A p2 (fun r18 => (if r18 = 0 then Q (-1) A else fX5_takes 48 25 A (fun A19 => ∃ m20, fX0_grudge_L31 tx n K G  Q m20 p1 p2 0 A19)))))
theorem tX0_grudge {Γ : jG} {n : Nat} {K : Nat → pKd} {G : pG} {A : pA} {Lg : pL} (hf : fOK n K G) (tx : Nat) (ht : G 0 3 = .ref tx) (hx : xOK n K G tx) (p1 : Int32) (p2 : Int32) (Q : Int32 → pA → Prop) (h : fX0_grudge tx n K A G p1 p2 Q) : jMet Γ yX0_grudge cX0_grudge 5 (some .int) [] 504 0 0 [.ref 0, .int p1, .int p2] (n, K, A, Lg, G) (fun o u => ∃ (r : Int32) (A' : pA), o = .inl (some (.int r)) ∧ u = (n, K, A', Lg, G) ∧ Q r A') := by
  unfold fX0_grudge at h
  obtain ⟨P, hP⟩ : ∃ P : jO → pS → Prop, P = (fun o u => ∃ (r : Int32) (A' : pA), o = .inl (some (.int r)) ∧ u = (n, K, A', Lg, G) ∧ Q r A') := ⟨_, rfl⟩
  rw [← hP]
  refine jMet_of rfl rfl rfl (Nat.le_of_ble_eq_true rfl) ?_
  show J Γ RX0 cX0_grudge 5 (some .int) "grudge" [] 504 0 0 0 [(0, .ref 0), (1, .int p1), (2, .int p2)] [] (n, K, A, Lg, G) P
  refine j_aload_n 0 rfl dX0_grudge_0 ?_
  refine j_iload_n 1 rfl dX0_grudge_1 ?_
  refine j_callV (b := 0) (As := [.int p1]) (st := []) (C := RX0) (kc' := 0) (ks' := 0) (tX0_isDog hf tx ht hx p1 _ h) myX0_isDog rfl q1215 q1217 qs37 (by decide) (fun s9 H9 hK9 hR9 h69 => jIs_in hK9 hR9 h69 (f_lt hf (by decide)) (fk_0 hf) rfl) rfl (Nat.le_of_ble_eq_true rfl) rfl (by decide) (Nat.le_refl 0) (Nat.le_refl 0) dX0_grudge_2 (fun v9 u9 hq => ?_) (fun k9 u9 hq => by obtain ⟨_, e9, _⟩ := hq; cases e9)
  obtain ⟨r17, e9, rfl, h⟩ := hq
  obtain rfl := Sum.inl.inj e9
  show J Γ RX0 cX0_grudge 5 (some .int) "grudge" [] 504 0 0 5 [(0, .ref 0), (1, .int p1), (2, .int p2)] [.int r17] (n, K, A, Lg, G) P
  refine j_if_eq (tgt := 16) dX0_grudge_5 (by decide) (fun c => ?_) (fun c => ?_)
  · rw [if_pos c] at h
    refine j_iconst (v := (-1)) dX0_grudge_16 (by decide) ?_
    refine j_iret rfl ?_ dX0_grudge_17
    rw [hP]
    exact ⟨(-1), A, rfl, rfl, h⟩
  · rw [if_neg c] at h
    refine j_aload_n 0 rfl dX0_grudge_8 ?_
    refine j_iload_n 2 rfl dX0_grudge_9 ?_
    refine j_callV (b := 0) (As := [.int p2]) (st := []) (C := RX0) (kc' := 0) (ks' := 0) (tX0_isPerson hf tx ht hx p2 _ h) myX0_isPerson rfl q1224 q1226 qs38 (by decide) (fun s9 H9 hK9 hR9 h69 => jIs_in hK9 hR9 h69 (f_lt hf (by decide)) (fk_0 hf) rfl) rfl (Nat.le_of_ble_eq_true rfl) rfl (by decide) (Nat.le_refl 0) (Nat.le_refl 0) dX0_grudge_10 (fun v9 u9 hq => ?_) (fun k9 u9 hq => by obtain ⟨_, e9, _⟩ := hq; cases e9)
    obtain ⟨r18, e9, rfl, h⟩ := hq
    obtain rfl := Sum.inl.inj e9
    show J Γ RX0 cX0_grudge 5 (some .int) "grudge" [] 504 0 0 13 [(0, .ref 0), (1, .int p1), (2, .int p2)] [.int r18] (n, K, A, Lg, G) P
    refine j_if_ne (tgt := 18) dX0_grudge_13 (by decide) (fun c => ?_) (fun c => ?_)
    · rw [if_neg c] at h
      refine j_aload_n 0 rfl dX0_grudge_18 ?_
      refine j_getfr fl_X0_59_0 rfl (f_lt hf (by decide)) (fk_0 hf) (fg_0_8 hf) dX0_grudge_19 ?_
      refine j_aload_n 0 rfl dX0_grudge_22 ?_
      refine j_getfr fl_X0_55_0 rfl (f_lt hf (by decide)) (fk_0 hf) (fg_0_7 hf) dX0_grudge_23 ?_
      refine j_callV (b := 48) (As := [.ref 25]) (st := []) (C := RX5) (kc' := 0) (ks' := 0) (tX5_takes hf 48 isT_trial 25 isT_town _ h) myX5_takes rfl q1293 q1294 q1295 (j_l2 hf.1 (t_lt hf isT_trial (j := 0) (by decide))) (fun s9 H9 hK9 hR9 h69 => jIs_in hK9 hR9 h69 (t_lt hf isT_trial (j := 0) (by decide)) (tk_0 hf isT_trial) rfl) rfl (Nat.le_of_ble_eq_true rfl) rfl (by decide) (Nat.le_refl 0) (Nat.le_refl 0) dX0_grudge_26 (fun v9 u9 hq => ?_) (fun k9 u9 hq => by obtain ⟨_, e9, _⟩ := hq; cases e9)
      obtain ⟨A19, e9, rfl, h⟩ := hq
      obtain rfl := Sum.inl.inj e9
      show J Γ RX0 cX0_grudge 5 (some .int) "grudge" [] 504 0 0 29 [(0, .ref 0), (1, .int p1), (2, .int p2)] [] (n, K, A19, Lg, G) P
      refine j_iconst (v := 0) dX0_grudge_29 (by decide) ?_
      refine j_istore_n (by decide) rfl dX0_grudge_30 ?_
      refine j_ls [1, 2, 3, 0] rfl ?_
      obtain ⟨m20, h⟩ := h
      exact fX0_grudge_L31_ok hf tx ht hx Q P hP   m20 p1 p2 0 A19 h
    · rw [if_pos c] at h
      refine j_iconst (v := (-1)) dX0_grudge_16 (by decide) ?_
      refine j_iret rfl ?_ dX0_grudge_17
      rw [hP]
      exact ⟨(-1), A, rfl, rfl, h⟩
theorem myX0_share : jY yX0_share cX0_share 4 (some .int) 1 := ⟨q1423, q121, by decide +kernel, by decide +kernel, by decide⟩
def fX0_share_L14 (tx : Nat) (n : Nat) (K : Nat → pKd) (G : pG)  (Q : Int32 → pA → Prop) : Nat → Int32 → Int32 → Int32 → pA → Prop
  | 0, _, _, _, _ => False
  | n9 + 1, l1, l2, l3, A =>
    fX0_dogs tx A (fun r1 => (if r1 ≤ l3 then (if l2 = 0 then Q 0 A else fX0_sum (25 + 2) 5 A (fun r2 => fX5_dues 25 tx n K A G l1 (fun r3 A4 => (¬ l2 = 0) ∧ (Q ((r2 * r3) / l2) A4)))) else fX5_dues 25 tx n K A G l3 (fun r6 A7 => fX0_share_L14 tx n K G  Q n9 l1 (l2 + r6) (l3 + 1) A7)))
theorem fX0_share_L14_ok {Γ : jG} {n : Nat} {K : Nat → pKd} {G : pG} {Lg : pL} (hf : fOK n K G) (tx : Nat) (ht : G 0 3 = .ref tx) (hx : xOK n K G tx) (Q : Int32 → pA → Prop) (P : jO → pS → Prop) (hP : P = (fun o u => ∃ (r : Int32) (A' : pA), o = .inl (some (.int r)) ∧ u = (n, K, A', Lg, G) ∧ Q r A'))    : ∀ (n9 : Nat) (l1 : Int32) (l2 : Int32) (l3 : Int32) (A : pA), fX0_share_L14 tx n K G  Q n9 l1 l2 l3 A → J Γ RX0 cX0_share 4 (some .int) "share" [] 504 0 0 14 [(0, .ref 0), (1, .int l1), (2, .int l2), (3, .int l3)] [] (n, K, A, Lg, G) P := by
  intro n9
  induction n9 with
  | zero => intro l1 l2 l3 A h; exact h.elim
  | succ n9 ih =>
    intro l1 l2 l3 A h
    unfold fX0_share_L14 at h
    refine j_iload_n 3 rfl dX0_share_14 ?_
    refine j_aload_n 0 rfl dX0_share_15 ?_
    refine j_callV (b := 0) (As := []) (st := [.int l3]) (C := RX0) (kc' := 0) (ks' := 0) (tX0_dogs hf tx ht hx _ h) myX0_dogs rfl q1199 q1201 qs34 (by decide) (fun s9 H9 hK9 hR9 h69 => jIs_in hK9 hR9 h69 (f_lt hf (by decide)) (fk_0 hf) rfl) rfl (Nat.le_of_ble_eq_true rfl) rfl (by decide) (Nat.le_refl 0) (Nat.le_refl 0) dX0_share_16 (fun v9 u9 hq => ?_) (fun k9 u9 hq => by obtain ⟨_, e9, _⟩ := hq; cases e9)
    obtain ⟨r1, e9, rfl, h⟩ := hq
    obtain rfl := Sum.inl.inj e9
    show J Γ RX0 cX0_share 4 (some .int) "share" [] 504 0 0 19 [(0, .ref 0), (1, .int l1), (2, .int l2), (3, .int l3)] [.int r1, .int l3] (n, K, A, Lg, G) P
    refine j_icmp_ge (tgt := 43) dX0_share_19 (by decide) (fun c => ?_) (fun c => ?_)
    · rw [if_pos c] at h
      refine j_iload_n 2 rfl dX0_share_43 ?_
      refine j_if_ne (tgt := 51) dX0_share_44 (by decide) (fun c => ?_) (fun c => ?_)
      · rw [if_neg c] at h
        refine j_aload_n 0 rfl dX0_share_51 ?_
        refine j_getfr fl_X0_55_0 rfl (f_lt hf (by decide)) (fk_0 hf) (fg_0_7 hf) dX0_share_52 ?_
        refine j_getfr fl_X0_201_5 rfl (t_lt hf isT_town (j := 0) (by decide)) (tk_0 hf isT_town) (tg_0_1 hf isT_town) dX0_share_55 ?_
        refine j_callS (As := [.ref (25 + 2)]) (st := []) (kc' := 0) (ks' := 0) (tX0_sum hf (25 + 2) 5 (t_lt hf isT_town (j := 2) (by decide)) (tk_2 hf isT_town) _ h) myX0_sum q1428 q1429 rfl (Nat.le_of_ble_eq_true rfl) rfl (by decide) (Nat.le_refl 0) (Nat.le_refl 0) dX0_share_58 (fun v9 u9 hq => ?_) (fun k9 u9 hq => by obtain ⟨_, e9, _⟩ := hq; cases e9)
        obtain ⟨r2, e9, rfl, h⟩ := hq
        obtain rfl := Sum.inl.inj e9
        show J Γ RX0 cX0_share 4 (some .int) "share" [] 504 0 0 61 [(0, .ref 0), (1, .int l1), (2, .int l2), (3, .int l3)] [.int r2] (n, K, A, Lg, G) P
        refine j_aload_n 0 rfl dX0_share_61 ?_
        refine j_getfr fl_X0_55_0 rfl (f_lt hf (by decide)) (fk_0 hf) (fg_0_7 hf) dX0_share_62 ?_
        refine j_aload_n 0 rfl dX0_share_65 ?_
        refine j_getfr fl_X0_44_0 rfl (f_lt hf (by decide)) (fk_0 hf) ht dX0_share_66 ?_
        refine j_iload_n 1 rfl dX0_share_69 ?_
        refine j_callV (b := 25) (As := [.ref tx, .int l1]) (st := [.int r2]) (C := RX5) (kc' := 0) (ks' := 0) (tX5_dues hf 25 isT_town tx hx l1 _ h) myX5_dues rfl q1424 q1425 q1426 (j_l2 hf.1 (t_lt hf isT_town (j := 0) (by decide))) (fun s9 H9 hK9 hR9 h69 => jIs_in hK9 hR9 h69 (t_lt hf isT_town (j := 0) (by decide)) (tk_0 hf isT_town) rfl) rfl (Nat.le_of_ble_eq_true rfl) rfl (by decide) (Nat.le_refl 0) (Nat.le_refl 0) dX0_share_70 (fun v9 u9 hq => ?_) (fun k9 u9 hq => by obtain ⟨_, _, e9, _⟩ := hq; cases e9)
        obtain ⟨r3, A4, e9, rfl, h⟩ := hq
        obtain rfl := Sum.inl.inj e9
        show J Γ RX0 cX0_share 4 (some .int) "share" [] 504 0 0 73 [(0, .ref 0), (1, .int l1), (2, .int l2), (3, .int l3)] [.int r3, .int r2] (n, K, A4, Lg, G) P
        refine j_imul dX0_share_73 ?_
        refine j_iload_n 2 rfl dX0_share_74 ?_
        obtain ⟨b5, h⟩ := h
        refine j_idiv b5 dX0_share_75 ?_
        refine j_iret rfl ?_ dX0_share_76
        rw [hP]
        exact ⟨(r2 * r3) / l2, A4, rfl, rfl, h⟩
      · rw [if_pos c] at h
        refine j_iconst (v := 0) dX0_share_47 (by decide) ?_
        refine j_goto (tgt := 76) dX0_share_48 (by decide) ?_
        refine j_iret rfl ?_ dX0_share_76
        rw [hP]
        exact ⟨0, A, rfl, rfl, h⟩
    · rw [if_neg c] at h
      refine j_iload_n 2 rfl dX0_share_22 ?_
      refine j_aload_n 0 rfl dX0_share_23 ?_
      refine j_getfr fl_X0_55_0 rfl (f_lt hf (by decide)) (fk_0 hf) (fg_0_7 hf) dX0_share_24 ?_
      refine j_aload_n 0 rfl dX0_share_27 ?_
      refine j_getfr fl_X0_44_0 rfl (f_lt hf (by decide)) (fk_0 hf) ht dX0_share_28 ?_
      refine j_iload_n 3 rfl dX0_share_31 ?_
      refine j_callV (b := 25) (As := [.ref tx, .int l3]) (st := [.int l2]) (C := RX5) (kc' := 0) (ks' := 0) (tX5_dues hf 25 isT_town tx hx l3 _ h) myX5_dues rfl q1424 q1425 q1426 (j_l2 hf.1 (t_lt hf isT_town (j := 0) (by decide))) (fun s9 H9 hK9 hR9 h69 => jIs_in hK9 hR9 h69 (t_lt hf isT_town (j := 0) (by decide)) (tk_0 hf isT_town) rfl) rfl (Nat.le_of_ble_eq_true rfl) rfl (by decide) (Nat.le_refl 0) (Nat.le_refl 0) dX0_share_32 (fun v9 u9 hq => ?_) (fun k9 u9 hq => by obtain ⟨_, _, e9, _⟩ := hq; cases e9)
      obtain ⟨r6, A7, e9, rfl, h⟩ := hq
      obtain rfl := Sum.inl.inj e9
      show J Γ RX0 cX0_share 4 (some .int) "share" [] 504 0 0 35 [(0, .ref 0), (1, .int l1), (2, .int l2), (3, .int l3)] [.int r6, .int l2] (n, K, A7, Lg, G) P
      refine j_iadd dX0_share_35 ?_
      refine j_istore_n (by decide) rfl dX0_share_36 ?_
      refine j_iinc (v := l3 + 1) 3 rfl rfl (by decide) rfl dX0_share_37 ?_
      refine j_goto (tgt := 14) dX0_share_40 (by decide) ?_
      refine j_ls [2, 3, 1, 0] rfl ?_
      exact ih l1 (l2 + r6) (l3 + 1) A7 h
def fX0_share (tx : Nat) (n : Nat) (K : Nat → pKd) (A : pA) (G : pG) (p1 : Int32) (Q : Int32 → pA → Prop) : Prop :=
    fX0_isDog tx A p1 (fun r8 => (if r8 = 0 then Q (-1) A else ∃ m9, fX0_share_L14 tx n K G  Q m9 p1 0 0 A))
theorem tX0_share {Γ : jG} {n : Nat} {K : Nat → pKd} {G : pG} {A : pA} {Lg : pL} (hf : fOK n K G) (tx : Nat) (ht : G 0 3 = .ref tx) (hx : xOK n K G tx) (p1 : Int32) (Q : Int32 → pA → Prop) (h : fX0_share tx n K A G p1 Q) : jMet Γ yX0_share cX0_share 4 (some .int) [] 504 0 0 [.ref 0, .int p1] (n, K, A, Lg, G) (fun o u => ∃ (r : Int32) (A' : pA), o = .inl (some (.int r)) ∧ u = (n, K, A', Lg, G) ∧ Q r A') := by
  unfold fX0_share at h
  obtain ⟨P, hP⟩ : ∃ P : jO → pS → Prop, P = (fun o u => ∃ (r : Int32) (A' : pA), o = .inl (some (.int r)) ∧ u = (n, K, A', Lg, G) ∧ Q r A') := ⟨_, rfl⟩
  rw [← hP]
  refine jMet_of rfl rfl rfl (Nat.le_of_ble_eq_true rfl) ?_
  show J Γ RX0 cX0_share 4 (some .int) "share" [] 504 0 0 0 [(0, .ref 0), (1, .int p1)] [] (n, K, A, Lg, G) P
  refine j_aload_n 0 rfl dX0_share_0 ?_
  refine j_iload_n 1 rfl dX0_share_1 ?_
  refine j_callV (b := 0) (As := [.int p1]) (st := []) (C := RX0) (kc' := 0) (ks' := 0) (tX0_isDog hf tx ht hx p1 _ h) myX0_isDog rfl q1215 q1217 qs37 (by decide) (fun s9 H9 hK9 hR9 h69 => jIs_in hK9 hR9 h69 (f_lt hf (by decide)) (fk_0 hf) rfl) rfl (Nat.le_of_ble_eq_true rfl) rfl (by decide) (Nat.le_refl 0) (Nat.le_refl 0) dX0_share_2 (fun v9 u9 hq => ?_) (fun k9 u9 hq => by obtain ⟨_, e9, _⟩ := hq; cases e9)
  obtain ⟨r8, e9, rfl, h⟩ := hq
  obtain rfl := Sum.inl.inj e9
  show J Γ RX0 cX0_share 4 (some .int) "share" [] 504 0 0 5 [(0, .ref 0), (1, .int p1)] [.int r8] (n, K, A, Lg, G) P
  refine j_if_ne (tgt := 10) dX0_share_5 (by decide) (fun c => ?_) (fun c => ?_)
  · rw [if_neg c] at h
    refine j_iconst (v := 0) dX0_share_10 (by decide) ?_
    refine j_istore_n (by decide) rfl dX0_share_11 ?_
    refine j_iconst (v := 0) dX0_share_12 (by decide) ?_
    refine j_istore_n (by decide) rfl dX0_share_13 ?_
    refine j_ls [2, 3, 1, 0] rfl ?_
    obtain ⟨m9, h⟩ := h
    exact fX0_share_L14_ok hf tx ht hx Q P hP   m9 p1 0 0 A h
  · rw [if_pos c] at h
    refine j_iconst (v := (-1)) dX0_share_8 (by decide) ?_
    refine j_iret rfl ?_ dX0_share_9
    rw [hP]
    exact ⟨(-1), A, rfl, rfl, h⟩
theorem myX0_nextHour : jY yX0_nextHour cX0_nextHour 2 none 0 := ⟨q1442, q121, by decide +kernel, by decide +kernel, by decide⟩
def fX0_nextHour_L40 (tx : Nat) (n : Nat) (K : Nat → pKd) (G : pG)  (Q : pA → Prop) : Nat → Int32 → pA → Prop
  | 0, _, _ => False
  | n9 + 1, l1, A =>
    (if 4 ≤ l1 then Q A else (vp_in l1 4) ∧ (∀ A2 : pA, A2 = pup A (48 + 5) (l1).toNatClampNeg (-2) → fX0_nextHour_L40 tx n K G  Q n9 (l1 + 1) A2))
theorem fX0_nextHour_L40_ok {Γ : jG} {n : Nat} {K : Nat → pKd} {G : pG} {Lg : pL} (hf : fOK n K G) (tx : Nat) (ht : G 0 3 = .ref tx) (hx : xOK n K G tx) (Q : pA → Prop) (P : jO → pS → Prop) (hP : P = (fun o u => ∃ (A' : pA), o = .inl none ∧ u = (n, K, A', Lg, G) ∧ Q A'))    : ∀ (n9 : Nat) (l1 : Int32) (A : pA), fX0_nextHour_L40 tx n K G  Q n9 l1 A → J Γ RX0 cX0_nextHour 2 none "nextHour" [] 5 0 0 40 [(0, .ref 0), (1, .int l1)] [] (n, K, A, Lg, G) P := by
  intro n9
  induction n9 with
  | zero => intro l1 A h; exact h.elim
  | succ n9 ih =>
    intro l1 A h
    unfold fX0_nextHour_L40 at h
    refine j_iload_n 1 rfl dX0_nextHour_40 ?_
    refine j_iconst (v := 4) dX0_nextHour_41 (by decide) ?_
    refine j_icmp_ge (tgt := 62) dX0_nextHour_42 (by decide) (fun c => ?_) (fun c => ?_)
    · rw [if_pos c] at h
      refine j_vret rfl ?_ dX0_nextHour_62
      rw [hP]
      exact ⟨A, rfl, rfl, h⟩
    · rw [if_neg c] at h
      refine j_aload_n 0 rfl dX0_nextHour_45 ?_
      refine j_getfr fl_X0_59_0 rfl (f_lt hf (by decide)) (fk_0 hf) (fg_0_8 hf) dX0_nextHour_46 ?_
      refine j_getfr fl_X0_221_5 rfl (t_lt hf isT_trial (j := 0) (by decide)) (tk_0 hf isT_trial) (tg_0_4 hf isT_trial) dX0_nextHour_49 ?_
      refine j_iload_n 1 rfl dX0_nextHour_52 ?_
      refine j_bipush (v := (-2)) dX0_nextHour_53 (by decide) ?_
      obtain ⟨b1, h⟩ := h
      refine j_iastJ (j := (l1).toNatClampNeg) (t_lt hf isT_trial (j := 5) (by decide)) (tk_5 hf isT_trial) b1 rfl dX0_nextHour_55 (fun A2 eA2 => ?_)
      replace h := h A2 eA2
      refine j_iinc (v := l1 + 1) 1 rfl rfl (by decide) rfl dX0_nextHour_56 ?_
      refine j_goto (tgt := 40) dX0_nextHour_59 (by decide) ?_
      refine j_ls [1, 0] rfl ?_
      exact ih (l1 + 1) A2 h
def fX0_nextHour (tx : Nat) (n : Nat) (K : Nat → pKd) (A : pA) (G : pG) (Q : pA → Prop) : Prop :=
    fX5_takes 48 25 A (fun A3 => fX0_tillHour tx A3 (fun r4 => ∀ A5 : pA, A5 = pup A3 48 11 ((A3 48 11) + r4) → fX5_rests 48 tx n K A5 G (fun A6 => ∃ m7, fX0_nextHour_L40 tx n K G  Q m7 0 A6)))
theorem tX0_nextHour {Γ : jG} {n : Nat} {K : Nat → pKd} {G : pG} {A : pA} {Lg : pL} (hf : fOK n K G) (tx : Nat) (ht : G 0 3 = .ref tx) (hx : xOK n K G tx)  (Q : pA → Prop) (h : fX0_nextHour tx n K A G Q) : jMet Γ yX0_nextHour cX0_nextHour 2 none [] 5 0 0 [.ref 0] (n, K, A, Lg, G) (fun o u => ∃ (A' : pA), o = .inl none ∧ u = (n, K, A', Lg, G) ∧ Q A') := by
  unfold fX0_nextHour at h
  obtain ⟨P, hP⟩ : ∃ P : jO → pS → Prop, P = (fun o u => ∃ (A' : pA), o = .inl none ∧ u = (n, K, A', Lg, G) ∧ Q A') := ⟨_, rfl⟩
  rw [← hP]
  refine jMet_of rfl rfl rfl (Nat.le_of_ble_eq_true rfl) ?_
  show J Γ RX0 cX0_nextHour 2 none "nextHour" [] 5 0 0 0 [(0, .ref 0)] [] (n, K, A, Lg, G) P
  refine j_aload_n 0 rfl dX0_nextHour_0 ?_
  refine j_getfr fl_X0_59_0 rfl (f_lt hf (by decide)) (fk_0 hf) (fg_0_8 hf) dX0_nextHour_1 ?_
  refine j_aload_n 0 rfl dX0_nextHour_4 ?_
  refine j_getfr fl_X0_55_0 rfl (f_lt hf (by decide)) (fk_0 hf) (fg_0_7 hf) dX0_nextHour_5 ?_
  refine j_callV (b := 48) (As := [.ref 25]) (st := []) (C := RX5) (kc' := 0) (ks' := 0) (tX5_takes hf 48 isT_trial 25 isT_town _ h) myX5_takes rfl q1293 q1294 q1295 (j_l2 hf.1 (t_lt hf isT_trial (j := 0) (by decide))) (fun s9 H9 hK9 hR9 h69 => jIs_in hK9 hR9 h69 (t_lt hf isT_trial (j := 0) (by decide)) (tk_0 hf isT_trial) rfl) rfl (Nat.le_of_ble_eq_true rfl) rfl (by decide) (Nat.le_refl 0) (Nat.le_refl 0) dX0_nextHour_8 (fun v9 u9 hq => ?_) (fun k9 u9 hq => by obtain ⟨_, e9, _⟩ := hq; cases e9)
  obtain ⟨A3, e9, rfl, h⟩ := hq
  obtain rfl := Sum.inl.inj e9
  show J Γ RX0 cX0_nextHour 2 none "nextHour" [] 5 0 0 11 [(0, .ref 0)] [] (n, K, A3, Lg, G) P
  refine j_aload_n 0 rfl dX0_nextHour_11 ?_
  refine j_getfr fl_X0_59_0 rfl (f_lt hf (by decide)) (fk_0 hf) (fg_0_8 hf) dX0_nextHour_12 ?_
  refine j_dup rfl dX0_nextHour_15 ?_
  refine j_getfi fl_X0_276_5 rfl (t_lt hf isT_trial (j := 0) (by decide)) (tk_0 hf isT_trial) dX0_nextHour_16 ?_
  refine j_aload_n 0 rfl dX0_nextHour_19 ?_
  refine j_callV (b := 0) (As := []) (st := [.int (A3 48 11), .ref 48]) (C := RX0) (kc' := 0) (ks' := 0) (tX0_tillHour hf tx ht hx _ h) myX0_tillHour rfl q1385 q1387 qs46 (by decide) (fun s9 H9 hK9 hR9 h69 => jIs_in hK9 hR9 h69 (f_lt hf (by decide)) (fk_0 hf) rfl) rfl (Nat.le_of_ble_eq_true rfl) rfl (by decide) (Nat.le_refl 0) (Nat.le_refl 0) dX0_nextHour_20 (fun v9 u9 hq => ?_) (fun k9 u9 hq => by obtain ⟨_, e9, _⟩ := hq; cases e9)
  obtain ⟨r4, e9, rfl, h⟩ := hq
  obtain rfl := Sum.inl.inj e9
  show J Γ RX0 cX0_nextHour 2 none "nextHour" [] 5 0 0 23 [(0, .ref 0)] [.int r4, .int (A3 48 11), .ref 48] (n, K, A3, Lg, G) P
  refine j_iadd dX0_nextHour_23 ?_
  refine j_putfiE (fp_X0_276_5 _) rfl rfl rfl (t_lt hf isT_trial (j := 0) (by decide)) (tk_0 hf isT_trial) dX0_nextHour_24 (fun A5 eA5 => ?_)
  replace h := h A5 eA5
  refine j_aload_n 0 rfl dX0_nextHour_27 ?_
  refine j_getfr fl_X0_59_0 rfl (f_lt hf (by decide)) (fk_0 hf) (fg_0_8 hf) dX0_nextHour_28 ?_
  refine j_aload_n 0 rfl dX0_nextHour_31 ?_
  refine j_getfr fl_X0_44_0 rfl (f_lt hf (by decide)) (fk_0 hf) ht dX0_nextHour_32 ?_
  refine j_callV (b := 48) (As := [.ref tx]) (st := []) (C := RX5) (kc' := 0) (ks' := 0) (tX5_rests hf 48 isT_trial tx hx _ h) myX5_rests rfl q1443 q1363 q1364 (j_l2 hf.1 (t_lt hf isT_trial (j := 0) (by decide))) (fun s9 H9 hK9 hR9 h69 => jIs_in hK9 hR9 h69 (t_lt hf isT_trial (j := 0) (by decide)) (tk_0 hf isT_trial) rfl) rfl (Nat.le_of_ble_eq_true rfl) rfl (by decide) (Nat.le_refl 0) (Nat.le_refl 0) dX0_nextHour_35 (fun v9 u9 hq => ?_) (fun k9 u9 hq => by obtain ⟨_, e9, _⟩ := hq; cases e9)
  obtain ⟨A6, e9, rfl, h⟩ := hq
  obtain rfl := Sum.inl.inj e9
  show J Γ RX0 cX0_nextHour 2 none "nextHour" [] 5 0 0 38 [(0, .ref 0)] [] (n, K, A6, Lg, G) P
  refine j_iconst (v := 0) dX0_nextHour_38 (by decide) ?_
  refine j_istore_n (by decide) rfl dX0_nextHour_39 ?_
  refine j_ls [1, 0] rfl ?_
  obtain ⟨m7, h⟩ := h
  exact fX0_nextHour_L40_ok hf tx ht hx Q P hP   m7 0 A6 h
theorem myX0_fetchedIn : jY yX0_fetchedIn cX0_fetchedIn 3 (some .int) 0 := ⟨q1447, q121, by decide +kernel, by decide +kernel, by decide⟩
def fX0_fetchedIn_L21 (tx : Nat) (n : Nat) (K : Nat → pKd) (G : pG) (k8 : Int32 → pA → Prop) (Q : Int32 → pA → Prop) : Nat → Int32 → Int32 → pA → Prop
  | 0, _, _, _ => False
  | n9 + 1, l1, l2, A =>
    fX0_dogs tx A (fun r1 => (if r1 ≤ l2 then ∀ A2 : pA, A2 = pup A 48 11 ((A 48 11) + 1) → k8 (l1 + 1) A2 else fX5_hunts 48 tx n K A G l2 (fun A3 => fX0_fetchedIn_L21 tx n K G k8 Q n9 l1 (l2 + 1) A3)))
theorem fX0_fetchedIn_L21_ok {Γ : jG} {n : Nat} {K : Nat → pKd} {G : pG} {Lg : pL} (hf : fOK n K G) (tx : Nat) (ht : G 0 3 = .ref tx) (hx : xOK n K G tx) (Q : Int32 → pA → Prop) (P : jO → pS → Prop) (hP : P = (fun o u => ∃ (r : Int32) (A' : pA), o = .inl (some (.int r)) ∧ u = (n, K, A', Lg, G) ∧ Q r A'))  (k8 : Int32 → pA → Prop) (ok8 : ∀ (l1 : Int32) (A : pA), k8 l1 A → J Γ RX0 cX0_fetchedIn 3 (some .int) "fetchedIn" [] 506 0 0 8 [(0, .ref 0), (1, .int l1)] [] (n, K, A, Lg, G) P) : ∀ (n9 : Nat) (l1 : Int32) (l2 : Int32) (A : pA), fX0_fetchedIn_L21 tx n K G k8 Q n9 l1 l2 A → J Γ RX0 cX0_fetchedIn 3 (some .int) "fetchedIn" [] 506 0 0 21 [(0, .ref 0), (1, .int l1), (2, .int l2)] [] (n, K, A, Lg, G) P := by
  intro n9
  induction n9 with
  | zero => intro l1 l2 A h; exact h.elim
  | succ n9 ih =>
    intro l1 l2 A h
    unfold fX0_fetchedIn_L21 at h
    refine j_iload_n 2 rfl dX0_fetchedIn_21 ?_
    refine j_aload_n 0 rfl dX0_fetchedIn_22 ?_
    refine j_callV (b := 0) (As := []) (st := [.int l2]) (C := RX0) (kc' := 0) (ks' := 0) (tX0_dogs hf tx ht hx _ h) myX0_dogs rfl q1199 q1201 qs34 (by decide) (fun s9 H9 hK9 hR9 h69 => jIs_in hK9 hR9 h69 (f_lt hf (by decide)) (fk_0 hf) rfl) rfl (Nat.le_of_ble_eq_true rfl) rfl (by decide) (Nat.le_refl 0) (Nat.le_refl 0) dX0_fetchedIn_23 (fun v9 u9 hq => ?_) (fun k9 u9 hq => by obtain ⟨_, e9, _⟩ := hq; cases e9)
    obtain ⟨r1, e9, rfl, h⟩ := hq
    obtain rfl := Sum.inl.inj e9
    show J Γ RX0 cX0_fetchedIn 3 (some .int) "fetchedIn" [] 506 0 0 26 [(0, .ref 0), (1, .int l1), (2, .int l2)] [.int r1, .int l2] (n, K, A, Lg, G) P
    refine j_icmp_ge (tgt := 47) dX0_fetchedIn_26 (by decide) (fun c => ?_) (fun c => ?_)
    · rw [if_pos c] at h
      refine j_aload_n 0 rfl dX0_fetchedIn_47 ?_
      refine j_getfr fl_X0_59_0 rfl (f_lt hf (by decide)) (fk_0 hf) (fg_0_8 hf) dX0_fetchedIn_48 ?_
      refine j_dup rfl dX0_fetchedIn_51 ?_
      refine j_getfi fl_X0_276_5 rfl (t_lt hf isT_trial (j := 0) (by decide)) (tk_0 hf isT_trial) dX0_fetchedIn_52 ?_
      refine j_iconst (v := 1) dX0_fetchedIn_55 (by decide) ?_
      refine j_iadd dX0_fetchedIn_56 ?_
      refine j_putfiE (fp_X0_276_5 _) rfl rfl rfl (t_lt hf isT_trial (j := 0) (by decide)) (tk_0 hf isT_trial) dX0_fetchedIn_57 (fun A2 eA2 => ?_)
      replace h := h A2 eA2
      refine j_iinc (v := l1 + 1) 1 rfl rfl (by decide) rfl dX0_fetchedIn_60 ?_
      refine j_goto (tgt := 8) dX0_fetchedIn_63 (by decide) ?_
      refine j_ls [1, 0] rfl ?_
      exact ok8 (l1 + 1) A2 h
    · rw [if_neg c] at h
      refine j_aload_n 0 rfl dX0_fetchedIn_29 ?_
      refine j_getfr fl_X0_59_0 rfl (f_lt hf (by decide)) (fk_0 hf) (fg_0_8 hf) dX0_fetchedIn_30 ?_
      refine j_aload_n 0 rfl dX0_fetchedIn_33 ?_
      refine j_getfr fl_X0_44_0 rfl (f_lt hf (by decide)) (fk_0 hf) ht dX0_fetchedIn_34 ?_
      refine j_iload_n 2 rfl dX0_fetchedIn_37 ?_
      refine j_callV (b := 48) (As := [.ref tx, .int l2]) (st := []) (C := RX5) (kc' := 0) (ks' := 0) (tX5_hunts hf 48 isT_trial tx hx l2 _ h) myX5_hunts rfl q1448 q1349 q1350 (j_l2 hf.1 (t_lt hf isT_trial (j := 0) (by decide))) (fun s9 H9 hK9 hR9 h69 => jIs_in hK9 hR9 h69 (t_lt hf isT_trial (j := 0) (by decide)) (tk_0 hf isT_trial) rfl) rfl (Nat.le_of_ble_eq_true rfl) rfl (by decide) (Nat.le_refl 0) (Nat.le_refl 0) dX0_fetchedIn_38 (fun v9 u9 hq => ?_) (fun k9 u9 hq => by obtain ⟨_, e9, _⟩ := hq; cases e9)
      obtain ⟨A3, e9, rfl, h⟩ := hq
      obtain rfl := Sum.inl.inj e9
      show J Γ RX0 cX0_fetchedIn 3 (some .int) "fetchedIn" [] 506 0 0 41 [(0, .ref 0), (1, .int l1), (2, .int l2)] [] (n, K, A3, Lg, G) P
      refine j_iinc (v := l2 + 1) 2 rfl rfl (by decide) rfl dX0_fetchedIn_41 ?_
      refine j_goto (tgt := 21) dX0_fetchedIn_44 (by decide) ?_
      refine j_ls [1, 2, 0] rfl ?_
      exact ih l1 (l2 + 1) A3 h
def fX0_fetchedIn_L8 (tx : Nat) (n : Nat) (K : Nat → pKd) (G : pG)  (Q : Int32 → pA → Prop) : Nat → Int32 → pA → Prop
  | 0, _, _ => False
  | n9 + 1, l1, A =>
    (if (A tx 10) ≤ l1 then Q (A 48 9) A else ∃ m4, fX0_fetchedIn_L21 tx n K G (fun x0 x1 => fX0_fetchedIn_L8 tx n K G  Q n9 x0 x1) Q m4 l1 0 A)
theorem fX0_fetchedIn_L8_ok {Γ : jG} {n : Nat} {K : Nat → pKd} {G : pG} {Lg : pL} (hf : fOK n K G) (tx : Nat) (ht : G 0 3 = .ref tx) (hx : xOK n K G tx) (Q : Int32 → pA → Prop) (P : jO → pS → Prop) (hP : P = (fun o u => ∃ (r : Int32) (A' : pA), o = .inl (some (.int r)) ∧ u = (n, K, A', Lg, G) ∧ Q r A'))    : ∀ (n9 : Nat) (l1 : Int32) (A : pA), fX0_fetchedIn_L8 tx n K G  Q n9 l1 A → J Γ RX0 cX0_fetchedIn 3 (some .int) "fetchedIn" [] 506 0 0 8 [(0, .ref 0), (1, .int l1)] [] (n, K, A, Lg, G) P := by
  intro n9
  induction n9 with
  | zero => intro l1 A h; exact h.elim
  | succ n9 ih =>
    intro l1 A h
    unfold fX0_fetchedIn_L8 at h
    refine j_iload_n 1 rfl dX0_fetchedIn_8 ?_
    refine j_aload_n 0 rfl dX0_fetchedIn_9 ?_
    refine j_getfr fl_X0_44_0 rfl (f_lt hf (by decide)) (fk_0 hf) ht dX0_fetchedIn_10 ?_
    refine j_getfi fl_X0_318_4 rfl (x_lt hx (j := 0) (by decide)) (xk_0 hx) dX0_fetchedIn_13 ?_
    refine j_icmp_ge (tgt := 66) dX0_fetchedIn_16 (by decide) (fun c => ?_) (fun c => ?_)
    · rw [if_pos c] at h
      refine j_aload_n 0 rfl dX0_fetchedIn_66 ?_
      refine j_getfr fl_X0_59_0 rfl (f_lt hf (by decide)) (fk_0 hf) (fg_0_8 hf) dX0_fetchedIn_67 ?_
      refine j_getfi fl_X0_325_5 rfl (t_lt hf isT_trial (j := 0) (by decide)) (tk_0 hf isT_trial) dX0_fetchedIn_70 ?_
      refine j_iret rfl ?_ dX0_fetchedIn_73
      rw [hP]
      exact ⟨A 48 9, A, rfl, rfl, h⟩
    · rw [if_neg c] at h
      refine j_iconst (v := 0) dX0_fetchedIn_19 (by decide) ?_
      refine j_istore_n (by decide) rfl dX0_fetchedIn_20 ?_
      refine j_ls [1, 2, 0] rfl ?_
      obtain ⟨m4, h⟩ := h
      exact fX0_fetchedIn_L21_ok hf tx ht hx Q P hP (fun x0 x1 => fX0_fetchedIn_L8 tx n K G  Q n9 x0 x1) (fun x0 x1 h9 => ih x0 x1 h9) m4 l1 0 A h
def fX0_fetchedIn (tx : Nat) (n : Nat) (K : Nat → pKd) (A : pA) (G : pG) (Q : Int32 → pA → Prop) : Prop :=
    ∃ m5, fX0_fetchedIn_L8 tx n K G  Q m5 (A tx 9) A
theorem tX0_fetchedIn {Γ : jG} {n : Nat} {K : Nat → pKd} {G : pG} {A : pA} {Lg : pL} (hf : fOK n K G) (tx : Nat) (ht : G 0 3 = .ref tx) (hx : xOK n K G tx)  (Q : Int32 → pA → Prop) (h : fX0_fetchedIn tx n K A G Q) : jMet Γ yX0_fetchedIn cX0_fetchedIn 3 (some .int) [] 506 0 0 [.ref 0] (n, K, A, Lg, G) (fun o u => ∃ (r : Int32) (A' : pA), o = .inl (some (.int r)) ∧ u = (n, K, A', Lg, G) ∧ Q r A') := by
  unfold fX0_fetchedIn at h
  obtain ⟨P, hP⟩ : ∃ P : jO → pS → Prop, P = (fun o u => ∃ (r : Int32) (A' : pA), o = .inl (some (.int r)) ∧ u = (n, K, A', Lg, G) ∧ Q r A') := ⟨_, rfl⟩
  rw [← hP]
  refine jMet_of rfl rfl rfl (Nat.le_of_ble_eq_true rfl) ?_
  show J Γ RX0 cX0_fetchedIn 3 (some .int) "fetchedIn" [] 506 0 0 0 [(0, .ref 0)] [] (n, K, A, Lg, G) P
  refine j_aload_n 0 rfl dX0_fetchedIn_0 ?_
  refine j_getfr fl_X0_44_0 rfl (f_lt hf (by decide)) (fk_0 hf) ht dX0_fetchedIn_1 ?_
  refine j_getfi fl_X0_283_4 rfl (x_lt hx (j := 0) (by decide)) (xk_0 hx) dX0_fetchedIn_4 ?_
  refine j_istore_n (by decide) rfl dX0_fetchedIn_7 ?_
  refine j_ls [1, 0] rfl ?_
  obtain ⟨m5, h⟩ := h
  exact fX0_fetchedIn_L8_ok hf tx ht hx Q P hP   m5 (A tx 9) A h
theorem myX0_safeFor : jY yX0_safeFor cX0_safeFor 4 (some .int) 1 := ⟨q1438, q121, by decide +kernel, by decide +kernel, by decide⟩
def fX0_safeFor_J46 (tx : Nat) (n : Nat) (K : Nat → pKd) (G : pG) (k4 : Int32 → Int32 → Int32 → pA → Prop) (Q : Int32 → pA → Prop) (l1 : Int32) (l3 : Int32) (s0 : Int32) (s1 : Int32) (A : pA) : Prop :=
    k4 l1 (s1 ||| s0) (l3 + 1) A
theorem fX0_safeFor_J46_ok {Γ : jG} {n : Nat} {K : Nat → pKd} {G : pG} {Lg : pL} (hf : fOK n K G) (tx : Nat) (ht : G 0 3 = .ref tx) (hx : xOK n K G tx) (Q : Int32 → pA → Prop) (P : jO → pS → Prop) (hP : P = (fun o u => ∃ (r : Int32) (A' : pA), o = .inl (some (.int r)) ∧ u = (n, K, A', Lg, G) ∧ Q r A')) (k4 : Int32 → Int32 → Int32 → pA → Prop) (ok4 : ∀ (l1 : Int32) (l2 : Int32) (l3 : Int32) (A : pA), k4 l1 l2 l3 A → J Γ RX0 cX0_safeFor 4 (some .int) "safeFor" [] 507 0 0 4 [(0, .ref 0), (1, .int l1), (2, .int l2), (3, .int l3)] [] (n, K, A, Lg, G) P) (l1 : Int32) (l3 : Int32) (s0 : Int32) (s1 : Int32) (A : pA) (h : fX0_safeFor_J46 tx n K G k4 Q l1 l3 s0 s1 A) : J Γ RX0 cX0_safeFor 4 (some .int) "safeFor" [] 507 0 0 46 [(0, .ref 0), (1, .int l1), (3, .int l3)] [.int s0, .int s1] (n, K, A, Lg, G) P := by
  unfold fX0_safeFor_J46 at h
  refine j_ior dX0_safeFor_46 ?_
  refine j_istore_n (by decide) rfl dX0_safeFor_47 ?_
  refine j_iinc (v := l3 + 1) 3 rfl rfl (by decide) rfl dX0_safeFor_48 ?_
  refine j_goto (tgt := 4) dX0_safeFor_51 (by decide) ?_
  refine j_ls [2, 3, 1, 0] rfl ?_
  exact ok4 l1 (s1 ||| s0) (l3 + 1) A h
def fX0_safeFor_L4 (tx : Nat) (n : Nat) (K : Nat → pKd) (G : pG)  (Q : Int32 → pA → Prop) : Nat → Int32 → Int32 → Int32 → pA → Prop
  | 0, _, _, _, _ => False
  | n9 + 1, l1, l2, l3, A =>
    fX0_places tx A (fun r1 => (if r1 ≤ l3 then Q l2 A else fX0_nextHour tx n K A G (fun A2 => (vp_in l1 4) ∧ (∀ A4 : pA, A4 = pup A2 (48 + 4) (l1).toNatClampNeg l3 → fX0_fetchedIn tx n K A4 G (fun r5 A6 => (if ((r5 >>> (l1 &&& 31)) &&& 1) = 1 then fX0_safeFor_J46 tx n K G (fun x0 x1 x2 x3 => fX0_safeFor_L4 tx n K G  Q n9 x0 x1 x2 x3) Q l1 l3 0 l2 A6 else fX0_safeFor_J46 tx n K G (fun x0 x1 x2 x3 => fX0_safeFor_L4 tx n K G  Q n9 x0 x1 x2 x3) Q l1 l3 ((1 : Int32) <<< (l3 &&& 31)) l2 A6))))))
theorem fX0_safeFor_L4_ok {Γ : jG} {n : Nat} {K : Nat → pKd} {G : pG} {Lg : pL} (hf : fOK n K G) (tx : Nat) (ht : G 0 3 = .ref tx) (hx : xOK n K G tx) (Q : Int32 → pA → Prop) (P : jO → pS → Prop) (hP : P = (fun o u => ∃ (r : Int32) (A' : pA), o = .inl (some (.int r)) ∧ u = (n, K, A', Lg, G) ∧ Q r A'))    : ∀ (n9 : Nat) (l1 : Int32) (l2 : Int32) (l3 : Int32) (A : pA), fX0_safeFor_L4 tx n K G  Q n9 l1 l2 l3 A → J Γ RX0 cX0_safeFor 4 (some .int) "safeFor" [] 507 0 0 4 [(0, .ref 0), (1, .int l1), (2, .int l2), (3, .int l3)] [] (n, K, A, Lg, G) P := by
  intro n9
  induction n9 with
  | zero => intro l1 l2 l3 A h; exact h.elim
  | succ n9 ih =>
    intro l1 l2 l3 A h
    unfold fX0_safeFor_L4 at h
    refine j_iload_n 3 rfl dX0_safeFor_4 ?_
    refine j_aload_n 0 rfl dX0_safeFor_5 ?_
    refine j_callV (b := 0) (As := []) (st := [.int l3]) (C := RX0) (kc' := 0) (ks' := 0) (tX0_places hf tx ht hx _ h) myX0_places rfl q1189 q1191 qs33 (by decide) (fun s9 H9 hK9 hR9 h69 => jIs_in hK9 hR9 h69 (f_lt hf (by decide)) (fk_0 hf) rfl) rfl (Nat.le_of_ble_eq_true rfl) rfl (by decide) (Nat.le_refl 0) (Nat.le_refl 0) dX0_safeFor_6 (fun v9 u9 hq => ?_) (fun k9 u9 hq => by obtain ⟨_, e9, _⟩ := hq; cases e9)
    obtain ⟨r1, e9, rfl, h⟩ := hq
    obtain rfl := Sum.inl.inj e9
    show J Γ RX0 cX0_safeFor 4 (some .int) "safeFor" [] 507 0 0 9 [(0, .ref 0), (1, .int l1), (2, .int l2), (3, .int l3)] [.int r1, .int l3] (n, K, A, Lg, G) P
    refine j_icmp_ge (tgt := 54) dX0_safeFor_9 (by decide) (fun c => ?_) (fun c => ?_)
    · rw [if_pos c] at h
      refine j_iload_n 2 rfl dX0_safeFor_54 ?_
      refine j_iret rfl ?_ dX0_safeFor_55
      rw [hP]
      exact ⟨l2, A, rfl, rfl, h⟩
    · rw [if_neg c] at h
      refine j_aload_n 0 rfl dX0_safeFor_12 ?_
      refine j_callV (b := 0) (As := []) (st := []) (C := RX0) (kc' := 0) (ks' := 0) (tX0_nextHour hf tx ht hx _ h) myX0_nextHour rfl q1439 q1441 qs50 (by decide) (fun s9 H9 hK9 hR9 h69 => jIs_in hK9 hR9 h69 (f_lt hf (by decide)) (fk_0 hf) rfl) rfl (Nat.le_of_ble_eq_true rfl) rfl (by decide) (Nat.le_refl 0) (Nat.le_refl 0) dX0_safeFor_13 (fun v9 u9 hq => ?_) (fun k9 u9 hq => by obtain ⟨_, e9, _⟩ := hq; cases e9)
      obtain ⟨A2, e9, rfl, h⟩ := hq
      obtain rfl := Sum.inl.inj e9
      show J Γ RX0 cX0_safeFor 4 (some .int) "safeFor" [] 507 0 0 16 [(0, .ref 0), (1, .int l1), (2, .int l2), (3, .int l3)] [] (n, K, A2, Lg, G) P
      refine j_aload_n 0 rfl dX0_safeFor_16 ?_
      refine j_getfr fl_X0_59_0 rfl (f_lt hf (by decide)) (fk_0 hf) (fg_0_8 hf) dX0_safeFor_17 ?_
      refine j_getfr fl_X0_175_5 rfl (t_lt hf isT_trial (j := 0) (by decide)) (tk_0 hf isT_trial) (tg_0_3 hf isT_trial) dX0_safeFor_20 ?_
      refine j_iload_n 1 rfl dX0_safeFor_23 ?_
      refine j_iload_n 3 rfl dX0_safeFor_24 ?_
      obtain ⟨b3, h⟩ := h
      refine j_iastJ (j := (l1).toNatClampNeg) (t_lt hf isT_trial (j := 4) (by decide)) (tk_4 hf isT_trial) b3 rfl dX0_safeFor_25 (fun A4 eA4 => ?_)
      replace h := h A4 eA4
      refine j_iload_n 2 rfl dX0_safeFor_26 ?_
      refine j_aload_n 0 rfl dX0_safeFor_27 ?_
      refine j_callV (b := 0) (As := []) (st := [.int l2]) (C := RX0) (kc' := 0) (ks' := 0) (tX0_fetchedIn hf tx ht hx _ h) myX0_fetchedIn rfl q1444 q1446 qs51 (by decide) (fun s9 H9 hK9 hR9 h69 => jIs_in hK9 hR9 h69 (f_lt hf (by decide)) (fk_0 hf) rfl) rfl (Nat.le_of_ble_eq_true rfl) rfl (by decide) (Nat.le_refl 0) (Nat.le_refl 0) dX0_safeFor_28 (fun v9 u9 hq => ?_) (fun k9 u9 hq => by obtain ⟨_, _, e9, _⟩ := hq; cases e9)
      obtain ⟨r5, A6, e9, rfl, h⟩ := hq
      obtain rfl := Sum.inl.inj e9
      show J Γ RX0 cX0_safeFor 4 (some .int) "safeFor" [] 507 0 0 31 [(0, .ref 0), (1, .int l1), (2, .int l2), (3, .int l3)] [.int r5, .int l2] (n, K, A6, Lg, G) P
      refine j_iload_n 1 rfl dX0_safeFor_31 ?_
      refine j_ishr dX0_safeFor_32 ?_
      refine j_iconst (v := 1) dX0_safeFor_33 (by decide) ?_
      refine j_iand dX0_safeFor_34 ?_
      refine j_iconst (v := 1) dX0_safeFor_35 (by decide) ?_
      refine j_icmp_ne (tgt := 43) dX0_safeFor_36 (by decide) (fun c => ?_) (fun c => ?_)
      · rw [if_neg c] at h
        refine j_iconst (v := 1) dX0_safeFor_43 (by decide) ?_
        refine j_iload_n 3 rfl dX0_safeFor_44 ?_
        refine j_ishl dX0_safeFor_45 ?_
        refine j_ls [0, 1, 3] rfl ?_
        exact fX0_safeFor_J46_ok hf tx ht hx Q P hP (fun x0 x1 x2 x3 => fX0_safeFor_L4 tx n K G  Q n9 x0 x1 x2 x3) (fun x0 x1 x2 x3 h9 => ih x0 x1 x2 x3 h9) l1 l3 ((1 : Int32) <<< (l3 &&& 31)) l2 A6 h
      · rw [if_pos c] at h
        refine j_iconst (v := 0) dX0_safeFor_39 (by decide) ?_
        refine j_goto (tgt := 46) dX0_safeFor_40 (by decide) ?_
        refine j_ls [0, 1, 3] rfl ?_
        exact fX0_safeFor_J46_ok hf tx ht hx Q P hP (fun x0 x1 x2 x3 => fX0_safeFor_L4 tx n K G  Q n9 x0 x1 x2 x3) (fun x0 x1 x2 x3 h9 => ih x0 x1 x2 x3 h9) l1 l3 0 l2 A6 h
def fX0_safeFor (tx : Nat) (n : Nat) (K : Nat → pKd) (A : pA) (G : pG) (p1 : Int32) (Q : Int32 → pA → Prop) : Prop :=
    ∃ m7, fX0_safeFor_L4 tx n K G  Q m7 p1 0 0 A
theorem tX0_safeFor {Γ : jG} {n : Nat} {K : Nat → pKd} {G : pG} {A : pA} {Lg : pL} (hf : fOK n K G) (tx : Nat) (ht : G 0 3 = .ref tx) (hx : xOK n K G tx) (p1 : Int32) (Q : Int32 → pA → Prop) (h : fX0_safeFor tx n K A G p1 Q) : jMet Γ yX0_safeFor cX0_safeFor 4 (some .int) [] 507 0 0 [.ref 0, .int p1] (n, K, A, Lg, G) (fun o u => ∃ (r : Int32) (A' : pA), o = .inl (some (.int r)) ∧ u = (n, K, A', Lg, G) ∧ Q r A') := by
  unfold fX0_safeFor at h
  obtain ⟨P, hP⟩ : ∃ P : jO → pS → Prop, P = (fun o u => ∃ (r : Int32) (A' : pA), o = .inl (some (.int r)) ∧ u = (n, K, A', Lg, G) ∧ Q r A') := ⟨_, rfl⟩
  rw [← hP]
  refine jMet_of rfl rfl rfl (Nat.le_of_ble_eq_true rfl) ?_
  show J Γ RX0 cX0_safeFor 4 (some .int) "safeFor" [] 507 0 0 0 [(0, .ref 0), (1, .int p1)] [] (n, K, A, Lg, G) P
  refine j_iconst (v := 0) dX0_safeFor_0 (by decide) ?_
  refine j_istore_n (by decide) rfl dX0_safeFor_1 ?_
  refine j_iconst (v := 0) dX0_safeFor_2 (by decide) ?_
  refine j_istore_n (by decide) rfl dX0_safeFor_3 ?_
  refine j_ls [2, 3, 1, 0] rfl ?_
  obtain ⟨m7, h⟩ := h
  exact fX0_safeFor_L4_ok hf tx ht hx Q P hP   m7 p1 0 0 A h
theorem myX0_safe : jY yX0_safe cX0_safe 2 (some .int) 1 := ⟨q1434, q121, by decide +kernel, by decide +kernel, by decide⟩
def fX0_safe (tx : Nat) (n : Nat) (K : Nat → pKd) (A : pA) (G : pG) (p1 : Int32) (Q : Int32 → pA → Prop) : Prop :=
    fX0_isPerson tx A p1 (fun r1 => (if r1 = 0 then Q (-1) A else fX0_safeFor tx n K A G p1 (fun r2 A3 => Q r2 A3)))
theorem tX0_safe {Γ : jG} {n : Nat} {K : Nat → pKd} {G : pG} {A : pA} {Lg : pL} (hf : fOK n K G) (tx : Nat) (ht : G 0 3 = .ref tx) (hx : xOK n K G tx) (p1 : Int32) (Q : Int32 → pA → Prop) (h : fX0_safe tx n K A G p1 Q) : jMet Γ yX0_safe cX0_safe 2 (some .int) [] 508 0 0 [.ref 0, .int p1] (n, K, A, Lg, G) (fun o u => ∃ (r : Int32) (A' : pA), o = .inl (some (.int r)) ∧ u = (n, K, A', Lg, G) ∧ Q r A') := by
  unfold fX0_safe at h
  obtain ⟨P, hP⟩ : ∃ P : jO → pS → Prop, P = (fun o u => ∃ (r : Int32) (A' : pA), o = .inl (some (.int r)) ∧ u = (n, K, A', Lg, G) ∧ Q r A') := ⟨_, rfl⟩
  rw [← hP]
  refine jMet_of rfl rfl rfl (Nat.le_of_ble_eq_true rfl) ?_
  show J Γ RX0 cX0_safe 2 (some .int) "safe" [] 508 0 0 0 [(0, .ref 0), (1, .int p1)] [] (n, K, A, Lg, G) P
  refine j_aload_n 0 rfl dX0_safe_0 ?_
  refine j_iload_n 1 rfl dX0_safe_1 ?_
  refine j_callV (b := 0) (As := [.int p1]) (st := []) (C := RX0) (kc' := 0) (ks' := 0) (tX0_isPerson hf tx ht hx p1 _ h) myX0_isPerson rfl q1224 q1226 qs38 (by decide) (fun s9 H9 hK9 hR9 h69 => jIs_in hK9 hR9 h69 (f_lt hf (by decide)) (fk_0 hf) rfl) rfl (Nat.le_of_ble_eq_true rfl) rfl (by decide) (Nat.le_refl 0) (Nat.le_refl 0) dX0_safe_2 (fun v9 u9 hq => ?_) (fun k9 u9 hq => by obtain ⟨_, e9, _⟩ := hq; cases e9)
  obtain ⟨r1, e9, rfl, h⟩ := hq
  obtain rfl := Sum.inl.inj e9
  show J Γ RX0 cX0_safe 2 (some .int) "safe" [] 508 0 0 5 [(0, .ref 0), (1, .int p1)] [.int r1] (n, K, A, Lg, G) P
  refine j_if_eq (tgt := 16) dX0_safe_5 (by decide) (fun c => ?_) (fun c => ?_)
  · rw [if_pos c] at h
    refine j_iconst (v := (-1)) dX0_safe_16 (by decide) ?_
    refine j_iret rfl ?_ dX0_safe_17
    rw [hP]
    exact ⟨(-1), A, rfl, rfl, h⟩
  · rw [if_neg c] at h
    refine j_aload_n 0 rfl dX0_safe_8 ?_
    refine j_iload_n 1 rfl dX0_safe_9 ?_
    refine j_callV (b := 0) (As := [.int p1]) (st := []) (C := RX0) (kc' := 0) (ks' := 0) (tX0_safeFor hf tx ht hx p1 _ h) myX0_safeFor rfl q1435 q1437 qs49 (by decide) (fun s9 H9 hK9 hR9 h69 => jIs_in hK9 hR9 h69 (f_lt hf (by decide)) (fk_0 hf) rfl) rfl (Nat.le_of_ble_eq_true rfl) rfl (by decide) (Nat.le_refl 0) (Nat.le_refl 0) dX0_safe_10 (fun v9 u9 hq => ?_) (fun k9 u9 hq => by obtain ⟨_, _, e9, _⟩ := hq; cases e9)
    obtain ⟨r2, A3, e9, rfl, h⟩ := hq
    obtain rfl := Sum.inl.inj e9
    show J Γ RX0 cX0_safe 2 (some .int) "safe" [] 508 0 0 13 [(0, .ref 0), (1, .int p1)] [.int r2] (n, K, A3, Lg, G) P
    refine j_goto (tgt := 17) dX0_safe_13 (by decide) ?_
    refine j_iret rfl ?_ dX0_safe_17
    rw [hP]
    exact ⟨r2, A3, rfl, rfl, h⟩
theorem myX0_refuge : jY yX0_refuge cX0_refuge 8 (some .int) 2 := ⟨q1452, q121, by decide +kernel, by decide +kernel, by decide⟩
def fX0_refuge_J102 (tx : Nat) (n : Nat) (K : Nat → pKd) (G : pG) (k37 : Int32 → Int32 → Int32 → Int32 → Int32 → Int32 → pA → Prop) (Q : Int32 → pA → Prop) (l1 : Int32) (l2 : Int32) (l3 : Int32) (l4 : Int32) (l5 : Int32) (l6 : Int32) (A : pA) : Prop :=
    k37 l1 l2 l3 l4 l5 (l6 + 1) A
theorem fX0_refuge_J102_ok {Γ : jG} {n : Nat} {K : Nat → pKd} {G : pG} {Lg : pL} (hf : fOK n K G) (tx : Nat) (ht : G 0 3 = .ref tx) (hx : xOK n K G tx) (Q : Int32 → pA → Prop) (P : jO → pS → Prop) (hP : P = (fun o u => ∃ (r : Int32) (A' : pA), o = .inl (some (.int r)) ∧ u = (n, K, A', Lg, G) ∧ Q r A')) (k37 : Int32 → Int32 → Int32 → Int32 → Int32 → Int32 → pA → Prop) (ok37 : ∀ (l1 : Int32) (l2 : Int32) (l3 : Int32) (l4 : Int32) (l5 : Int32) (l6 : Int32) (A : pA), k37 l1 l2 l3 l4 l5 l6 A → J Γ RX0 cX0_refuge 8 (some .int) "refuge" [] 508 0 0 37 [(0, .ref 0), (1, .int l1), (2, .int l2), (3, .int l3), (4, .int l4), (5, .int l5), (6, .int l6)] [] (n, K, A, Lg, G) P) (l1 : Int32) (l2 : Int32) (l3 : Int32) (l4 : Int32) (l5 : Int32) (l6 : Int32) (A : pA) (h : fX0_refuge_J102 tx n K G k37 Q l1 l2 l3 l4 l5 l6 A) : J Γ RX0 cX0_refuge 8 (some .int) "refuge" [] 508 0 0 102 [(0, .ref 0), (1, .int l1), (2, .int l2), (3, .int l3), (4, .int l4), (5, .int l5), (6, .int l6)] [] (n, K, A, Lg, G) P := by
  unfold fX0_refuge_J102 at h
  refine j_iinc (v := l6 + 1) 6 rfl rfl (by decide) rfl dX0_refuge_102 ?_
  refine j_goto (tgt := 37) dX0_refuge_105 (by decide) ?_
  refine j_ls [1, 2, 3, 4, 5, 6, 0] rfl ?_
  exact ok37 l1 l2 l3 l4 l5 (l6 + 1) A h
def fX0_refuge_J82 (tx : Nat) (n : Nat) (K : Nat → pKd) (G : pG) (k37 : Int32 → Int32 → Int32 → Int32 → Int32 → Int32 → pA → Prop) (Q : Int32 → pA → Prop) (l1 : Int32) (l2 : Int32) (l3 : Int32) (l4 : Int32) (l5 : Int32) (l6 : Int32) (s0 : Int32) (A : pA) : Prop :=
    (if s0 < l5 then fX0_refuge_J102 tx n K G k37 Q l1 l2 l3 l6 s0 l6 A else fX0_refuge_J102 tx n K G k37 Q l1 l2 l3 l4 l5 l6 A)
theorem fX0_refuge_J82_ok {Γ : jG} {n : Nat} {K : Nat → pKd} {G : pG} {Lg : pL} (hf : fOK n K G) (tx : Nat) (ht : G 0 3 = .ref tx) (hx : xOK n K G tx) (Q : Int32 → pA → Prop) (P : jO → pS → Prop) (hP : P = (fun o u => ∃ (r : Int32) (A' : pA), o = .inl (some (.int r)) ∧ u = (n, K, A', Lg, G) ∧ Q r A')) (k37 : Int32 → Int32 → Int32 → Int32 → Int32 → Int32 → pA → Prop) (ok37 : ∀ (l1 : Int32) (l2 : Int32) (l3 : Int32) (l4 : Int32) (l5 : Int32) (l6 : Int32) (A : pA), k37 l1 l2 l3 l4 l5 l6 A → J Γ RX0 cX0_refuge 8 (some .int) "refuge" [] 508 0 0 37 [(0, .ref 0), (1, .int l1), (2, .int l2), (3, .int l3), (4, .int l4), (5, .int l5), (6, .int l6)] [] (n, K, A, Lg, G) P) (l1 : Int32) (l2 : Int32) (l3 : Int32) (l4 : Int32) (l5 : Int32) (l6 : Int32) (s0 : Int32) (A : pA) (h : fX0_refuge_J82 tx n K G k37 Q l1 l2 l3 l4 l5 l6 s0 A) : J Γ RX0 cX0_refuge 8 (some .int) "refuge" [] 508 0 0 82 [(0, .ref 0), (1, .int l1), (2, .int l2), (3, .int l3), (4, .int l4), (5, .int l5), (6, .int l6)] [.int s0] (n, K, A, Lg, G) P := by
  unfold fX0_refuge_J82 at h
  refine j_istore (by decide) rfl dX0_refuge_82 ?_
  refine j_iload 0 rfl dX0_refuge_84 ?_
  refine j_iload 6 rfl dX0_refuge_86 ?_
  refine j_icmp_lt (tgt := 94) dX0_refuge_88 (by decide) (fun c => ?_) (fun c => ?_)
  · rw [if_pos c] at h
    refine j_iload 7 rfl dX0_refuge_94 ?_
    refine j_istore (by decide) rfl dX0_refuge_96 ?_
    refine j_iload 1 rfl dX0_refuge_98 ?_
    refine j_istore (by decide) rfl dX0_refuge_100 ?_
    refine j_ls [3, 4, 5, 6, 1, 0, 7] rfl ?_
    exact fX0_refuge_J102_ok hf tx ht hx Q P hP k37 ok37 l1 l2 l3 l6 s0 l6 A h
  · rw [if_neg c] at h
    refine j_goto (tgt := 102) dX0_refuge_91 (by decide) ?_
    refine j_ls [1, 2, 3, 4, 5, 6, 7] rfl ?_
    exact fX0_refuge_J102_ok hf tx ht hx Q P hP k37 ok37 l1 l2 l3 l4 l5 l6 A h
def fX0_refuge_L37 (tx : Nat) (n : Nat) (K : Nat → pKd) (G : pG)  (Q : Int32 → pA → Prop) : Nat → Int32 → Int32 → Int32 → Int32 → Int32 → Int32 → pA → Prop
  | 0, _, _, _, _, _, _, _ => False
  | n9 + 1, l1, l2, l3, l4, l5, l6, A =>
    fX0_places tx A (fun r1 => (if r1 ≤ l6 then (if l4 < 0 then Q l4 A else (if l2 = 0 then Q l4 A else Q l5 A)) else (if ((l3 >>> (l6 &&& 31)) &&& 1) = 1 then (vp_in l1 4) ∧ ((vp_in (A (25 + 4) (l1).toNatClampNeg) 7) ∧ ((vp_in l6 7) ∧ (fX0_refuge_J82 tx n K G (fun x0 x1 x2 x3 x4 x5 x6 => fX0_refuge_L37 tx n K G  Q n9 x0 x1 x2 x3 x4 x5 x6) Q l1 l2 l3 l4 l5 l6 (A (tx + 8 + (A (25 + 4) (l1).toNatClampNeg).toNatClampNeg) (l6).toNatClampNeg) A))) else fX0_refuge_J82 tx n K G (fun x0 x1 x2 x3 x4 x5 x6 => fX0_refuge_L37 tx n K G  Q n9 x0 x1 x2 x3 x4 x5 x6) Q l1 l2 l3 l4 l5 l6 1000000 A)))
theorem fX0_refuge_L37_ok {Γ : jG} {n : Nat} {K : Nat → pKd} {G : pG} {Lg : pL} (hf : fOK n K G) (tx : Nat) (ht : G 0 3 = .ref tx) (hx : xOK n K G tx) (Q : Int32 → pA → Prop) (P : jO → pS → Prop) (hP : P = (fun o u => ∃ (r : Int32) (A' : pA), o = .inl (some (.int r)) ∧ u = (n, K, A', Lg, G) ∧ Q r A'))    : ∀ (n9 : Nat) (l1 : Int32) (l2 : Int32) (l3 : Int32) (l4 : Int32) (l5 : Int32) (l6 : Int32) (A : pA), fX0_refuge_L37 tx n K G  Q n9 l1 l2 l3 l4 l5 l6 A → J Γ RX0 cX0_refuge 8 (some .int) "refuge" [] 508 0 0 37 [(0, .ref 0), (1, .int l1), (2, .int l2), (3, .int l3), (4, .int l4), (5, .int l5), (6, .int l6)] [] (n, K, A, Lg, G) P := by
  intro n9
  induction n9 with
  | zero => intro l1 l2 l3 l4 l5 l6 A h; exact h.elim
  | succ n9 ih =>
    intro l1 l2 l3 l4 l5 l6 A h
    unfold fX0_refuge_L37 at h
    refine j_iload 6 rfl dX0_refuge_37 ?_
    refine j_aload_n 0 rfl dX0_refuge_39 ?_
    refine j_callV (b := 0) (As := []) (st := [.int l6]) (C := RX0) (kc' := 0) (ks' := 0) (tX0_places hf tx ht hx _ h) myX0_places rfl q1189 q1191 qs33 (by decide) (fun s9 H9 hK9 hR9 h69 => jIs_in hK9 hR9 h69 (f_lt hf (by decide)) (fk_0 hf) rfl) rfl (Nat.le_of_ble_eq_true rfl) rfl (by decide) (Nat.le_refl 0) (Nat.le_refl 0) dX0_refuge_40 (fun v9 u9 hq => ?_) (fun k9 u9 hq => by obtain ⟨_, e9, _⟩ := hq; cases e9)
    obtain ⟨r1, e9, rfl, h⟩ := hq
    obtain rfl := Sum.inl.inj e9
    show J Γ RX0 cX0_refuge 8 (some .int) "refuge" [] 508 0 0 43 [(0, .ref 0), (1, .int l1), (2, .int l2), (3, .int l3), (4, .int l4), (5, .int l5), (6, .int l6)] [.int r1, .int l6] (n, K, A, Lg, G) P
    refine j_icmp_ge (tgt := 108) dX0_refuge_43 (by decide) (fun c => ?_) (fun c => ?_)
    · rw [if_pos c] at h
      refine j_iload 4 rfl dX0_refuge_108 ?_
      refine j_if_lt (tgt := 117) dX0_refuge_110 (by decide) (fun c => ?_) (fun c => ?_)
      · rw [if_pos c] at h
        refine j_iload 4 rfl dX0_refuge_117 ?_
        refine j_goto (tgt := 124) dX0_refuge_119 (by decide) ?_
        refine j_iret rfl ?_ dX0_refuge_124
        rw [hP]
        exact ⟨l4, A, rfl, rfl, h⟩
      · rw [if_neg c] at h
        refine j_iload_n 2 rfl dX0_refuge_113 ?_
        refine j_if_ne (tgt := 122) dX0_refuge_114 (by decide) (fun c => ?_) (fun c => ?_)
        · rw [if_neg c] at h
          refine j_iload 5 rfl dX0_refuge_122 ?_
          refine j_iret rfl ?_ dX0_refuge_124
          rw [hP]
          exact ⟨l5, A, rfl, rfl, h⟩
        · rw [if_pos c] at h
          refine j_iload 4 rfl dX0_refuge_117 ?_
          refine j_goto (tgt := 124) dX0_refuge_119 (by decide) ?_
          refine j_iret rfl ?_ dX0_refuge_124
          rw [hP]
          exact ⟨l4, A, rfl, rfl, h⟩
    · rw [if_neg c] at h
      refine j_iload_n 3 rfl dX0_refuge_46 ?_
      refine j_iload 6 rfl dX0_refuge_47 ?_
      refine j_ishr dX0_refuge_49 ?_
      refine j_iconst (v := 1) dX0_refuge_50 (by decide) ?_
      refine j_iand dX0_refuge_51 ?_
      refine j_iconst (v := 1) dX0_refuge_52 (by decide) ?_
      refine j_icmp_ne (tgt := 79) dX0_refuge_53 (by decide) (fun c => ?_) (fun c => ?_)
      · rw [if_neg c] at h
        refine j_ldcw (v := 1000000) q1380 dX0_refuge_79 ?_
        exact fX0_refuge_J82_ok hf tx ht hx Q P hP (fun x0 x1 x2 x3 x4 x5 x6 => fX0_refuge_L37 tx n K G  Q n9 x0 x1 x2 x3 x4 x5 x6) (fun x0 x1 x2 x3 x4 x5 x6 h9 => ih x0 x1 x2 x3 x4 x5 x6 h9) l1 l2 l3 l4 l5 l6 1000000 A h
      · rw [if_pos c] at h
        refine j_aload_n 0 rfl dX0_refuge_56 ?_
        refine j_getfr fl_X0_44_0 rfl (f_lt hf (by decide)) (fk_0 hf) ht dX0_refuge_57 ?_
        refine j_getfr fl_X0_279_4 rfl (x_lt hx (j := 0) (by decide)) (xk_0 hx) (xg_0_6 hx) dX0_refuge_60 ?_
        refine j_aload_n 0 rfl dX0_refuge_63 ?_
        refine j_getfr fl_X0_55_0 rfl (f_lt hf (by decide)) (fk_0 hf) (fg_0_7 hf) dX0_refuge_64 ?_
        refine j_getfr fl_X0_175_5 rfl (t_lt hf isT_town (j := 0) (by decide)) (tk_0 hf isT_town) (tg_0_3 hf isT_town) dX0_refuge_67 ?_
        refine j_iload_n 1 rfl dX0_refuge_70 ?_
        obtain ⟨b2, h⟩ := h
        refine j_ialdJ (j := (l1).toNatClampNeg) (t_lt hf isT_town (j := 4) (by decide)) (tk_4 hf isT_town) b2 rfl dX0_refuge_71 ?_
        obtain ⟨b3, h⟩ := h
        refine j_aaldJ (t := 11) (j := (A (25 + 4) (l1).toNatClampNeg).toNatClampNeg) rfl rfl rfl (x_lt hx (j := 7) (by decide)) (xk_7 hx) b3 rfl (x_row hx (j_ix b3)).1 dX0_refuge_72 ?_
        refine j_iload 6 rfl dX0_refuge_73 ?_
        obtain ⟨b4, h⟩ := h
        refine j_ialdJ (j := (l6).toNatClampNeg) (x_rowlt hx (j_ix b3)) (x_row hx (j_ix b3)).2 b4 rfl dX0_refuge_75 ?_
        refine j_goto (tgt := 82) dX0_refuge_76 (by decide) ?_
        exact fX0_refuge_J82_ok hf tx ht hx Q P hP (fun x0 x1 x2 x3 x4 x5 x6 => fX0_refuge_L37 tx n K G  Q n9 x0 x1 x2 x3 x4 x5 x6) (fun x0 x1 x2 x3 x4 x5 x6 h9 => ih x0 x1 x2 x3 x4 x5 x6 h9) l1 l2 l3 l4 l5 l6 (A (tx + 8 + (A (25 + 4) (l1).toNatClampNeg).toNatClampNeg) (l6).toNatClampNeg) A h
def fX0_refuge (tx : Nat) (n : Nat) (K : Nat → pKd) (A : pA) (G : pG) (p1 : Int32) (p2 : Int32) (Q : Int32 → pA → Prop) : Prop :=
    fX0_isPerson tx A p1 (fun r5 => (if r5 = 0 then Q (-1) A else fX0_isIn A p2 0 1 (fun r6 => (if r6 = 0 then Q (-1) A else fX0_safeFor tx n K A G p1 (fun r7 A8 => ∃ m9, fX0_refuge_L37 tx n K G  Q m9 p1 p2 r7 (-2) 1000000 0 A8)))))
theorem tX0_refuge {Γ : jG} {n : Nat} {K : Nat → pKd} {G : pG} {A : pA} {Lg : pL} (hf : fOK n K G) (tx : Nat) (ht : G 0 3 = .ref tx) (hx : xOK n K G tx) (p1 : Int32) (p2 : Int32) (Q : Int32 → pA → Prop) (h : fX0_refuge tx n K A G p1 p2 Q) : jMet Γ yX0_refuge cX0_refuge 8 (some .int) [] 508 0 0 [.ref 0, .int p1, .int p2] (n, K, A, Lg, G) (fun o u => ∃ (r : Int32) (A' : pA), o = .inl (some (.int r)) ∧ u = (n, K, A', Lg, G) ∧ Q r A') := by
  unfold fX0_refuge at h
  obtain ⟨P, hP⟩ : ∃ P : jO → pS → Prop, P = (fun o u => ∃ (r : Int32) (A' : pA), o = .inl (some (.int r)) ∧ u = (n, K, A', Lg, G) ∧ Q r A') := ⟨_, rfl⟩
  rw [← hP]
  refine jMet_of rfl rfl rfl (Nat.le_of_ble_eq_true rfl) ?_
  show J Γ RX0 cX0_refuge 8 (some .int) "refuge" [] 508 0 0 0 [(0, .ref 0), (1, .int p1), (2, .int p2)] [] (n, K, A, Lg, G) P
  refine j_aload_n 0 rfl dX0_refuge_0 ?_
  refine j_iload_n 1 rfl dX0_refuge_1 ?_
  refine j_callV (b := 0) (As := [.int p1]) (st := []) (C := RX0) (kc' := 0) (ks' := 0) (tX0_isPerson hf tx ht hx p1 _ h) myX0_isPerson rfl q1224 q1226 qs38 (by decide) (fun s9 H9 hK9 hR9 h69 => jIs_in hK9 hR9 h69 (f_lt hf (by decide)) (fk_0 hf) rfl) rfl (Nat.le_of_ble_eq_true rfl) rfl (by decide) (Nat.le_refl 0) (Nat.le_refl 0) dX0_refuge_2 (fun v9 u9 hq => ?_) (fun k9 u9 hq => by obtain ⟨_, e9, _⟩ := hq; cases e9)
  obtain ⟨r5, e9, rfl, h⟩ := hq
  obtain rfl := Sum.inl.inj e9
  show J Γ RX0 cX0_refuge 8 (some .int) "refuge" [] 508 0 0 5 [(0, .ref 0), (1, .int p1), (2, .int p2)] [.int r5] (n, K, A, Lg, G) P
  refine j_if_eq (tgt := 17) dX0_refuge_5 (by decide) (fun c => ?_) (fun c => ?_)
  · rw [if_pos c] at h
    refine j_iconst (v := (-1)) dX0_refuge_17 (by decide) ?_
    refine j_iret rfl ?_ dX0_refuge_18
    rw [hP]
    exact ⟨(-1), A, rfl, rfl, h⟩
  · rw [if_neg c] at h
    refine j_iload_n 2 rfl dX0_refuge_8 ?_
    refine j_iconst (v := 0) dX0_refuge_9 (by decide) ?_
    refine j_iconst (v := 1) dX0_refuge_10 (by decide) ?_
    refine j_callS (As := [.int p2, .int 0, .int 1]) (st := []) (kc' := 0) (ks' := 0) (tX0_isIn hf p2 0 1 _ h) myX0_isIn q1194 q1195 rfl (Nat.le_of_ble_eq_true rfl) rfl (by decide) (Nat.le_refl 0) (Nat.le_refl 0) dX0_refuge_11 (fun v9 u9 hq => ?_) (fun k9 u9 hq => by obtain ⟨_, e9, _⟩ := hq; cases e9)
    obtain ⟨r6, e9, rfl, h⟩ := hq
    obtain rfl := Sum.inl.inj e9
    show J Γ RX0 cX0_refuge 8 (some .int) "refuge" [] 508 0 0 14 [(0, .ref 0), (1, .int p1), (2, .int p2)] [.int r6] (n, K, A, Lg, G) P
    refine j_if_ne (tgt := 19) dX0_refuge_14 (by decide) (fun c => ?_) (fun c => ?_)
    · rw [if_neg c] at h
      refine j_aload_n 0 rfl dX0_refuge_19 ?_
      refine j_iload_n 1 rfl dX0_refuge_20 ?_
      refine j_callV (b := 0) (As := [.int p1]) (st := []) (C := RX0) (kc' := 0) (ks' := 0) (tX0_safeFor hf tx ht hx p1 _ h) myX0_safeFor rfl q1435 q1437 qs49 (by decide) (fun s9 H9 hK9 hR9 h69 => jIs_in hK9 hR9 h69 (f_lt hf (by decide)) (fk_0 hf) rfl) rfl (Nat.le_of_ble_eq_true rfl) rfl (by decide) (Nat.le_refl 0) (Nat.le_refl 0) dX0_refuge_21 (fun v9 u9 hq => ?_) (fun k9 u9 hq => by obtain ⟨_, _, e9, _⟩ := hq; cases e9)
      obtain ⟨r7, A8, e9, rfl, h⟩ := hq
      obtain rfl := Sum.inl.inj e9
      show J Γ RX0 cX0_refuge 8 (some .int) "refuge" [] 508 0 0 24 [(0, .ref 0), (1, .int p1), (2, .int p2)] [.int r7] (n, K, A8, Lg, G) P
      refine j_istore_n (by decide) rfl dX0_refuge_24 ?_
      refine j_bipush (v := (-2)) dX0_refuge_25 (by decide) ?_
      refine j_istore (by decide) rfl dX0_refuge_27 ?_
      refine j_ldcw (v := 1000000) q1380 dX0_refuge_29 ?_
      refine j_istore (by decide) rfl dX0_refuge_32 ?_
      refine j_iconst (v := 0) dX0_refuge_34 (by decide) ?_
      refine j_istore (by decide) rfl dX0_refuge_35 ?_
      refine j_ls [4, 5, 6, 3, 2, 1, 0] rfl ?_
      obtain ⟨m9, h⟩ := h
      exact fX0_refuge_L37_ok hf tx ht hx Q P hP   m9 p1 p2 r7 (-2) 1000000 0 A8 h
    · rw [if_pos c] at h
      refine j_iconst (v := (-1)) dX0_refuge_17 (by decide) ?_
      refine j_iret rfl ?_ dX0_refuge_18
      rw [hP]
      exact ⟨(-1), A, rfl, rfl, h⟩
theorem myX0_loses : jY yX0_loses cX0_loses 3 (some .int) 1 := ⟨q1456, q121, by decide +kernel, by decide +kernel, by decide⟩
def fX0_loses (tx : Nat) (n : Nat) (K : Nat → pKd) (A : pA) (G : pG) (p1 : Int32) (Q : Int32 → pA → Prop) : Prop :=
    fX0_isPerson tx A p1 (fun r1 => (if r1 = 0 then Q (-1) A else fX0_nextHour tx n K A G (fun A2 => fX0_fetchedIn tx n K A2 G (fun r3 A4 => (vp_in p1 4) ∧ ((vp_in p1 4) ∧ (Q ((A4 (25 + 6) (p1).toNatClampNeg) - (A4 (48 + 6) (p1).toNatClampNeg)) A4))))))
theorem tX0_loses {Γ : jG} {n : Nat} {K : Nat → pKd} {G : pG} {A : pA} {Lg : pL} (hf : fOK n K G) (tx : Nat) (ht : G 0 3 = .ref tx) (hx : xOK n K G tx) (p1 : Int32) (Q : Int32 → pA → Prop) (h : fX0_loses tx n K A G p1 Q) : jMet Γ yX0_loses cX0_loses 3 (some .int) [] 507 0 0 [.ref 0, .int p1] (n, K, A, Lg, G) (fun o u => ∃ (r : Int32) (A' : pA), o = .inl (some (.int r)) ∧ u = (n, K, A', Lg, G) ∧ Q r A') := by
  unfold fX0_loses at h
  obtain ⟨P, hP⟩ : ∃ P : jO → pS → Prop, P = (fun o u => ∃ (r : Int32) (A' : pA), o = .inl (some (.int r)) ∧ u = (n, K, A', Lg, G) ∧ Q r A') := ⟨_, rfl⟩
  rw [← hP]
  refine jMet_of rfl rfl rfl (Nat.le_of_ble_eq_true rfl) ?_
  show J Γ RX0 cX0_loses 3 (some .int) "loses" [] 507 0 0 0 [(0, .ref 0), (1, .int p1)] [] (n, K, A, Lg, G) P
  refine j_aload_n 0 rfl dX0_loses_0 ?_
  refine j_iload_n 1 rfl dX0_loses_1 ?_
  refine j_callV (b := 0) (As := [.int p1]) (st := []) (C := RX0) (kc' := 0) (ks' := 0) (tX0_isPerson hf tx ht hx p1 _ h) myX0_isPerson rfl q1224 q1226 qs38 (by decide) (fun s9 H9 hK9 hR9 h69 => jIs_in hK9 hR9 h69 (f_lt hf (by decide)) (fk_0 hf) rfl) rfl (Nat.le_of_ble_eq_true rfl) rfl (by decide) (Nat.le_refl 0) (Nat.le_refl 0) dX0_loses_2 (fun v9 u9 hq => ?_) (fun k9 u9 hq => by obtain ⟨_, e9, _⟩ := hq; cases e9)
  obtain ⟨r1, e9, rfl, h⟩ := hq
  obtain rfl := Sum.inl.inj e9
  show J Γ RX0 cX0_loses 3 (some .int) "loses" [] 507 0 0 5 [(0, .ref 0), (1, .int p1)] [.int r1] (n, K, A, Lg, G) P
  refine j_if_ne (tgt := 10) dX0_loses_5 (by decide) (fun c => ?_) (fun c => ?_)
  · rw [if_neg c] at h
    refine j_aload_n 0 rfl dX0_loses_10 ?_
    refine j_callV (b := 0) (As := []) (st := []) (C := RX0) (kc' := 0) (ks' := 0) (tX0_nextHour hf tx ht hx _ h) myX0_nextHour rfl q1439 q1441 qs50 (by decide) (fun s9 H9 hK9 hR9 h69 => jIs_in hK9 hR9 h69 (f_lt hf (by decide)) (fk_0 hf) rfl) rfl (Nat.le_of_ble_eq_true rfl) rfl (by decide) (Nat.le_refl 0) (Nat.le_refl 0) dX0_loses_11 (fun v9 u9 hq => ?_) (fun k9 u9 hq => by obtain ⟨_, e9, _⟩ := hq; cases e9)
    obtain ⟨A2, e9, rfl, h⟩ := hq
    obtain rfl := Sum.inl.inj e9
    show J Γ RX0 cX0_loses 3 (some .int) "loses" [] 507 0 0 14 [(0, .ref 0), (1, .int p1)] [] (n, K, A2, Lg, G) P
    refine j_aload_n 0 rfl dX0_loses_14 ?_
    refine j_callV (b := 0) (As := []) (st := []) (C := RX0) (kc' := 0) (ks' := 0) (tX0_fetchedIn hf tx ht hx _ h) myX0_fetchedIn rfl q1444 q1446 qs51 (by decide) (fun s9 H9 hK9 hR9 h69 => jIs_in hK9 hR9 h69 (f_lt hf (by decide)) (fk_0 hf) rfl) rfl (Nat.le_of_ble_eq_true rfl) rfl (by decide) (Nat.le_refl 0) (Nat.le_refl 0) dX0_loses_15 (fun v9 u9 hq => ?_) (fun k9 u9 hq => by obtain ⟨_, _, e9, _⟩ := hq; cases e9)
    obtain ⟨r3, A4, e9, rfl, h⟩ := hq
    obtain rfl := Sum.inl.inj e9
    show J Γ RX0 cX0_loses 3 (some .int) "loses" [] 507 0 0 18 [(0, .ref 0), (1, .int p1)] [.int r3] (n, K, A4, Lg, G) P
    refine j_istore_n (by decide) rfl dX0_loses_18 ?_
    refine j_aload_n 1 rfl dX0_loses_19 ?_
    refine j_getfr fl_X0_55_0 rfl (f_lt hf (by decide)) (fk_0 hf) (fg_0_7 hf) dX0_loses_20 ?_
    refine j_getfr fl_X0_218_5 rfl (t_lt hf isT_town (j := 0) (by decide)) (tk_0 hf isT_town) (tg_0_5 hf isT_town) dX0_loses_23 ?_
    refine j_iload_n 2 rfl dX0_loses_26 ?_
    obtain ⟨b5, h⟩ := h
    refine j_ialdJ (j := (p1).toNatClampNeg) (t_lt hf isT_town (j := 6) (by decide)) (tk_6 hf isT_town) b5 rfl dX0_loses_27 ?_
    refine j_aload_n 1 rfl dX0_loses_28 ?_
    refine j_getfr fl_X0_59_0 rfl (f_lt hf (by decide)) (fk_0 hf) (fg_0_8 hf) dX0_loses_29 ?_
    refine j_getfr fl_X0_218_5 rfl (t_lt hf isT_trial (j := 0) (by decide)) (tk_0 hf isT_trial) (tg_0_5 hf isT_trial) dX0_loses_32 ?_
    refine j_iload_n 2 rfl dX0_loses_35 ?_
    obtain ⟨b6, h⟩ := h
    refine j_ialdJ (j := (p1).toNatClampNeg) (t_lt hf isT_trial (j := 6) (by decide)) (tk_6 hf isT_trial) b6 rfl dX0_loses_36 ?_
    refine j_isub dX0_loses_37 ?_
    refine j_iret rfl ?_ dX0_loses_38
    rw [hP]
    exact ⟨(A4 (25 + 6) (p1).toNatClampNeg) - (A4 (48 + 6) (p1).toNatClampNeg), A4, rfl, rfl, h⟩
  · rw [if_pos c] at h
    refine j_iconst (v := (-1)) dX0_loses_8 (by decide) ?_
    refine j_iret rfl ?_ dX0_loses_9
    rw [hP]
    exact ⟨(-1), A, rfl, rfl, h⟩
theorem myX0_fetched : jY yX0_fetched cX0_fetched 1 (some .int) 0 := ⟨q1460, q121, by decide +kernel, by decide +kernel, by decide⟩
def fX0_fetched (tx : Nat) (n : Nat) (K : Nat → pKd) (A : pA) (G : pG) (Q : Int32 → pA → Prop) : Prop :=
    fX0_nextHour tx n K A G (fun A1 => fX0_fetchedIn tx n K A1 G (fun r2 A3 => Q r2 A3))
theorem tX0_fetched {Γ : jG} {n : Nat} {K : Nat → pKd} {G : pG} {A : pA} {Lg : pL} (hf : fOK n K G) (tx : Nat) (ht : G 0 3 = .ref tx) (hx : xOK n K G tx)  (Q : Int32 → pA → Prop) (h : fX0_fetched tx n K A G Q) : jMet Γ yX0_fetched cX0_fetched 1 (some .int) [] 507 0 0 [.ref 0] (n, K, A, Lg, G) (fun o u => ∃ (r : Int32) (A' : pA), o = .inl (some (.int r)) ∧ u = (n, K, A', Lg, G) ∧ Q r A') := by
  unfold fX0_fetched at h
  obtain ⟨P, hP⟩ : ∃ P : jO → pS → Prop, P = (fun o u => ∃ (r : Int32) (A' : pA), o = .inl (some (.int r)) ∧ u = (n, K, A', Lg, G) ∧ Q r A') := ⟨_, rfl⟩
  rw [← hP]
  refine jMet_of rfl rfl rfl (Nat.le_of_ble_eq_true rfl) ?_
  show J Γ RX0 cX0_fetched 1 (some .int) "fetched" [] 507 0 0 0 [(0, .ref 0)] [] (n, K, A, Lg, G) P
  refine j_aload_n 0 rfl dX0_fetched_0 ?_
  refine j_callV (b := 0) (As := []) (st := []) (C := RX0) (kc' := 0) (ks' := 0) (tX0_nextHour hf tx ht hx _ h) myX0_nextHour rfl q1439 q1441 qs50 (by decide) (fun s9 H9 hK9 hR9 h69 => jIs_in hK9 hR9 h69 (f_lt hf (by decide)) (fk_0 hf) rfl) rfl (Nat.le_of_ble_eq_true rfl) rfl (by decide) (Nat.le_refl 0) (Nat.le_refl 0) dX0_fetched_1 (fun v9 u9 hq => ?_) (fun k9 u9 hq => by obtain ⟨_, e9, _⟩ := hq; cases e9)
  obtain ⟨A1, e9, rfl, h⟩ := hq
  obtain rfl := Sum.inl.inj e9
  show J Γ RX0 cX0_fetched 1 (some .int) "fetched" [] 507 0 0 4 [(0, .ref 0)] [] (n, K, A1, Lg, G) P
  refine j_aload_n 0 rfl dX0_fetched_4 ?_
  refine j_callV (b := 0) (As := []) (st := []) (C := RX0) (kc' := 0) (ks' := 0) (tX0_fetchedIn hf tx ht hx _ h) myX0_fetchedIn rfl q1444 q1446 qs51 (by decide) (fun s9 H9 hK9 hR9 h69 => jIs_in hK9 hR9 h69 (f_lt hf (by decide)) (fk_0 hf) rfl) rfl (Nat.le_of_ble_eq_true rfl) rfl (by decide) (Nat.le_refl 0) (Nat.le_refl 0) dX0_fetched_5 (fun v9 u9 hq => ?_) (fun k9 u9 hq => by obtain ⟨_, _, e9, _⟩ := hq; cases e9)
  obtain ⟨r2, A3, e9, rfl, h⟩ := hq
  obtain rfl := Sum.inl.inj e9
  show J Γ RX0 cX0_fetched 1 (some .int) "fetched" [] 507 0 0 8 [(0, .ref 0)] [.int r2] (n, K, A3, Lg, G) P
  refine j_iret rfl ?_ dX0_fetched_8
  rw [hP]
  exact ⟨r2, A3, rfl, rfl, h⟩
theorem myX0_then : jY yX0_then cX0_then 4 (some .int) 3 := ⟨q1464, q121, by decide +kernel, by decide +kernel, by decide⟩
def fX0_then (tx : Nat) (n : Nat) (K : Nat → pKd) (A : pA) (G : pG) (p1 : Int32) (p2 : Int32) (p3 : Int32) (Q : Int32 → pA → Prop) : Prop :=
    fX0_isPerson tx A p1 (fun r1 => (if r1 = 0 then Q (-1) A else fX0_isAhead A p2 (fun r2 => (if r2 = 0 then Q (-1) A else fX0_isIn A p3 0 3 (fun r3 => (if r3 = 0 then Q (-1) A else fX5_takes 48 25 A (fun A4 => fX0_runs tx 48 n K A4 G p2 (fun A5 => (if p3 = 0 then (vp_in p1 4) ∧ (Q (A5 (48 + 4) (p1).toNatClampNeg) A5) else (if p3 = 1 then (vp_in p1 4) ∧ (Q (A5 (48 + 6) (p1).toNatClampNeg) A5) else (if p3 = 2 then fX5_isFetched 48 A5 p1 (fun r12 => (if r12 = 0 then Q 0 A5 else Q 1 A5)) else (fX0_leftOf tx 48 A5 p1 (fun r6 => Q r6 A5)))))))))))))
theorem tX0_then {Γ : jG} {n : Nat} {K : Nat → pKd} {G : pG} {A : pA} {Lg : pL} (hf : fOK n K G) (tx : Nat) (ht : G 0 3 = .ref tx) (hx : xOK n K G tx) (p1 : Int32) (p2 : Int32) (p3 : Int32) (Q : Int32 → pA → Prop) (h : fX0_then tx n K A G p1 p2 p3 Q) : jMet Γ yX0_then cX0_then 4 (some .int) [] 509 0 0 [.ref 0, .int p1, .int p2, .int p3] (n, K, A, Lg, G) (fun o u => ∃ (r : Int32) (A' : pA), o = .inl (some (.int r)) ∧ u = (n, K, A', Lg, G) ∧ Q r A') := by
  unfold fX0_then at h
  obtain ⟨P, hP⟩ : ∃ P : jO → pS → Prop, P = (fun o u => ∃ (r : Int32) (A' : pA), o = .inl (some (.int r)) ∧ u = (n, K, A', Lg, G) ∧ Q r A') := ⟨_, rfl⟩
  rw [← hP]
  refine jMet_of rfl rfl rfl (Nat.le_of_ble_eq_true rfl) ?_
  show J Γ RX0 cX0_then 4 (some .int) "then" [] 509 0 0 0 [(0, .ref 0), (1, .int p1), (2, .int p2), (3, .int p3)] [] (n, K, A, Lg, G) P
  refine j_aload_n 0 rfl dX0_then_0 ?_
  refine j_iload_n 1 rfl dX0_then_1 ?_
  refine j_callV (b := 0) (As := [.int p1]) (st := []) (C := RX0) (kc' := 0) (ks' := 0) (tX0_isPerson hf tx ht hx p1 _ h) myX0_isPerson rfl q1224 q1226 qs38 (by decide) (fun s9 H9 hK9 hR9 h69 => jIs_in hK9 hR9 h69 (f_lt hf (by decide)) (fk_0 hf) rfl) rfl (Nat.le_of_ble_eq_true rfl) rfl (by decide) (Nat.le_refl 0) (Nat.le_refl 0) dX0_then_2 (fun v9 u9 hq => ?_) (fun k9 u9 hq => by obtain ⟨_, e9, _⟩ := hq; cases e9)
  obtain ⟨r1, e9, rfl, h⟩ := hq
  obtain rfl := Sum.inl.inj e9
  show J Γ RX0 cX0_then 4 (some .int) "then" [] 509 0 0 5 [(0, .ref 0), (1, .int p1), (2, .int p2), (3, .int p3)] [.int r1] (n, K, A, Lg, G) P
  refine j_if_eq (tgt := 24) dX0_then_5 (by decide) (fun c => ?_) (fun c => ?_)
  · rw [if_pos c] at h
    refine j_iconst (v := (-1)) dX0_then_24 (by decide) ?_
    refine j_iret rfl ?_ dX0_then_25
    rw [hP]
    exact ⟨(-1), A, rfl, rfl, h⟩
  · rw [if_neg c] at h
    refine j_iload_n 2 rfl dX0_then_8 ?_
    refine j_callS (As := [.int p2]) (st := []) (kc' := 0) (ks' := 0) (tX0_isAhead hf p2 _ h) myX0_isAhead q1317 q1318 rfl (Nat.le_of_ble_eq_true rfl) rfl (by decide) (Nat.le_refl 0) (Nat.le_refl 0) dX0_then_9 (fun v9 u9 hq => ?_) (fun k9 u9 hq => by obtain ⟨_, e9, _⟩ := hq; cases e9)
    obtain ⟨r2, e9, rfl, h⟩ := hq
    obtain rfl := Sum.inl.inj e9
    show J Γ RX0 cX0_then 4 (some .int) "then" [] 509 0 0 12 [(0, .ref 0), (1, .int p1), (2, .int p2), (3, .int p3)] [.int r2] (n, K, A, Lg, G) P
    refine j_if_eq (tgt := 24) dX0_then_12 (by decide) (fun c => ?_) (fun c => ?_)
    · rw [if_pos c] at h
      refine j_iconst (v := (-1)) dX0_then_24 (by decide) ?_
      refine j_iret rfl ?_ dX0_then_25
      rw [hP]
      exact ⟨(-1), A, rfl, rfl, h⟩
    · rw [if_neg c] at h
      refine j_iload_n 3 rfl dX0_then_15 ?_
      refine j_iconst (v := 0) dX0_then_16 (by decide) ?_
      refine j_iconst (v := 3) dX0_then_17 (by decide) ?_
      refine j_callS (As := [.int p3, .int 0, .int 3]) (st := []) (kc' := 0) (ks' := 0) (tX0_isIn hf p3 0 3 _ h) myX0_isIn q1194 q1195 rfl (Nat.le_of_ble_eq_true rfl) rfl (by decide) (Nat.le_refl 0) (Nat.le_refl 0) dX0_then_18 (fun v9 u9 hq => ?_) (fun k9 u9 hq => by obtain ⟨_, e9, _⟩ := hq; cases e9)
      obtain ⟨r3, e9, rfl, h⟩ := hq
      obtain rfl := Sum.inl.inj e9
      show J Γ RX0 cX0_then 4 (some .int) "then" [] 509 0 0 21 [(0, .ref 0), (1, .int p1), (2, .int p2), (3, .int p3)] [.int r3] (n, K, A, Lg, G) P
      refine j_if_ne (tgt := 26) dX0_then_21 (by decide) (fun c => ?_) (fun c => ?_)
      · rw [if_neg c] at h
        refine j_aload_n 0 rfl dX0_then_26 ?_
        refine j_getfr fl_X0_59_0 rfl (f_lt hf (by decide)) (fk_0 hf) (fg_0_8 hf) dX0_then_27 ?_
        refine j_aload_n 0 rfl dX0_then_30 ?_
        refine j_getfr fl_X0_55_0 rfl (f_lt hf (by decide)) (fk_0 hf) (fg_0_7 hf) dX0_then_31 ?_
        refine j_callV (b := 48) (As := [.ref 25]) (st := []) (C := RX5) (kc' := 0) (ks' := 0) (tX5_takes hf 48 isT_trial 25 isT_town _ h) myX5_takes rfl q1293 q1294 q1295 (j_l2 hf.1 (t_lt hf isT_trial (j := 0) (by decide))) (fun s9 H9 hK9 hR9 h69 => jIs_in hK9 hR9 h69 (t_lt hf isT_trial (j := 0) (by decide)) (tk_0 hf isT_trial) rfl) rfl (Nat.le_of_ble_eq_true rfl) rfl (by decide) (Nat.le_refl 0) (Nat.le_refl 0) dX0_then_34 (fun v9 u9 hq => ?_) (fun k9 u9 hq => by obtain ⟨_, e9, _⟩ := hq; cases e9)
        obtain ⟨A4, e9, rfl, h⟩ := hq
        obtain rfl := Sum.inl.inj e9
        show J Γ RX0 cX0_then 4 (some .int) "then" [] 509 0 0 37 [(0, .ref 0), (1, .int p1), (2, .int p2), (3, .int p3)] [] (n, K, A4, Lg, G) P
        refine j_aload_n 0 rfl dX0_then_37 ?_
        refine j_aload_n 0 rfl dX0_then_38 ?_
        refine j_getfr fl_X0_59_0 rfl (f_lt hf (by decide)) (fk_0 hf) (fg_0_8 hf) dX0_then_39 ?_
        refine j_iload_n 2 rfl dX0_then_42 ?_
        refine j_callV (b := 0) (As := [.ref 48, .int p2]) (st := []) (C := RX0) (kc' := 0) (ks' := 0) (tX0_runs hf tx ht hx 48 isT_trial p2 _ h) myX0_runs rfl q1320 q1322 qs43 (by decide) (fun s9 H9 hK9 hR9 h69 => jIs_in hK9 hR9 h69 (f_lt hf (by decide)) (fk_0 hf) rfl) rfl (Nat.le_of_ble_eq_true rfl) rfl (by decide) (Nat.le_refl 0) (Nat.le_refl 0) dX0_then_43 (fun v9 u9 hq => ?_) (fun k9 u9 hq => by obtain ⟨_, e9, _⟩ := hq; cases e9)
        obtain ⟨A5, e9, rfl, h⟩ := hq
        obtain rfl := Sum.inl.inj e9
        show J Γ RX0 cX0_then 4 (some .int) "then" [] 509 0 0 46 [(0, .ref 0), (1, .int p1), (2, .int p2), (3, .int p3)] [] (n, K, A5, Lg, G) P
        refine j_iload_n 3 rfl dX0_then_46 ?_
        by_cases c7 : p3 = 0
        · rw [if_pos c7] at h
          have c7T : (p3 : Int32).toInt = 0 := by rw [c7]; rfl
          refine j_tableIn (off := 25) (tgt := 72) (by rw [c7T]; decide) (by rw [c7T]; decide) (by rw [c7T]; rfl) dX0_then_47 (by decide) ?_
          refine j_aload_n 0 rfl dX0_then_72 ?_
          refine j_getfr fl_X0_59_0 rfl (f_lt hf (by decide)) (fk_0 hf) (fg_0_8 hf) dX0_then_73 ?_
          refine j_getfr fl_X0_175_5 rfl (t_lt hf isT_trial (j := 0) (by decide)) (tk_0 hf isT_trial) (tg_0_3 hf isT_trial) dX0_then_76 ?_
          refine j_iload_n 1 rfl dX0_then_79 ?_
          obtain ⟨b8, h⟩ := h
          refine j_ialdJ (j := (p1).toNatClampNeg) (t_lt hf isT_trial (j := 4) (by decide)) (tk_4 hf isT_trial) b8 rfl dX0_then_80 ?_
          refine j_iret rfl ?_ dX0_then_81
          rw [hP]
          exact ⟨A5 (48 + 4) (p1).toNatClampNeg, A5, rfl, rfl, h⟩
        rw [if_neg c7] at h
        by_cases c9 : p3 = 1
        · rw [if_pos c9] at h
          have c9T : (p3 : Int32).toInt = 1 := by rw [c9]; rfl
          refine j_tableIn (off := 35) (tgt := 82) (by rw [c9T]; decide) (by rw [c9T]; decide) (by rw [c9T]; rfl) dX0_then_47 (by decide) ?_
          refine j_aload_n 0 rfl dX0_then_82 ?_
          refine j_getfr fl_X0_59_0 rfl (f_lt hf (by decide)) (fk_0 hf) (fg_0_8 hf) dX0_then_83 ?_
          refine j_getfr fl_X0_218_5 rfl (t_lt hf isT_trial (j := 0) (by decide)) (tk_0 hf isT_trial) (tg_0_5 hf isT_trial) dX0_then_86 ?_
          refine j_iload_n 1 rfl dX0_then_89 ?_
          obtain ⟨b10, h⟩ := h
          refine j_ialdJ (j := (p1).toNatClampNeg) (t_lt hf isT_trial (j := 6) (by decide)) (tk_6 hf isT_trial) b10 rfl dX0_then_90 ?_
          refine j_iret rfl ?_ dX0_then_91
          rw [hP]
          exact ⟨A5 (48 + 6) (p1).toNatClampNeg, A5, rfl, rfl, h⟩
        rw [if_neg c9] at h
        by_cases c11 : p3 = 2
        · rw [if_pos c11] at h
          have c11T : (p3 : Int32).toInt = 2 := by rw [c11]; rfl
          refine j_tableIn (off := 45) (tgt := 92) (by rw [c11T]; decide) (by rw [c11T]; decide) (by rw [c11T]; rfl) dX0_then_47 (by decide) ?_
          refine j_aload_n 0 rfl dX0_then_92 ?_
          refine j_getfr fl_X0_59_0 rfl (f_lt hf (by decide)) (fk_0 hf) (fg_0_8 hf) dX0_then_93 ?_
          refine j_iload_n 1 rfl dX0_then_96 ?_
          refine j_callV (b := 48) (As := [.int p1]) (st := []) (C := RX5) (kc' := 0) (ks' := 0) (tX5_isFetched hf 48 isT_trial p1 _ h) myX5_isFetched rfl q1229 q1230 q1231 (j_l2 hf.1 (t_lt hf isT_trial (j := 0) (by decide))) (fun s9 H9 hK9 hR9 h69 => jIs_in hK9 hR9 h69 (t_lt hf isT_trial (j := 0) (by decide)) (tk_0 hf isT_trial) rfl) rfl (Nat.le_of_ble_eq_true rfl) rfl (by decide) (Nat.le_refl 0) (Nat.le_refl 0) dX0_then_97 (fun v9 u9 hq => ?_) (fun k9 u9 hq => by obtain ⟨_, e9, _⟩ := hq; cases e9)
          obtain ⟨r12, e9, rfl, h⟩ := hq
          obtain rfl := Sum.inl.inj e9
          show J Γ RX0 cX0_then 4 (some .int) "then" [] 509 0 0 100 [(0, .ref 0), (1, .int p1), (2, .int p2), (3, .int p3)] [.int r12] (n, K, A5, Lg, G) P
          refine j_if_eq (tgt := 107) dX0_then_100 (by decide) (fun c => ?_) (fun c => ?_)
          · rw [if_pos c] at h
            refine j_iconst (v := 0) dX0_then_107 (by decide) ?_
            refine j_iret rfl ?_ dX0_then_108
            rw [hP]
            exact ⟨0, A5, rfl, rfl, h⟩
          · rw [if_neg c] at h
            refine j_iconst (v := 1) dX0_then_103 (by decide) ?_
            refine j_goto (tgt := 108) dX0_then_104 (by decide) ?_
            refine j_iret rfl ?_ dX0_then_108
            rw [hP]
            exact ⟨1, A5, rfl, rfl, h⟩
        rw [if_neg c11] at h
        refine j_tableOut (tgt := 109) (by have c7T := lv_neT c7 (a := 0) rfl; have c9T := lv_neT c9 (a := 1) rfl; have c11T := lv_neT c11 (a := 2) rfl; omega) dX0_then_47 (by decide) ?_
        refine j_aload_n 0 rfl dX0_then_109 ?_
        refine j_aload_n 0 rfl dX0_then_110 ?_
        refine j_getfr fl_X0_59_0 rfl (f_lt hf (by decide)) (fk_0 hf) (fg_0_8 hf) dX0_then_111 ?_
        refine j_iload_n 1 rfl dX0_then_114 ?_
        refine j_callV (b := 0) (As := [.ref 48, .int p1]) (st := []) (C := RX0) (kc' := 0) (ks' := 0) (tX0_leftOf hf tx ht hx 48 isT_trial p1 _ h) myX0_leftOf rfl q1233 q1235 qs39 (by decide) (fun s9 H9 hK9 hR9 h69 => jIs_in hK9 hR9 h69 (f_lt hf (by decide)) (fk_0 hf) rfl) rfl (Nat.le_of_ble_eq_true rfl) rfl (by decide) (Nat.le_refl 0) (Nat.le_refl 0) dX0_then_115 (fun v9 u9 hq => ?_) (fun k9 u9 hq => by obtain ⟨_, e9, _⟩ := hq; cases e9)
        obtain ⟨r6, e9, rfl, h⟩ := hq
        obtain rfl := Sum.inl.inj e9
        show J Γ RX0 cX0_then 4 (some .int) "then" [] 509 0 0 118 [(0, .ref 0), (1, .int p1), (2, .int p2), (3, .int p3)] [.int r6] (n, K, A5, Lg, G) P
        refine j_iret rfl ?_ dX0_then_118
        rw [hP]
        exact ⟨r6, A5, rfl, rfl, h⟩
      · rw [if_pos c] at h
        refine j_iconst (v := (-1)) dX0_then_24 (by decide) ?_
        refine j_iret rfl ?_ dX0_then_25
        rw [hP]
        exact ⟨(-1), A, rfl, rfl, h⟩
theorem myX0_dogIn : jY yX0_dogIn cX0_dogIn 3 (some .int) 2 := ⟨q1468, q121, by decide +kernel, by decide +kernel, by decide⟩
def fX0_dogIn (tx : Nat) (n : Nat) (K : Nat → pKd) (A : pA) (G : pG) (p1 : Int32) (p2 : Int32) (Q : Int32 → pA → Prop) : Prop :=
    fX0_isDog tx A p1 (fun r1 => (if r1 = 0 then Q (-1) A else fX0_isAhead A p2 (fun r2 => (if r2 = 0 then Q (-1) A else fX5_takes 48 25 A (fun A3 => fX0_runs tx 48 n K A3 G p2 (fun A4 => (vp_in p1 5) ∧ (Q (A4 (48 + 1) (p1).toNatClampNeg) A4)))))))
theorem tX0_dogIn {Γ : jG} {n : Nat} {K : Nat → pKd} {G : pG} {A : pA} {Lg : pL} (hf : fOK n K G) (tx : Nat) (ht : G 0 3 = .ref tx) (hx : xOK n K G tx) (p1 : Int32) (p2 : Int32) (Q : Int32 → pA → Prop) (h : fX0_dogIn tx n K A G p1 p2 Q) : jMet Γ yX0_dogIn cX0_dogIn 3 (some .int) [] 509 0 0 [.ref 0, .int p1, .int p2] (n, K, A, Lg, G) (fun o u => ∃ (r : Int32) (A' : pA), o = .inl (some (.int r)) ∧ u = (n, K, A', Lg, G) ∧ Q r A') := by
  unfold fX0_dogIn at h
  obtain ⟨P, hP⟩ : ∃ P : jO → pS → Prop, P = (fun o u => ∃ (r : Int32) (A' : pA), o = .inl (some (.int r)) ∧ u = (n, K, A', Lg, G) ∧ Q r A') := ⟨_, rfl⟩
  rw [← hP]
  refine jMet_of rfl rfl rfl (Nat.le_of_ble_eq_true rfl) ?_
  show J Γ RX0 cX0_dogIn 3 (some .int) "dogIn" [] 509 0 0 0 [(0, .ref 0), (1, .int p1), (2, .int p2)] [] (n, K, A, Lg, G) P
  refine j_aload_n 0 rfl dX0_dogIn_0 ?_
  refine j_iload_n 1 rfl dX0_dogIn_1 ?_
  refine j_callV (b := 0) (As := [.int p1]) (st := []) (C := RX0) (kc' := 0) (ks' := 0) (tX0_isDog hf tx ht hx p1 _ h) myX0_isDog rfl q1215 q1217 qs37 (by decide) (fun s9 H9 hK9 hR9 h69 => jIs_in hK9 hR9 h69 (f_lt hf (by decide)) (fk_0 hf) rfl) rfl (Nat.le_of_ble_eq_true rfl) rfl (by decide) (Nat.le_refl 0) (Nat.le_refl 0) dX0_dogIn_2 (fun v9 u9 hq => ?_) (fun k9 u9 hq => by obtain ⟨_, e9, _⟩ := hq; cases e9)
  obtain ⟨r1, e9, rfl, h⟩ := hq
  obtain rfl := Sum.inl.inj e9
  show J Γ RX0 cX0_dogIn 3 (some .int) "dogIn" [] 509 0 0 5 [(0, .ref 0), (1, .int p1), (2, .int p2)] [.int r1] (n, K, A, Lg, G) P
  refine j_if_eq (tgt := 15) dX0_dogIn_5 (by decide) (fun c => ?_) (fun c => ?_)
  · rw [if_pos c] at h
    refine j_iconst (v := (-1)) dX0_dogIn_15 (by decide) ?_
    refine j_iret rfl ?_ dX0_dogIn_16
    rw [hP]
    exact ⟨(-1), A, rfl, rfl, h⟩
  · rw [if_neg c] at h
    refine j_iload_n 2 rfl dX0_dogIn_8 ?_
    refine j_callS (As := [.int p2]) (st := []) (kc' := 0) (ks' := 0) (tX0_isAhead hf p2 _ h) myX0_isAhead q1317 q1318 rfl (Nat.le_of_ble_eq_true rfl) rfl (by decide) (Nat.le_refl 0) (Nat.le_refl 0) dX0_dogIn_9 (fun v9 u9 hq => ?_) (fun k9 u9 hq => by obtain ⟨_, e9, _⟩ := hq; cases e9)
    obtain ⟨r2, e9, rfl, h⟩ := hq
    obtain rfl := Sum.inl.inj e9
    show J Γ RX0 cX0_dogIn 3 (some .int) "dogIn" [] 509 0 0 12 [(0, .ref 0), (1, .int p1), (2, .int p2)] [.int r2] (n, K, A, Lg, G) P
    refine j_if_ne (tgt := 17) dX0_dogIn_12 (by decide) (fun c => ?_) (fun c => ?_)
    · rw [if_neg c] at h
      refine j_aload_n 0 rfl dX0_dogIn_17 ?_
      refine j_getfr fl_X0_59_0 rfl (f_lt hf (by decide)) (fk_0 hf) (fg_0_8 hf) dX0_dogIn_18 ?_
      refine j_aload_n 0 rfl dX0_dogIn_21 ?_
      refine j_getfr fl_X0_55_0 rfl (f_lt hf (by decide)) (fk_0 hf) (fg_0_7 hf) dX0_dogIn_22 ?_
      refine j_callV (b := 48) (As := [.ref 25]) (st := []) (C := RX5) (kc' := 0) (ks' := 0) (tX5_takes hf 48 isT_trial 25 isT_town _ h) myX5_takes rfl q1293 q1294 q1295 (j_l2 hf.1 (t_lt hf isT_trial (j := 0) (by decide))) (fun s9 H9 hK9 hR9 h69 => jIs_in hK9 hR9 h69 (t_lt hf isT_trial (j := 0) (by decide)) (tk_0 hf isT_trial) rfl) rfl (Nat.le_of_ble_eq_true rfl) rfl (by decide) (Nat.le_refl 0) (Nat.le_refl 0) dX0_dogIn_25 (fun v9 u9 hq => ?_) (fun k9 u9 hq => by obtain ⟨_, e9, _⟩ := hq; cases e9)
      obtain ⟨A3, e9, rfl, h⟩ := hq
      obtain rfl := Sum.inl.inj e9
      show J Γ RX0 cX0_dogIn 3 (some .int) "dogIn" [] 509 0 0 28 [(0, .ref 0), (1, .int p1), (2, .int p2)] [] (n, K, A3, Lg, G) P
      refine j_aload_n 0 rfl dX0_dogIn_28 ?_
      refine j_aload_n 0 rfl dX0_dogIn_29 ?_
      refine j_getfr fl_X0_59_0 rfl (f_lt hf (by decide)) (fk_0 hf) (fg_0_8 hf) dX0_dogIn_30 ?_
      refine j_iload_n 2 rfl dX0_dogIn_33 ?_
      refine j_callV (b := 0) (As := [.ref 48, .int p2]) (st := []) (C := RX0) (kc' := 0) (ks' := 0) (tX0_runs hf tx ht hx 48 isT_trial p2 _ h) myX0_runs rfl q1320 q1322 qs43 (by decide) (fun s9 H9 hK9 hR9 h69 => jIs_in hK9 hR9 h69 (f_lt hf (by decide)) (fk_0 hf) rfl) rfl (Nat.le_of_ble_eq_true rfl) rfl (by decide) (Nat.le_refl 0) (Nat.le_refl 0) dX0_dogIn_34 (fun v9 u9 hq => ?_) (fun k9 u9 hq => by obtain ⟨_, e9, _⟩ := hq; cases e9)
      obtain ⟨A4, e9, rfl, h⟩ := hq
      obtain rfl := Sum.inl.inj e9
      show J Γ RX0 cX0_dogIn 3 (some .int) "dogIn" [] 509 0 0 37 [(0, .ref 0), (1, .int p1), (2, .int p2)] [] (n, K, A4, Lg, G) P
      refine j_aload_n 0 rfl dX0_dogIn_37 ?_
      refine j_getfr fl_X0_59_0 rfl (f_lt hf (by decide)) (fk_0 hf) (fg_0_8 hf) dX0_dogIn_38 ?_
      refine j_getfr fl_X0_172_5 rfl (t_lt hf isT_trial (j := 0) (by decide)) (tk_0 hf isT_trial) (tg_0_0 hf isT_trial) dX0_dogIn_41 ?_
      refine j_iload_n 1 rfl dX0_dogIn_44 ?_
      obtain ⟨b5, h⟩ := h
      refine j_ialdJ (j := (p1).toNatClampNeg) (t_lt hf isT_trial (j := 1) (by decide)) (tk_1 hf isT_trial) b5 rfl dX0_dogIn_45 ?_
      refine j_iret rfl ?_ dX0_dogIn_46
      rw [hP]
      exact ⟨A4 (48 + 1) (p1).toNatClampNeg, A4, rfl, rfl, h⟩
    · rw [if_pos c] at h
      refine j_iconst (v := (-1)) dX0_dogIn_15 (by decide) ?_
      refine j_iret rfl ?_ dX0_dogIn_16
      rw [hP]
      exact ⟨(-1), A, rfl, rfl, h⟩
theorem myX0_first : jY yX0_first cX0_first 4 (some .int) 1 := ⟨q1472, q121, by decide +kernel, by decide +kernel, by decide⟩
def fX0_first_J98 (tx : Nat) (n : Nat) (K : Nat → pKd) (G : pG) (k48 : Int32 → Int32 → Int32 → pA → Prop) (Q : Int32 → pA → Prop) (l1 : Int32) (l2 : Int32) (l3 : Int32) (A : pA) : Prop :=
    k48 l1 l2 (l3 + 1) A
theorem fX0_first_J98_ok {Γ : jG} {n : Nat} {K : Nat → pKd} {G : pG} {Lg : pL} (hf : fOK n K G) (tx : Nat) (ht : G 0 3 = .ref tx) (hx : xOK n K G tx) (Q : Int32 → pA → Prop) (P : jO → pS → Prop) (hP : P = (fun o u => ∃ (r : Int32) (A' : pA), o = .inl (some (.int r)) ∧ u = (n, K, A', Lg, G) ∧ Q r A')) (k48 : Int32 → Int32 → Int32 → pA → Prop) (ok48 : ∀ (l1 : Int32) (l2 : Int32) (l3 : Int32) (A : pA), k48 l1 l2 l3 A → J Γ RX0 cX0_first 4 (some .int) "first" [] 508 0 0 48 [(0, .ref 0), (1, .int l1), (2, .int l2), (3, .int l3)] [] (n, K, A, Lg, G) P) (l1 : Int32) (l2 : Int32) (l3 : Int32) (A : pA) (h : fX0_first_J98 tx n K G k48 Q l1 l2 l3 A) : J Γ RX0 cX0_first 4 (some .int) "first" [] 508 0 0 98 [(0, .ref 0), (1, .int l1), (2, .int l2), (3, .int l3)] [] (n, K, A, Lg, G) P := by
  unfold fX0_first_J98 at h
  refine j_iinc (v := l3 + 1) 3 rfl rfl (by decide) rfl dX0_first_98 ?_
  refine j_goto (tgt := 48) dX0_first_101 (by decide) ?_
  refine j_ls [1, 2, 3, 0] rfl ?_
  exact ok48 l1 l2 (l3 + 1) A h
def fX0_first_L48 (tx : Nat) (n : Nat) (K : Nat → pKd) (G : pG) (k24 : Int32 → Int32 → pA → Prop) (Q : Int32 → pA → Prop) : Nat → Int32 → Int32 → Int32 → pA → Prop
  | 0, _, _, _, _ => False
  | n9 + 1, l1, l2, l3, A =>
    fX0_people tx A (fun r1 => (if r1 ≤ l3 then k24 l1 (l2 + 1) A else fX5_isFetched 25 A l3 (fun r2 => (if r2 = 0 then (vp_in l3 4) ∧ ((vp_in l3 4) ∧ ((if (A (48 + 7) (l3).toNatClampNeg) ≤ (A (25 + 7) (l3).toNatClampNeg) then fX0_first_J98 tx n K G (fun x0 x1 x2 x3 => fX0_first_L48 tx n K G k24 Q n9 x0 x1 x2 x3) Q l1 l2 l3 A else (if l1 = 0 then Q l3 A else Q l2 A)))) else fX0_first_J98 tx n K G (fun x0 x1 x2 x3 => fX0_first_L48 tx n K G k24 Q n9 x0 x1 x2 x3) Q l1 l2 l3 A))))
theorem fX0_first_L48_ok {Γ : jG} {n : Nat} {K : Nat → pKd} {G : pG} {Lg : pL} (hf : fOK n K G) (tx : Nat) (ht : G 0 3 = .ref tx) (hx : xOK n K G tx) (Q : Int32 → pA → Prop) (P : jO → pS → Prop) (hP : P = (fun o u => ∃ (r : Int32) (A' : pA), o = .inl (some (.int r)) ∧ u = (n, K, A', Lg, G) ∧ Q r A'))  (k24 : Int32 → Int32 → pA → Prop) (ok24 : ∀ (l1 : Int32) (l2 : Int32) (A : pA), k24 l1 l2 A → J Γ RX0 cX0_first 4 (some .int) "first" [] 508 0 0 24 [(0, .ref 0), (1, .int l1), (2, .int l2)] [] (n, K, A, Lg, G) P) : ∀ (n9 : Nat) (l1 : Int32) (l2 : Int32) (l3 : Int32) (A : pA), fX0_first_L48 tx n K G k24 Q n9 l1 l2 l3 A → J Γ RX0 cX0_first 4 (some .int) "first" [] 508 0 0 48 [(0, .ref 0), (1, .int l1), (2, .int l2), (3, .int l3)] [] (n, K, A, Lg, G) P := by
  intro n9
  induction n9 with
  | zero => intro l1 l2 l3 A h; exact h.elim
  | succ n9 ih =>
    intro l1 l2 l3 A h
    unfold fX0_first_L48 at h
    refine j_iload_n 3 rfl dX0_first_48 ?_
    refine j_aload_n 0 rfl dX0_first_49 ?_
    refine j_callV (b := 0) (As := []) (st := [.int l3]) (C := RX0) (kc' := 0) (ks' := 0) (tX0_people hf tx ht hx _ h) myX0_people rfl q1203 q1205 qs35 (by decide) (fun s9 H9 hK9 hR9 h69 => jIs_in hK9 hR9 h69 (f_lt hf (by decide)) (fk_0 hf) rfl) rfl (Nat.le_of_ble_eq_true rfl) rfl (by decide) (Nat.le_refl 0) (Nat.le_refl 0) dX0_first_50 (fun v9 u9 hq => ?_) (fun k9 u9 hq => by obtain ⟨_, e9, _⟩ := hq; cases e9)
    obtain ⟨r1, e9, rfl, h⟩ := hq
    obtain rfl := Sum.inl.inj e9
    show J Γ RX0 cX0_first 4 (some .int) "first" [] 508 0 0 53 [(0, .ref 0), (1, .int l1), (2, .int l2), (3, .int l3)] [.int r1, .int l3] (n, K, A, Lg, G) P
    refine j_icmp_ge (tgt := 104) dX0_first_53 (by decide) (fun c => ?_) (fun c => ?_)
    · rw [if_pos c] at h
      refine j_iinc (v := l2 + 1) 2 rfl rfl (by decide) rfl dX0_first_104 ?_
      refine j_goto (tgt := 24) dX0_first_107 (by decide) ?_
      refine j_ls [1, 2, 0] rfl ?_
      exact ok24 l1 (l2 + 1) A h
    · rw [if_neg c] at h
      refine j_aload_n 0 rfl dX0_first_56 ?_
      refine j_getfr fl_X0_55_0 rfl (f_lt hf (by decide)) (fk_0 hf) (fg_0_7 hf) dX0_first_57 ?_
      refine j_iload_n 3 rfl dX0_first_60 ?_
      refine j_callV (b := 25) (As := [.int l3]) (st := []) (C := RX5) (kc' := 0) (ks' := 0) (tX5_isFetched hf 25 isT_town l3 _ h) myX5_isFetched rfl q1229 q1230 q1231 (j_l2 hf.1 (t_lt hf isT_town (j := 0) (by decide))) (fun s9 H9 hK9 hR9 h69 => jIs_in hK9 hR9 h69 (t_lt hf isT_town (j := 0) (by decide)) (tk_0 hf isT_town) rfl) rfl (Nat.le_of_ble_eq_true rfl) rfl (by decide) (Nat.le_refl 0) (Nat.le_refl 0) dX0_first_61 (fun v9 u9 hq => ?_) (fun k9 u9 hq => by obtain ⟨_, e9, _⟩ := hq; cases e9)
      obtain ⟨r2, e9, rfl, h⟩ := hq
      obtain rfl := Sum.inl.inj e9
      show J Γ RX0 cX0_first 4 (some .int) "first" [] 508 0 0 64 [(0, .ref 0), (1, .int l1), (2, .int l2), (3, .int l3)] [.int r2] (n, K, A, Lg, G) P
      refine j_if_ne (tgt := 98) dX0_first_64 (by decide) (fun c => ?_) (fun c => ?_)
      · rw [if_neg c] at h
        exact fX0_first_J98_ok hf tx ht hx Q P hP (fun x0 x1 x2 x3 => fX0_first_L48 tx n K G k24 Q n9 x0 x1 x2 x3) (fun x0 x1 x2 x3 h9 => ih x0 x1 x2 x3 h9) l1 l2 l3 A h
      · rw [if_pos c] at h
        refine j_aload_n 0 rfl dX0_first_67 ?_
        refine j_getfr fl_X0_59_0 rfl (f_lt hf (by decide)) (fk_0 hf) (fg_0_8 hf) dX0_first_68 ?_
        refine j_getfr fl_X0_231_5 rfl (t_lt hf isT_trial (j := 0) (by decide)) (tk_0 hf isT_trial) (tg_0_6 hf isT_trial) dX0_first_71 ?_
        refine j_iload_n 3 rfl dX0_first_74 ?_
        obtain ⟨b3, h⟩ := h
        refine j_ialdJ (j := (l3).toNatClampNeg) (t_lt hf isT_trial (j := 7) (by decide)) (tk_7 hf isT_trial) b3 rfl dX0_first_75 ?_
        refine j_aload_n 0 rfl dX0_first_76 ?_
        refine j_getfr fl_X0_55_0 rfl (f_lt hf (by decide)) (fk_0 hf) (fg_0_7 hf) dX0_first_77 ?_
        refine j_getfr fl_X0_231_5 rfl (t_lt hf isT_town (j := 0) (by decide)) (tk_0 hf isT_town) (tg_0_6 hf isT_town) dX0_first_80 ?_
        refine j_iload_n 3 rfl dX0_first_83 ?_
        obtain ⟨b4, h⟩ := h
        refine j_ialdJ (j := (l3).toNatClampNeg) (t_lt hf isT_town (j := 7) (by decide)) (tk_7 hf isT_town) b4 rfl dX0_first_84 ?_
        refine j_icmp_le (tgt := 98) dX0_first_85 (by decide) (fun c => ?_) (fun c => ?_)
        · rw [if_pos c] at h
          exact fX0_first_J98_ok hf tx ht hx Q P hP (fun x0 x1 x2 x3 => fX0_first_L48 tx n K G k24 Q n9 x0 x1 x2 x3) (fun x0 x1 x2 x3 h9 => ih x0 x1 x2 x3 h9) l1 l2 l3 A h
        · rw [if_neg c] at h
          refine j_iload_n 1 rfl dX0_first_88 ?_
          refine j_if_ne (tgt := 96) dX0_first_89 (by decide) (fun c => ?_) (fun c => ?_)
          · rw [if_neg c] at h
            refine j_iload_n 2 rfl dX0_first_96 ?_
            refine j_iret rfl ?_ dX0_first_97
            rw [hP]
            exact ⟨l2, A, rfl, rfl, h⟩
          · rw [if_pos c] at h
            refine j_iload_n 3 rfl dX0_first_92 ?_
            refine j_goto (tgt := 97) dX0_first_93 (by decide) ?_
            refine j_iret rfl ?_ dX0_first_97
            rw [hP]
            exact ⟨l3, A, rfl, rfl, h⟩
def fX0_first_L24 (tx : Nat) (n : Nat) (K : Nat → pKd) (G : pG)  (Q : Int32 → pA → Prop) : Nat → Int32 → Int32 → pA → Prop
  | 0, _, _, _ => False
  | n9 + 1, l1, l2, A =>
    (if 1440 < l2 then Q (-2) A else fX5_goesBy 48 tx n K A G (fun A5 => ∃ m6, fX0_first_L48 tx n K G (fun x0 x1 x2 => fX0_first_L24 tx n K G  Q n9 x0 x1 x2) Q m6 l1 l2 0 A5))
theorem fX0_first_L24_ok {Γ : jG} {n : Nat} {K : Nat → pKd} {G : pG} {Lg : pL} (hf : fOK n K G) (tx : Nat) (ht : G 0 3 = .ref tx) (hx : xOK n K G tx) (Q : Int32 → pA → Prop) (P : jO → pS → Prop) (hP : P = (fun o u => ∃ (r : Int32) (A' : pA), o = .inl (some (.int r)) ∧ u = (n, K, A', Lg, G) ∧ Q r A'))    : ∀ (n9 : Nat) (l1 : Int32) (l2 : Int32) (A : pA), fX0_first_L24 tx n K G  Q n9 l1 l2 A → J Γ RX0 cX0_first 4 (some .int) "first" [] 508 0 0 24 [(0, .ref 0), (1, .int l1), (2, .int l2)] [] (n, K, A, Lg, G) P := by
  intro n9
  induction n9 with
  | zero => intro l1 l2 A h; exact h.elim
  | succ n9 ih =>
    intro l1 l2 A h
    unfold fX0_first_L24 at h
    refine j_iload_n 2 rfl dX0_first_24 ?_
    refine j_sipush (v := 1440) dX0_first_25 (by decide) ?_
    refine j_icmp_gt (tgt := 110) dX0_first_28 (by decide) (fun c => ?_) (fun c => ?_)
    · rw [if_pos c] at h
      refine j_bipush (v := (-2)) dX0_first_110 (by decide) ?_
      refine j_iret rfl ?_ dX0_first_112
      rw [hP]
      exact ⟨(-2), A, rfl, rfl, h⟩
    · rw [if_neg c] at h
      refine j_aload_n 0 rfl dX0_first_31 ?_
      refine j_getfr fl_X0_59_0 rfl (f_lt hf (by decide)) (fk_0 hf) (fg_0_8 hf) dX0_first_32 ?_
      refine j_aload_n 0 rfl dX0_first_35 ?_
      refine j_getfr fl_X0_44_0 rfl (f_lt hf (by decide)) (fk_0 hf) ht dX0_first_36 ?_
      refine j_aload_n 0 rfl dX0_first_39 ?_
      refine j_getfr fl_X0_77_0 rfl (f_lt hf (by decide)) (fk_0 hf) (fg_0_11 hf) dX0_first_40 ?_
      refine j_callV (b := 48) (As := [.ref tx, .ref 142]) (st := []) (C := RX5) (kc' := 0) (ks' := 0) (tX5_goesBy hf 48 isT_trial tx hx _ h) myX5_goesBy rfl q1324 q1325 q1326 (j_l2 hf.1 (t_lt hf isT_trial (j := 0) (by decide))) (fun s9 H9 hK9 hR9 h69 => jIs_in hK9 hR9 h69 (t_lt hf isT_trial (j := 0) (by decide)) (tk_0 hf isT_trial) rfl) rfl (Nat.le_of_ble_eq_true rfl) rfl (by decide) (Nat.le_refl 0) (Nat.le_refl 0) dX0_first_43 (fun v9 u9 hq => ?_) (fun k9 u9 hq => by obtain ⟨_, e9, _⟩ := hq; cases e9)
      obtain ⟨A5, e9, rfl, h⟩ := hq
      obtain rfl := Sum.inl.inj e9
      show J Γ RX0 cX0_first 4 (some .int) "first" [] 508 0 0 46 [(0, .ref 0), (1, .int l1), (2, .int l2)] [] (n, K, A5, Lg, G) P
      refine j_iconst (v := 0) dX0_first_46 (by decide) ?_
      refine j_istore_n (by decide) rfl dX0_first_47 ?_
      refine j_ls [1, 2, 3, 0] rfl ?_
      obtain ⟨m6, h⟩ := h
      exact fX0_first_L48_ok hf tx ht hx Q P hP (fun x0 x1 x2 => fX0_first_L24 tx n K G  Q n9 x0 x1 x2) (fun x0 x1 x2 h9 => ih x0 x1 x2 h9) m6 l1 l2 0 A5 h
def fX0_first (tx : Nat) (n : Nat) (K : Nat → pKd) (A : pA) (G : pG) (p1 : Int32) (Q : Int32 → pA → Prop) : Prop :=
    fX0_isIn A p1 0 1 (fun r7 => (if r7 = 0 then Q (-1) A else fX5_takes 48 25 A (fun A8 => ∃ m9, fX0_first_L24 tx n K G  Q m9 p1 1 A8)))
theorem tX0_first {Γ : jG} {n : Nat} {K : Nat → pKd} {G : pG} {A : pA} {Lg : pL} (hf : fOK n K G) (tx : Nat) (ht : G 0 3 = .ref tx) (hx : xOK n K G tx) (p1 : Int32) (Q : Int32 → pA → Prop) (h : fX0_first tx n K A G p1 Q) : jMet Γ yX0_first cX0_first 4 (some .int) [] 508 0 0 [.ref 0, .int p1] (n, K, A, Lg, G) (fun o u => ∃ (r : Int32) (A' : pA), o = .inl (some (.int r)) ∧ u = (n, K, A', Lg, G) ∧ Q r A') := by
  unfold fX0_first at h
  obtain ⟨P, hP⟩ : ∃ P : jO → pS → Prop, P = (fun o u => ∃ (r : Int32) (A' : pA), o = .inl (some (.int r)) ∧ u = (n, K, A', Lg, G) ∧ Q r A') := ⟨_, rfl⟩
  rw [← hP]
  refine jMet_of rfl rfl rfl (Nat.le_of_ble_eq_true rfl) ?_
  show J Γ RX0 cX0_first 4 (some .int) "first" [] 508 0 0 0 [(0, .ref 0), (1, .int p1)] [] (n, K, A, Lg, G) P
  refine j_iload_n 1 rfl dX0_first_0 ?_
  refine j_iconst (v := 0) dX0_first_1 (by decide) ?_
  refine j_iconst (v := 1) dX0_first_2 (by decide) ?_
  refine j_callS (As := [.int p1, .int 0, .int 1]) (st := []) (kc' := 0) (ks' := 0) (tX0_isIn hf p1 0 1 _ h) myX0_isIn q1194 q1195 rfl (Nat.le_of_ble_eq_true rfl) rfl (by decide) (Nat.le_refl 0) (Nat.le_refl 0) dX0_first_3 (fun v9 u9 hq => ?_) (fun k9 u9 hq => by obtain ⟨_, e9, _⟩ := hq; cases e9)
  obtain ⟨r7, e9, rfl, h⟩ := hq
  obtain rfl := Sum.inl.inj e9
  show J Γ RX0 cX0_first 4 (some .int) "first" [] 508 0 0 6 [(0, .ref 0), (1, .int p1)] [.int r7] (n, K, A, Lg, G) P
  refine j_if_ne (tgt := 11) dX0_first_6 (by decide) (fun c => ?_) (fun c => ?_)
  · rw [if_neg c] at h
    refine j_aload_n 0 rfl dX0_first_11 ?_
    refine j_getfr fl_X0_59_0 rfl (f_lt hf (by decide)) (fk_0 hf) (fg_0_8 hf) dX0_first_12 ?_
    refine j_aload_n 0 rfl dX0_first_15 ?_
    refine j_getfr fl_X0_55_0 rfl (f_lt hf (by decide)) (fk_0 hf) (fg_0_7 hf) dX0_first_16 ?_
    refine j_callV (b := 48) (As := [.ref 25]) (st := []) (C := RX5) (kc' := 0) (ks' := 0) (tX5_takes hf 48 isT_trial 25 isT_town _ h) myX5_takes rfl q1293 q1294 q1295 (j_l2 hf.1 (t_lt hf isT_trial (j := 0) (by decide))) (fun s9 H9 hK9 hR9 h69 => jIs_in hK9 hR9 h69 (t_lt hf isT_trial (j := 0) (by decide)) (tk_0 hf isT_trial) rfl) rfl (Nat.le_of_ble_eq_true rfl) rfl (by decide) (Nat.le_refl 0) (Nat.le_refl 0) dX0_first_19 (fun v9 u9 hq => ?_) (fun k9 u9 hq => by obtain ⟨_, e9, _⟩ := hq; cases e9)
    obtain ⟨A8, e9, rfl, h⟩ := hq
    obtain rfl := Sum.inl.inj e9
    show J Γ RX0 cX0_first 4 (some .int) "first" [] 508 0 0 22 [(0, .ref 0), (1, .int p1)] [] (n, K, A8, Lg, G) P
    refine j_iconst (v := 1) dX0_first_22 (by decide) ?_
    refine j_istore_n (by decide) rfl dX0_first_23 ?_
    refine j_ls [1, 2, 0] rfl ?_
    obtain ⟨m9, h⟩ := h
    exact fX0_first_L24_ok hf tx ht hx Q P hP   m9 p1 1 A8 h
  · rw [if_pos c] at h
    refine j_iconst (v := (-1)) dX0_first_9 (by decide) ?_
    refine j_iret rfl ?_ dX0_first_10
    rw [hP]
    exact ⟨(-1), A, rfl, rfl, h⟩
theorem myX0_kicksBy : jY yX0_kicksBy cX0_kicksBy 6 (some .int) 1 := ⟨q1488, q121, by decide +kernel, by decide +kernel, by decide⟩
def fX0_kicksBy_J103 (tx : Nat) (n : Nat) (K : Nat → pKd) (G : pG) (k15 : Int32 → Int32 → Int32 → Int32 → pA → Prop) (Q : Int32 → pA → Prop) (l1 : Int32) (l3 : Int32) (l4 : Int32) (s0 : Int32) (s1 : Int32) (A : pA) : Prop :=
    k15 l1 (s1 ||| s0) l3 (l4 + 1) A
theorem fX0_kicksBy_J103_ok {Γ : jG} {n : Nat} {K : Nat → pKd} {G : pG} {Lg : pL} (hf : fOK n K G) (tx : Nat) (ht : G 0 3 = .ref tx) (hx : xOK n K G tx) (Q : Int32 → pA → Prop) (P : jO → pS → Prop) (hP : P = (fun o u => ∃ (r : Int32) (A' : pA), o = .inl (some (.int r)) ∧ u = (n, K, A', Lg, G) ∧ Q r A')) (k15 : Int32 → Int32 → Int32 → Int32 → pA → Prop) (ok15 : ∀ (l1 : Int32) (l2 : Int32) (l3 : Int32) (l4 : Int32) (A : pA), k15 l1 l2 l3 l4 A → J Γ RX0 cX0_kicksBy 6 (some .int) "kicksBy" [] 507 0 0 15 [(0, .ref 0), (1, .int l1), (2, .int l2), (3, .int l3), (4, .int l4)] [] (n, K, A, Lg, G) P) (l1 : Int32) (l3 : Int32) (l4 : Int32) (s0 : Int32) (s1 : Int32) (A : pA) (h : fX0_kicksBy_J103 tx n K G k15 Q l1 l3 l4 s0 s1 A) : J Γ RX0 cX0_kicksBy 6 (some .int) "kicksBy" [] 507 0 0 103 [(0, .ref 0), (1, .int l1), (3, .int l3), (4, .int l4)] [.int s0, .int s1] (n, K, A, Lg, G) P := by
  unfold fX0_kicksBy_J103 at h
  refine j_ior dX0_kicksBy_103 ?_
  refine j_istore_n (by decide) rfl dX0_kicksBy_104 ?_
  refine j_iinc (v := l4 + 1) 4 rfl rfl (by decide) rfl dX0_kicksBy_105 ?_
  refine j_goto (tgt := 15) dX0_kicksBy_108 (by decide) ?_
  refine j_ls [2, 3, 1, 4, 0] rfl ?_
  exact ok15 l1 (s1 ||| s0) l3 (l4 + 1) A h
def fX0_kicksBy_L15 (tx : Nat) (n : Nat) (K : Nat → pKd) (G : pG) (k4 : Int32 → Int32 → Int32 → pA → Prop) (Q : Int32 → pA → Prop) : Nat → Int32 → Int32 → Int32 → Int32 → pA → Prop
  | 0, _, _, _, _, _ => False
  | n9 + 1, l1, l2, l3, l4, A =>
    fX0_people tx A (fun r1 => (if r1 ≤ l4 then k4 l1 l2 (l3 + 1) A else fX0_nextHour tx n K A G (fun A2 => (vp_in l3 5) ∧ ((vp_in l3 5) ∧ ((vp_in l4 4) ∧ ((vp_in l4 4) ∧ (∀ A7 : pA, A7 = pup A2 (48 + 15 + (l3).toNatClampNeg) (l4).toNatClampNeg (pmin 999 ((A2 (48 + 15 + (l3).toNatClampNeg) (l4).toNatClampNeg) + 1)) → fX0_fetchedIn tx n K A7 G (fun r8 A9 => (vp_in ((l3 * 4) + l4) 20) ∧ (∀ A11 : pA, A11 = pup A9 277 ((l3 * 4) + l4).toNatClampNeg r8 → (vp_in ((l3 * 4) + l4) 20) ∧ (fX0_isSo tx A11 l1 (A11 277 ((l3 * 4) + l4).toNatClampNeg) (fun r13 => (if r13 = 0 then fX0_kicksBy_J103 tx n K G (fun x0 x1 x2 x3 x4 => fX0_kicksBy_L15 tx n K G k4 Q n9 x0 x1 x2 x3 x4) Q l1 l3 l4 0 l2 A11 else fX0_kicksBy_J103 tx n K G (fun x0 x1 x2 x3 x4 => fX0_kicksBy_L15 tx n K G k4 Q n9 x0 x1 x2 x3 x4) Q l1 l3 l4 ((1 : Int32) <<< (((l3 * 4) + l4) &&& 31)) l2 A11))))))))))))
theorem fX0_kicksBy_L15_ok {Γ : jG} {n : Nat} {K : Nat → pKd} {G : pG} {Lg : pL} (hf : fOK n K G) (tx : Nat) (ht : G 0 3 = .ref tx) (hx : xOK n K G tx) (Q : Int32 → pA → Prop) (P : jO → pS → Prop) (hP : P = (fun o u => ∃ (r : Int32) (A' : pA), o = .inl (some (.int r)) ∧ u = (n, K, A', Lg, G) ∧ Q r A'))  (k4 : Int32 → Int32 → Int32 → pA → Prop) (ok4 : ∀ (l1 : Int32) (l2 : Int32) (l3 : Int32) (A : pA), k4 l1 l2 l3 A → J Γ RX0 cX0_kicksBy 6 (some .int) "kicksBy" [] 507 0 0 4 [(0, .ref 0), (1, .int l1), (2, .int l2), (3, .int l3)] [] (n, K, A, Lg, G) P) : ∀ (n9 : Nat) (l1 : Int32) (l2 : Int32) (l3 : Int32) (l4 : Int32) (A : pA), fX0_kicksBy_L15 tx n K G k4 Q n9 l1 l2 l3 l4 A → J Γ RX0 cX0_kicksBy 6 (some .int) "kicksBy" [] 507 0 0 15 [(0, .ref 0), (1, .int l1), (2, .int l2), (3, .int l3), (4, .int l4)] [] (n, K, A, Lg, G) P := by
  intro n9
  induction n9 with
  | zero => intro l1 l2 l3 l4 A h; exact h.elim
  | succ n9 ih =>
    intro l1 l2 l3 l4 A h
    unfold fX0_kicksBy_L15 at h
    refine j_iload 4 rfl dX0_kicksBy_15 ?_
    refine j_aload_n 0 rfl dX0_kicksBy_17 ?_
    refine j_callV (b := 0) (As := []) (st := [.int l4]) (C := RX0) (kc' := 0) (ks' := 0) (tX0_people hf tx ht hx _ h) myX0_people rfl q1203 q1205 qs35 (by decide) (fun s9 H9 hK9 hR9 h69 => jIs_in hK9 hR9 h69 (f_lt hf (by decide)) (fk_0 hf) rfl) rfl (Nat.le_of_ble_eq_true rfl) rfl (by decide) (Nat.le_refl 0) (Nat.le_refl 0) dX0_kicksBy_18 (fun v9 u9 hq => ?_) (fun k9 u9 hq => by obtain ⟨_, e9, _⟩ := hq; cases e9)
    obtain ⟨r1, e9, rfl, h⟩ := hq
    obtain rfl := Sum.inl.inj e9
    show J Γ RX0 cX0_kicksBy 6 (some .int) "kicksBy" [] 507 0 0 21 [(0, .ref 0), (1, .int l1), (2, .int l2), (3, .int l3), (4, .int l4)] [.int r1, .int l4] (n, K, A, Lg, G) P
    refine j_icmp_ge (tgt := 111) dX0_kicksBy_21 (by decide) (fun c => ?_) (fun c => ?_)
    · rw [if_pos c] at h
      refine j_iinc (v := l3 + 1) 3 rfl rfl (by decide) rfl dX0_kicksBy_111 ?_
      refine j_goto (tgt := 4) dX0_kicksBy_114 (by decide) ?_
      refine j_ls [1, 2, 3, 0] rfl ?_
      exact ok4 l1 l2 (l3 + 1) A h
    · rw [if_neg c] at h
      refine j_aload_n 0 rfl dX0_kicksBy_24 ?_
      refine j_callV (b := 0) (As := []) (st := []) (C := RX0) (kc' := 0) (ks' := 0) (tX0_nextHour hf tx ht hx _ h) myX0_nextHour rfl q1439 q1441 qs50 (by decide) (fun s9 H9 hK9 hR9 h69 => jIs_in hK9 hR9 h69 (f_lt hf (by decide)) (fk_0 hf) rfl) rfl (Nat.le_of_ble_eq_true rfl) rfl (by decide) (Nat.le_refl 0) (Nat.le_refl 0) dX0_kicksBy_25 (fun v9 u9 hq => ?_) (fun k9 u9 hq => by obtain ⟨_, e9, _⟩ := hq; cases e9)
      obtain ⟨A2, e9, rfl, h⟩ := hq
      obtain rfl := Sum.inl.inj e9
      show J Γ RX0 cX0_kicksBy 6 (some .int) "kicksBy" [] 507 0 0 28 [(0, .ref 0), (1, .int l1), (2, .int l2), (3, .int l3), (4, .int l4)] [] (n, K, A2, Lg, G) P
      refine j_aload_n 0 rfl dX0_kicksBy_28 ?_
      refine j_getfr fl_X0_59_0 rfl (f_lt hf (by decide)) (fk_0 hf) (fg_0_8 hf) dX0_kicksBy_29 ?_
      refine j_getfr fl_X0_238_5 rfl (t_lt hf isT_trial (j := 0) (by decide)) (tk_0 hf isT_trial) (tg_0_8 hf isT_trial) dX0_kicksBy_32 ?_
      refine j_iload_n 3 rfl dX0_kicksBy_35 ?_
      obtain ⟨b3, h⟩ := h
      refine j_aaldJ (t := 11) (j := (l3).toNatClampNeg) rfl rfl rfl (t_lt hf isT_trial (j := 14) (by decide)) (tk_14 hf isT_trial) b3 rfl (t_row14 hf isT_trial (j_ix b3)).1 dX0_kicksBy_36 ?_
      refine j_iload 4 rfl dX0_kicksBy_37 ?_
      refine j_sipush (v := 999) dX0_kicksBy_39 (by decide) ?_
      refine j_aload_n 0 rfl dX0_kicksBy_42 ?_
      refine j_getfr fl_X0_59_0 rfl (f_lt hf (by decide)) (fk_0 hf) (fg_0_8 hf) dX0_kicksBy_43 ?_
      refine j_getfr fl_X0_238_5 rfl (t_lt hf isT_trial (j := 0) (by decide)) (tk_0 hf isT_trial) (tg_0_8 hf isT_trial) dX0_kicksBy_46 ?_
      refine j_iload_n 3 rfl dX0_kicksBy_49 ?_
      obtain ⟨b4, h⟩ := h
      refine j_aaldJ (t := 11) (j := (l3).toNatClampNeg) rfl rfl rfl (t_lt hf isT_trial (j := 14) (by decide)) (tk_14 hf isT_trial) b4 rfl (t_row14 hf isT_trial (j_ix b4)).1 dX0_kicksBy_50 ?_
      refine j_iload 4 rfl dX0_kicksBy_51 ?_
      obtain ⟨b5, h⟩ := h
      refine j_ialdJ (j := (l4).toNatClampNeg) (t_rowlt14 hf isT_trial (j_ix b4)) (t_row14 hf isT_trial (j_ix b4)).2 b5 rfl dX0_kicksBy_53 ?_
      refine j_iconst (v := 1) dX0_kicksBy_54 (by decide) ?_
      refine j_iadd dX0_kicksBy_55 ?_
      refine j_mmin q1279 q917 q153 q918 (Nat.le_of_ble_eq_true rfl) (by decide) dX0_kicksBy_56 ?_
      obtain ⟨b6, h⟩ := h
      refine j_iastJ (j := (l4).toNatClampNeg) (t_rowlt14 hf isT_trial (j_ix b3)) (t_row14 hf isT_trial (j_ix b3)).2 b6 rfl dX0_kicksBy_59 (fun A7 eA7 => ?_)
      replace h := h A7 eA7
      refine j_iload_n 3 rfl dX0_kicksBy_60 ?_
      refine j_iconst (v := 4) dX0_kicksBy_61 (by decide) ?_
      refine j_imul dX0_kicksBy_62 ?_
      refine j_iload 4 rfl dX0_kicksBy_63 ?_
      refine j_iadd dX0_kicksBy_65 ?_
      refine j_istore (by decide) rfl dX0_kicksBy_66 ?_
      refine j_aload_n 1 rfl dX0_kicksBy_68 ?_
      refine j_getfr fl_X0_97_0 rfl (f_lt hf (by decide)) (fk_0 hf) (fg_0_17 hf) dX0_kicksBy_69 ?_
      refine j_iload 0 rfl dX0_kicksBy_72 ?_
      refine j_aload_n 1 rfl dX0_kicksBy_74 ?_
      refine j_callV (b := 0) (As := []) (st := [.int ((l3 * 4) + l4), .ref 277]) (C := RX0) (kc' := 0) (ks' := 0) (tX0_fetchedIn hf tx ht hx _ h) myX0_fetchedIn rfl q1444 q1446 qs51 (by decide) (fun s9 H9 hK9 hR9 h69 => jIs_in hK9 hR9 h69 (f_lt hf (by decide)) (fk_0 hf) rfl) rfl (Nat.le_of_ble_eq_true rfl) rfl (by decide) (Nat.le_refl 0) (Nat.le_refl 0) dX0_kicksBy_75 (fun v9 u9 hq => ?_) (fun k9 u9 hq => by obtain ⟨_, _, e9, _⟩ := hq; cases e9)
      obtain ⟨r8, A9, e9, rfl, h⟩ := hq
      obtain rfl := Sum.inl.inj e9
      show J Γ RX0 cX0_kicksBy 6 (some .int) "kicksBy" [] 507 0 0 78 [(5, .int ((l3 * 4) + l4)), (0, .ref 0), (1, .int l1), (2, .int l2), (3, .int l3), (4, .int l4)] [.int r8, .int ((l3 * 4) + l4), .ref 277] (n, K, A9, Lg, G) P
      obtain ⟨b10, h⟩ := h
      refine j_iastJ (j := ((l3 * 4) + l4).toNatClampNeg) (f_lt hf (by decide)) (fk_277 hf) b10 rfl dX0_kicksBy_78 (fun A11 eA11 => ?_)
      replace h := h A11 eA11
      refine j_iload_n 3 rfl dX0_kicksBy_79 ?_
      refine j_aload_n 1 rfl dX0_kicksBy_80 ?_
      refine j_iload_n 2 rfl dX0_kicksBy_81 ?_
      refine j_aload_n 1 rfl dX0_kicksBy_82 ?_
      refine j_getfr fl_X0_97_0 rfl (f_lt hf (by decide)) (fk_0 hf) (fg_0_17 hf) dX0_kicksBy_83 ?_
      refine j_iload 0 rfl dX0_kicksBy_86 ?_
      obtain ⟨b12, h⟩ := h
      refine j_ialdJ (j := ((l3 * 4) + l4).toNatClampNeg) (f_lt hf (by decide)) (fk_277 hf) b12 rfl dX0_kicksBy_88 ?_
      refine j_callV (b := 0) (As := [.int l1, .int (A11 277 ((l3 * 4) + l4).toNatClampNeg)]) (st := [.int l2]) (C := RX0) (kc' := 0) (ks' := 0) (tX0_isSo hf tx ht hx l1 (A11 277 ((l3 * 4) + l4).toNatClampNeg) _ h) myX0_isSo rfl q1489 q1491 qs53 (by decide) (fun s9 H9 hK9 hR9 h69 => jIs_in hK9 hR9 h69 (f_lt hf (by decide)) (fk_0 hf) rfl) rfl (Nat.le_of_ble_eq_true rfl) rfl (by decide) (Nat.le_refl 0) (Nat.le_refl 0) dX0_kicksBy_89 (fun v9 u9 hq => ?_) (fun k9 u9 hq => by obtain ⟨_, e9, _⟩ := hq; cases e9)
      obtain ⟨r13, e9, rfl, h⟩ := hq
      obtain rfl := Sum.inl.inj e9
      show J Γ RX0 cX0_kicksBy 6 (some .int) "kicksBy" [] 507 0 0 92 [(5, .int ((l3 * 4) + l4)), (0, .ref 0), (1, .int l1), (2, .int l2), (3, .int l3), (4, .int l4)] [.int r13, .int l2] (n, K, A11, Lg, G) P
      refine j_if_eq (tgt := 102) dX0_kicksBy_92 (by decide) (fun c => ?_) (fun c => ?_)
      · rw [if_pos c] at h
        refine j_iconst (v := 0) dX0_kicksBy_102 (by decide) ?_
        refine j_ls [1, 2, 4, 5] rfl ?_
        exact fX0_kicksBy_J103_ok hf tx ht hx Q P hP (fun x0 x1 x2 x3 x4 => fX0_kicksBy_L15 tx n K G k4 Q n9 x0 x1 x2 x3 x4) (fun x0 x1 x2 x3 x4 h9 => ih x0 x1 x2 x3 x4 h9) l1 l3 l4 0 l2 A11 h
      · rw [if_neg c] at h
        refine j_iconst (v := 1) dX0_kicksBy_95 (by decide) ?_
        refine j_iload 0 rfl dX0_kicksBy_96 ?_
        refine j_ishl dX0_kicksBy_98 ?_
        refine j_goto (tgt := 103) dX0_kicksBy_99 (by decide) ?_
        refine j_ls [1, 2, 4, 5] rfl ?_
        exact fX0_kicksBy_J103_ok hf tx ht hx Q P hP (fun x0 x1 x2 x3 x4 => fX0_kicksBy_L15 tx n K G k4 Q n9 x0 x1 x2 x3 x4) (fun x0 x1 x2 x3 x4 h9 => ih x0 x1 x2 x3 x4 h9) l1 l3 l4 ((1 : Int32) <<< (((l3 * 4) + l4) &&& 31)) l2 A11 h
def fX0_kicksBy_L4 (tx : Nat) (n : Nat) (K : Nat → pKd) (G : pG)  (Q : Int32 → pA → Prop) : Nat → Int32 → Int32 → Int32 → pA → Prop
  | 0, _, _, _, _ => False
  | n9 + 1, l1, l2, l3, A =>
    fX0_dogs tx A (fun r14 => (if r14 ≤ l3 then Q l2 A else ∃ m15, fX0_kicksBy_L15 tx n K G (fun x0 x1 x2 x3 => fX0_kicksBy_L4 tx n K G  Q n9 x0 x1 x2 x3) Q m15 l1 l2 l3 0 A))
theorem fX0_kicksBy_L4_ok {Γ : jG} {n : Nat} {K : Nat → pKd} {G : pG} {Lg : pL} (hf : fOK n K G) (tx : Nat) (ht : G 0 3 = .ref tx) (hx : xOK n K G tx) (Q : Int32 → pA → Prop) (P : jO → pS → Prop) (hP : P = (fun o u => ∃ (r : Int32) (A' : pA), o = .inl (some (.int r)) ∧ u = (n, K, A', Lg, G) ∧ Q r A'))    : ∀ (n9 : Nat) (l1 : Int32) (l2 : Int32) (l3 : Int32) (A : pA), fX0_kicksBy_L4 tx n K G  Q n9 l1 l2 l3 A → J Γ RX0 cX0_kicksBy 6 (some .int) "kicksBy" [] 507 0 0 4 [(0, .ref 0), (1, .int l1), (2, .int l2), (3, .int l3)] [] (n, K, A, Lg, G) P := by
  intro n9
  induction n9 with
  | zero => intro l1 l2 l3 A h; exact h.elim
  | succ n9 ih =>
    intro l1 l2 l3 A h
    unfold fX0_kicksBy_L4 at h
    refine j_iload_n 3 rfl dX0_kicksBy_4 ?_
    refine j_aload_n 0 rfl dX0_kicksBy_5 ?_
    refine j_callV (b := 0) (As := []) (st := [.int l3]) (C := RX0) (kc' := 0) (ks' := 0) (tX0_dogs hf tx ht hx _ h) myX0_dogs rfl q1199 q1201 qs34 (by decide) (fun s9 H9 hK9 hR9 h69 => jIs_in hK9 hR9 h69 (f_lt hf (by decide)) (fk_0 hf) rfl) rfl (Nat.le_of_ble_eq_true rfl) rfl (by decide) (Nat.le_refl 0) (Nat.le_refl 0) dX0_kicksBy_6 (fun v9 u9 hq => ?_) (fun k9 u9 hq => by obtain ⟨_, e9, _⟩ := hq; cases e9)
    obtain ⟨r14, e9, rfl, h⟩ := hq
    obtain rfl := Sum.inl.inj e9
    show J Γ RX0 cX0_kicksBy 6 (some .int) "kicksBy" [] 507 0 0 9 [(0, .ref 0), (1, .int l1), (2, .int l2), (3, .int l3)] [.int r14, .int l3] (n, K, A, Lg, G) P
    refine j_icmp_ge (tgt := 117) dX0_kicksBy_9 (by decide) (fun c => ?_) (fun c => ?_)
    · rw [if_pos c] at h
      refine j_iload_n 2 rfl dX0_kicksBy_117 ?_
      refine j_iret rfl ?_ dX0_kicksBy_118
      rw [hP]
      exact ⟨l2, A, rfl, rfl, h⟩
    · rw [if_neg c] at h
      refine j_iconst (v := 0) dX0_kicksBy_12 (by decide) ?_
      refine j_istore (by decide) rfl dX0_kicksBy_13 ?_
      refine j_ls [1, 2, 3, 4, 0] rfl ?_
      obtain ⟨m15, h⟩ := h
      exact fX0_kicksBy_L15_ok hf tx ht hx Q P hP (fun x0 x1 x2 x3 => fX0_kicksBy_L4 tx n K G  Q n9 x0 x1 x2 x3) (fun x0 x1 x2 x3 h9 => ih x0 x1 x2 x3 h9) m15 l1 l2 l3 0 A h
def fX0_kicksBy (tx : Nat) (n : Nat) (K : Nat → pKd) (A : pA) (G : pG) (p1 : Int32) (Q : Int32 → pA → Prop) : Prop :=
    ∃ m16, fX0_kicksBy_L4 tx n K G  Q m16 p1 0 0 A
theorem tX0_kicksBy {Γ : jG} {n : Nat} {K : Nat → pKd} {G : pG} {A : pA} {Lg : pL} (hf : fOK n K G) (tx : Nat) (ht : G 0 3 = .ref tx) (hx : xOK n K G tx) (p1 : Int32) (Q : Int32 → pA → Prop) (h : fX0_kicksBy tx n K A G p1 Q) : jMet Γ yX0_kicksBy cX0_kicksBy 6 (some .int) [] 507 0 0 [.ref 0, .int p1] (n, K, A, Lg, G) (fun o u => ∃ (r : Int32) (A' : pA), o = .inl (some (.int r)) ∧ u = (n, K, A', Lg, G) ∧ Q r A') := by
  unfold fX0_kicksBy at h
  obtain ⟨P, hP⟩ : ∃ P : jO → pS → Prop, P = (fun o u => ∃ (r : Int32) (A' : pA), o = .inl (some (.int r)) ∧ u = (n, K, A', Lg, G) ∧ Q r A') := ⟨_, rfl⟩
  rw [← hP]
  refine jMet_of rfl rfl rfl (Nat.le_of_ble_eq_true rfl) ?_
  show J Γ RX0 cX0_kicksBy 6 (some .int) "kicksBy" [] 507 0 0 0 [(0, .ref 0), (1, .int p1)] [] (n, K, A, Lg, G) P
  refine j_iconst (v := 0) dX0_kicksBy_0 (by decide) ?_
  refine j_istore_n (by decide) rfl dX0_kicksBy_1 ?_
  refine j_iconst (v := 0) dX0_kicksBy_2 (by decide) ?_
  refine j_istore_n (by decide) rfl dX0_kicksBy_3 ?_
  refine j_ls [2, 3, 1, 0] rfl ?_
  obtain ⟨m16, h⟩ := h
  exact fX0_kicksBy_L4_ok hf tx ht hx Q P hP   m16 p1 0 0 A h
theorem myX0_kicks : jY yX0_kicks cX0_kicks 2 (some .int) 1 := ⟨q1484, q121, by decide +kernel, by decide +kernel, by decide⟩
def fX0_kicks (tx : Nat) (n : Nat) (K : Nat → pKd) (A : pA) (G : pG) (p1 : Int32) (Q : Int32 → pA → Prop) : Prop :=
    fX0_isIn A p1 0 (A 0 14) (fun r1 => (if r1 = 0 then Q (-1) A else fX0_kicksBy tx n K A G p1 (fun r2 A3 => fJ16_bitCount A3 r2 (fun r4 => Q r4 A3))))
theorem tX0_kicks {Γ : jG} {n : Nat} {K : Nat → pKd} {G : pG} {A : pA} {Lg : pL} (hf : fOK n K G) (tx : Nat) (ht : G 0 3 = .ref tx) (hx : xOK n K G tx) (p1 : Int32) (Q : Int32 → pA → Prop) (h : fX0_kicks tx n K A G p1 Q) : jMet Γ yX0_kicks cX0_kicks 2 (some .int) [] 508 0 0 [.ref 0, .int p1] (n, K, A, Lg, G) (fun o u => ∃ (r : Int32) (A' : pA), o = .inl (some (.int r)) ∧ u = (n, K, A', Lg, G) ∧ Q r A') := by
  unfold fX0_kicks at h
  obtain ⟨P, hP⟩ : ∃ P : jO → pS → Prop, P = (fun o u => ∃ (r : Int32) (A' : pA), o = .inl (some (.int r)) ∧ u = (n, K, A', Lg, G) ∧ Q r A') := ⟨_, rfl⟩
  rw [← hP]
  refine jMet_of rfl rfl rfl (Nat.le_of_ble_eq_true rfl) ?_
  show J Γ RX0 cX0_kicks 2 (some .int) "kicks" [] 508 0 0 0 [(0, .ref 0), (1, .int p1)] [] (n, K, A, Lg, G) P
  refine j_iload_n 1 rfl dX0_kicks_0 ?_
  refine j_iconst (v := 0) dX0_kicks_1 (by decide) ?_
  refine j_aload_n 0 rfl dX0_kicks_2 ?_
  refine j_getfi fl_X0_122_0 rfl (f_lt hf (by decide)) (fk_0 hf) dX0_kicks_3 ?_
  refine j_callS (As := [.int p1, .int 0, .int (A 0 14)]) (st := []) (kc' := 0) (ks' := 0) (tX0_isIn hf p1 0 (A 0 14) _ h) myX0_isIn q1194 q1195 rfl (Nat.le_of_ble_eq_true rfl) rfl (by decide) (Nat.le_refl 0) (Nat.le_refl 0) dX0_kicks_6 (fun v9 u9 hq => ?_) (fun k9 u9 hq => by obtain ⟨_, e9, _⟩ := hq; cases e9)
  obtain ⟨r1, e9, rfl, h⟩ := hq
  obtain rfl := Sum.inl.inj e9
  show J Γ RX0 cX0_kicks 2 (some .int) "kicks" [] 508 0 0 9 [(0, .ref 0), (1, .int p1)] [.int r1] (n, K, A, Lg, G) P
  refine j_if_eq (tgt := 23) dX0_kicks_9 (by decide) (fun c => ?_) (fun c => ?_)
  · rw [if_pos c] at h
    refine j_iconst (v := (-1)) dX0_kicks_23 (by decide) ?_
    refine j_iret rfl ?_ dX0_kicks_24
    rw [hP]
    exact ⟨(-1), A, rfl, rfl, h⟩
  · rw [if_neg c] at h
    refine j_aload_n 0 rfl dX0_kicks_12 ?_
    refine j_iload_n 1 rfl dX0_kicks_13 ?_
    refine j_callV (b := 0) (As := [.int p1]) (st := []) (C := RX0) (kc' := 0) (ks' := 0) (tX0_kicksBy hf tx ht hx p1 _ h) myX0_kicksBy rfl q1485 q1487 qs52 (by decide) (fun s9 H9 hK9 hR9 h69 => jIs_in hK9 hR9 h69 (f_lt hf (by decide)) (fk_0 hf) rfl) rfl (Nat.le_of_ble_eq_true rfl) rfl (by decide) (Nat.le_refl 0) (Nat.le_refl 0) dX0_kicks_14 (fun v9 u9 hq => ?_) (fun k9 u9 hq => by obtain ⟨_, _, e9, _⟩ := hq; cases e9)
    obtain ⟨r2, A3, e9, rfl, h⟩ := hq
    obtain rfl := Sum.inl.inj e9
    show J Γ RX0 cX0_kicks 2 (some .int) "kicks" [] 508 0 0 17 [(0, .ref 0), (1, .int p1)] [.int r2] (n, K, A3, Lg, G) P
    refine j_callS (As := [.int r2]) (st := []) (kc' := 0) (ks' := 0) (tJ16_bitCount hf r2 _ h) myJ16_bitCount q1493 q1494 rfl (Nat.le_of_ble_eq_true rfl) rfl (by decide) (Nat.le_refl 0) (Nat.le_refl 0) dX0_kicks_17 (fun v9 u9 hq => ?_) (fun k9 u9 hq => by obtain ⟨_, e9, _⟩ := hq; cases e9)
    obtain ⟨r4, e9, rfl, h⟩ := hq
    obtain rfl := Sum.inl.inj e9
    show J Γ RX0 cX0_kicks 2 (some .int) "kicks" [] 508 0 0 20 [(0, .ref 0), (1, .int p1)] [.int r4] (n, K, A3, Lg, G) P
    refine j_goto (tgt := 24) dX0_kicks_20 (by decide) ?_
    refine j_iret rfl ?_ dX0_kicks_24
    rw [hP]
    exact ⟨r4, A3, rfl, rfl, h⟩
theorem myX0_sure : jY yX0_sure cX0_sure 4 (some .int) 1 := ⟨q1502, q121, by decide +kernel, by decide +kernel, by decide⟩
def fX0_sure (tx : Nat) (n : Nat) (K : Nat → pKd) (A : pA) (G : pG) (p1 : Int32) (Q : Int32 → pA → Prop) : Prop :=
    fX0_isIn A p1 0 (A 0 14) (fun r1 => (if r1 = 0 then Q (-1) A else fX0_kicksBy tx n K A G p1 (fun r2 A3 => fJ16_bitCount A3 r2 (fun r4 => (if r4 = 1 then fJ16_numberOfTrailingZeros A3 r2 (fun r5 => Q ((10 * (r5 / 4)) + (r5 - r5 / 4 * 4)) A3) else Q (-2) A3)))))
theorem tX0_sure {Γ : jG} {n : Nat} {K : Nat → pKd} {G : pG} {A : pA} {Lg : pL} (hf : fOK n K G) (tx : Nat) (ht : G 0 3 = .ref tx) (hx : xOK n K G tx) (p1 : Int32) (Q : Int32 → pA → Prop) (h : fX0_sure tx n K A G p1 Q) : jMet Γ yX0_sure cX0_sure 4 (some .int) [] 508 0 0 [.ref 0, .int p1] (n, K, A, Lg, G) (fun o u => ∃ (r : Int32) (A' : pA), o = .inl (some (.int r)) ∧ u = (n, K, A', Lg, G) ∧ Q r A') := by
  unfold fX0_sure at h
  obtain ⟨P, hP⟩ : ∃ P : jO → pS → Prop, P = (fun o u => ∃ (r : Int32) (A' : pA), o = .inl (some (.int r)) ∧ u = (n, K, A', Lg, G) ∧ Q r A') := ⟨_, rfl⟩
  rw [← hP]
  refine jMet_of rfl rfl rfl (Nat.le_of_ble_eq_true rfl) ?_
  show J Γ RX0 cX0_sure 4 (some .int) "sure" [] 508 0 0 0 [(0, .ref 0), (1, .int p1)] [] (n, K, A, Lg, G) P
  refine j_iload_n 1 rfl dX0_sure_0 ?_
  refine j_iconst (v := 0) dX0_sure_1 (by decide) ?_
  refine j_aload_n 0 rfl dX0_sure_2 ?_
  refine j_getfi fl_X0_122_0 rfl (f_lt hf (by decide)) (fk_0 hf) dX0_sure_3 ?_
  refine j_callS (As := [.int p1, .int 0, .int (A 0 14)]) (st := []) (kc' := 0) (ks' := 0) (tX0_isIn hf p1 0 (A 0 14) _ h) myX0_isIn q1194 q1195 rfl (Nat.le_of_ble_eq_true rfl) rfl (by decide) (Nat.le_refl 0) (Nat.le_refl 0) dX0_sure_6 (fun v9 u9 hq => ?_) (fun k9 u9 hq => by obtain ⟨_, e9, _⟩ := hq; cases e9)
  obtain ⟨r1, e9, rfl, h⟩ := hq
  obtain rfl := Sum.inl.inj e9
  show J Γ RX0 cX0_sure 4 (some .int) "sure" [] 508 0 0 9 [(0, .ref 0), (1, .int p1)] [.int r1] (n, K, A, Lg, G) P
  refine j_if_ne (tgt := 14) dX0_sure_9 (by decide) (fun c => ?_) (fun c => ?_)
  · rw [if_neg c] at h
    refine j_aload_n 0 rfl dX0_sure_14 ?_
    refine j_iload_n 1 rfl dX0_sure_15 ?_
    refine j_callV (b := 0) (As := [.int p1]) (st := []) (C := RX0) (kc' := 0) (ks' := 0) (tX0_kicksBy hf tx ht hx p1 _ h) myX0_kicksBy rfl q1485 q1487 qs52 (by decide) (fun s9 H9 hK9 hR9 h69 => jIs_in hK9 hR9 h69 (f_lt hf (by decide)) (fk_0 hf) rfl) rfl (Nat.le_of_ble_eq_true rfl) rfl (by decide) (Nat.le_refl 0) (Nat.le_refl 0) dX0_sure_16 (fun v9 u9 hq => ?_) (fun k9 u9 hq => by obtain ⟨_, _, e9, _⟩ := hq; cases e9)
    obtain ⟨r2, A3, e9, rfl, h⟩ := hq
    obtain rfl := Sum.inl.inj e9
    show J Γ RX0 cX0_sure 4 (some .int) "sure" [] 508 0 0 19 [(0, .ref 0), (1, .int p1)] [.int r2] (n, K, A3, Lg, G) P
    refine j_istore_n (by decide) rfl dX0_sure_19 ?_
    refine j_iload_n 0 rfl dX0_sure_20 ?_
    refine j_callS (As := [.int r2]) (st := []) (kc' := 0) (ks' := 0) (tJ16_bitCount hf r2 _ h) myJ16_bitCount q1493 q1494 rfl (Nat.le_of_ble_eq_true rfl) rfl (by decide) (Nat.le_refl 0) (Nat.le_refl 0) dX0_sure_21 (fun v9 u9 hq => ?_) (fun k9 u9 hq => by obtain ⟨_, e9, _⟩ := hq; cases e9)
    obtain ⟨r4, e9, rfl, h⟩ := hq
    obtain rfl := Sum.inl.inj e9
    show J Γ RX0 cX0_sure 4 (some .int) "sure" [] 508 0 0 24 [(2, .int r2), (0, .ref 0), (1, .int p1)] [.int r4] (n, K, A3, Lg, G) P
    refine j_iconst (v := 1) dX0_sure_24 (by decide) ?_
    refine j_icmp_eq (tgt := 31) dX0_sure_25 (by decide) (fun c => ?_) (fun c => ?_)
    · rw [if_pos c] at h
      refine j_iload_n 0 rfl dX0_sure_31 ?_
      refine j_callS (As := [.int r2]) (st := []) (kc' := 0) (ks' := 0) (tJ16_numberOfTrailingZeros hf r2 _ h) myJ16_numberOfTrailingZeros q1503 q1504 rfl (Nat.le_of_ble_eq_true rfl) rfl (by decide) (Nat.le_refl 0) (Nat.le_refl 0) dX0_sure_32 (fun v9 u9 hq => ?_) (fun k9 u9 hq => by obtain ⟨_, e9, _⟩ := hq; cases e9)
      obtain ⟨r5, e9, rfl, h⟩ := hq
      obtain rfl := Sum.inl.inj e9
      show J Γ RX0 cX0_sure 4 (some .int) "sure" [] 508 0 0 35 [(2, .int r2), (0, .ref 0), (1, .int p1)] [.int r5] (n, K, A3, Lg, G) P
      refine j_istore_n (by decide) rfl dX0_sure_35 ?_
      refine j_bipush (v := 10) dX0_sure_36 (by decide) ?_
      refine j_iload_n 0 rfl dX0_sure_38 ?_
      refine j_iconst (v := 4) dX0_sure_39 (by decide) ?_
      refine j_idiv (by decide) dX0_sure_40 ?_
      refine j_imul dX0_sure_41 ?_
      refine j_iload_n 0 rfl dX0_sure_42 ?_
      refine j_iconst (v := 4) dX0_sure_43 (by decide) ?_
      refine j_irem (by decide) dX0_sure_44 ?_
      refine j_iadd dX0_sure_45 ?_
      refine j_iret rfl ?_ dX0_sure_46
      rw [hP]
      exact ⟨(10 * (r5 / 4)) + (r5 - r5 / 4 * 4), A3, rfl, rfl, h⟩
    · rw [if_neg c] at h
      refine j_bipush (v := (-2)) dX0_sure_28 (by decide) ?_
      refine j_iret rfl ?_ dX0_sure_30
      rw [hP]
      exact ⟨(-2), A3, rfl, rfl, h⟩
  · rw [if_pos c] at h
    refine j_iconst (v := (-1)) dX0_sure_12 (by decide) ?_
    refine j_iret rfl ?_ dX0_sure_13
    rw [hP]
    exact ⟨(-1), A, rfl, rfl, h⟩
theorem myX0_ask : jY yX0_ask cX0_ask 8 (some .int) 1 := ⟨q1510, q121, by decide +kernel, by decide +kernel, by decide⟩
def fX0_ask_J85 (tx : Nat) (n : Nat) (K : Nat → pKd) (G : pG) (k50 : Int32 → Int32 → Int32 → Int32 → Int32 → Int32 → pA → Prop) (Q : Int32 → pA → Prop) (l2 : Int32) (l3 : Int32) (l4 : Int32) (l5 : Int32) (l7 : Int32) (s0 : Int32) (s1 : Int32) (A : pA) : Prop :=
    k50 l2 l3 l4 l5 (s1 + s0) (l7 + 1) A
theorem fX0_ask_J85_ok {Γ : jG} {n : Nat} {K : Nat → pKd} {G : pG} {Lg : pL} (hf : fOK n K G) (tx : Nat) (ht : G 0 3 = .ref tx) (hx : xOK n K G tx) (Q : Int32 → pA → Prop) (P : jO → pS → Prop) (hP : P = (fun o u => ∃ (r : Int32) (A' : pA), o = .inl (some (.int r)) ∧ u = (n, K, A', Lg, G) ∧ Q r A')) (k50 : Int32 → Int32 → Int32 → Int32 → Int32 → Int32 → pA → Prop) (ok50 : ∀ (l2 : Int32) (l3 : Int32) (l4 : Int32) (l5 : Int32) (l6 : Int32) (l7 : Int32) (A : pA), k50 l2 l3 l4 l5 l6 l7 A → J Γ RX0 cX0_ask 8 (some .int) "ask" [] 508 0 0 50 [(0, .ref 0), (2, .int l2), (3, .int l3), (4, .int l4), (5, .int l5), (6, .int l6), (7, .int l7)] [] (n, K, A, Lg, G) P) (l2 : Int32) (l3 : Int32) (l4 : Int32) (l5 : Int32) (l7 : Int32) (s0 : Int32) (s1 : Int32) (A : pA) (h : fX0_ask_J85 tx n K G k50 Q l2 l3 l4 l5 l7 s0 s1 A) : J Γ RX0 cX0_ask 8 (some .int) "ask" [] 508 0 0 85 [(0, .ref 0), (2, .int l2), (3, .int l3), (4, .int l4), (5, .int l5), (7, .int l7)] [.int s0, .int s1] (n, K, A, Lg, G) P := by
  unfold fX0_ask_J85 at h
  refine j_iadd dX0_ask_85 ?_
  refine j_istore (by decide) rfl dX0_ask_86 ?_
  refine j_iinc (v := l7 + 1) 6 rfl rfl (by decide) rfl dX0_ask_88 ?_
  refine j_goto (tgt := 50) dX0_ask_91 (by decide) ?_
  refine j_ls [2, 3, 4, 5, 6, 1, 0] rfl ?_
  exact ok50 l2 l3 l4 l5 (s1 + s0) (l7 + 1) A h
def fX0_ask_J125 (tx : Nat) (n : Nat) (K : Nat → pKd) (G : pG) (k31 : Int32 → Int32 → Int32 → Int32 → pA → Prop) (Q : Int32 → pA → Prop) (l2 : Int32) (l3 : Int32) (l4 : Int32) (l5 : Int32) (A : pA) : Prop :=
    k31 l2 l3 l4 (l5 + 1) A
theorem fX0_ask_J125_ok {Γ : jG} {n : Nat} {K : Nat → pKd} {G : pG} {Lg : pL} (hf : fOK n K G) (tx : Nat) (ht : G 0 3 = .ref tx) (hx : xOK n K G tx) (Q : Int32 → pA → Prop) (P : jO → pS → Prop) (hP : P = (fun o u => ∃ (r : Int32) (A' : pA), o = .inl (some (.int r)) ∧ u = (n, K, A', Lg, G) ∧ Q r A')) (k31 : Int32 → Int32 → Int32 → Int32 → pA → Prop) (ok31 : ∀ (l2 : Int32) (l3 : Int32) (l4 : Int32) (l5 : Int32) (A : pA), k31 l2 l3 l4 l5 A → J Γ RX0 cX0_ask 8 (some .int) "ask" [] 508 0 0 31 [(0, .ref 0), (2, .int l2), (3, .int l3), (4, .int l4), (5, .int l5)] [] (n, K, A, Lg, G) P) (l2 : Int32) (l3 : Int32) (l4 : Int32) (l5 : Int32) (A : pA) (h : fX0_ask_J125 tx n K G k31 Q l2 l3 l4 l5 A) : J Γ RX0 cX0_ask 8 (some .int) "ask" [] 508 0 0 125 [(0, .ref 0), (2, .int l2), (3, .int l3), (4, .int l4), (5, .int l5)] [] (n, K, A, Lg, G) P := by
  unfold fX0_ask_J125 at h
  refine j_iinc (v := l5 + 1) 4 rfl rfl (by decide) rfl dX0_ask_125 ?_
  refine j_goto (tgt := 31) dX0_ask_128 (by decide) ?_
  refine j_ls [1, 2, 3, 4, 0] rfl ?_
  exact ok31 l2 l3 l4 (l5 + 1) A h
def fX0_ask_L50 (tx : Nat) (n : Nat) (K : Nat → pKd) (G : pG) (k31 : Int32 → Int32 → Int32 → Int32 → pA → Prop) (Q : Int32 → pA → Prop) : Nat → Int32 → Int32 → Int32 → Int32 → Int32 → Int32 → pA → Prop
  | 0, _, _, _, _, _, _, _ => False
  | n9 + 1, l2, l3, l4, l5, l6, l7, A =>
    (if 20 ≤ l7 then fJ16_bitCount A l2 (fun r1 => (if (pmax l6 (r1 - l6)) < l4 then fX0_ask_J125 tx n K G k31 Q l2 l5 (pmax l6 (r1 - l6)) l5 A else fX0_ask_J125 tx n K G k31 Q l2 l3 l4 l5 A)) else (if ((l2 >>> (l7 &&& 31)) &&& 1) = 1 then (vp_in l7 20) ∧ (fX0_ask_J85 tx n K G (fun x0 x1 x2 x3 x4 x5 x6 => fX0_ask_L50 tx n K G k31 Q n9 x0 x1 x2 x3 x4 x5 x6) Q l2 l3 l4 l5 l7 (((A 277 (l7).toNatClampNeg) >>> (l5 &&& 31)) &&& 1) l6 A) else fX0_ask_J85 tx n K G (fun x0 x1 x2 x3 x4 x5 x6 => fX0_ask_L50 tx n K G k31 Q n9 x0 x1 x2 x3 x4 x5 x6) Q l2 l3 l4 l5 l7 0 l6 A))
theorem fX0_ask_L50_ok {Γ : jG} {n : Nat} {K : Nat → pKd} {G : pG} {Lg : pL} (hf : fOK n K G) (tx : Nat) (ht : G 0 3 = .ref tx) (hx : xOK n K G tx) (Q : Int32 → pA → Prop) (P : jO → pS → Prop) (hP : P = (fun o u => ∃ (r : Int32) (A' : pA), o = .inl (some (.int r)) ∧ u = (n, K, A', Lg, G) ∧ Q r A'))  (k31 : Int32 → Int32 → Int32 → Int32 → pA → Prop) (ok31 : ∀ (l2 : Int32) (l3 : Int32) (l4 : Int32) (l5 : Int32) (A : pA), k31 l2 l3 l4 l5 A → J Γ RX0 cX0_ask 8 (some .int) "ask" [] 508 0 0 31 [(0, .ref 0), (2, .int l2), (3, .int l3), (4, .int l4), (5, .int l5)] [] (n, K, A, Lg, G) P) : ∀ (n9 : Nat) (l2 : Int32) (l3 : Int32) (l4 : Int32) (l5 : Int32) (l6 : Int32) (l7 : Int32) (A : pA), fX0_ask_L50 tx n K G k31 Q n9 l2 l3 l4 l5 l6 l7 A → J Γ RX0 cX0_ask 8 (some .int) "ask" [] 508 0 0 50 [(0, .ref 0), (2, .int l2), (3, .int l3), (4, .int l4), (5, .int l5), (6, .int l6), (7, .int l7)] [] (n, K, A, Lg, G) P := by
  intro n9
  induction n9 with
  | zero => intro l2 l3 l4 l5 l6 l7 A h; exact h.elim
  | succ n9 ih =>
    intro l2 l3 l4 l5 l6 l7 A h
    unfold fX0_ask_L50 at h
    refine j_iload 6 rfl dX0_ask_50 ?_
    refine j_bipush (v := 20) dX0_ask_52 (by decide) ?_
    refine j_icmp_ge (tgt := 94) dX0_ask_54 (by decide) (fun c => ?_) (fun c => ?_)
    · rw [if_pos c] at h
      refine j_iload 5 rfl dX0_ask_94 ?_
      refine j_iload_n 1 rfl dX0_ask_96 ?_
      refine j_callS (As := [.int l2]) (st := [.int l6]) (kc' := 0) (ks' := 0) (tJ16_bitCount hf l2 _ h) myJ16_bitCount q1493 q1494 rfl (Nat.le_of_ble_eq_true rfl) rfl (by decide) (Nat.le_refl 0) (Nat.le_refl 0) dX0_ask_97 (fun v9 u9 hq => ?_) (fun k9 u9 hq => by obtain ⟨_, e9, _⟩ := hq; cases e9)
      obtain ⟨r1, e9, rfl, h⟩ := hq
      obtain rfl := Sum.inl.inj e9
      show J Γ RX0 cX0_ask 8 (some .int) "ask" [] 508 0 0 100 [(0, .ref 0), (2, .int l2), (3, .int l3), (4, .int l4), (5, .int l5), (6, .int l6), (7, .int l7)] [.int r1, .int l6] (n, K, A, Lg, G) P
      refine j_iload 5 rfl dX0_ask_100 ?_
      refine j_isub dX0_ask_102 ?_
      refine j_mmax q1280 q899 q153 q900 (Nat.le_of_ble_eq_true rfl) (by decide) dX0_ask_103 ?_
      refine j_istore (by decide) rfl dX0_ask_106 ?_
      refine j_iload 0 rfl dX0_ask_108 ?_
      refine j_iload 4 rfl dX0_ask_110 ?_
      refine j_icmp_lt (tgt := 118) dX0_ask_112 (by decide) (fun c => ?_) (fun c => ?_)
      · rw [if_pos c] at h
        refine j_iload 5 rfl dX0_ask_118 ?_
        refine j_istore_n (by decide) rfl dX0_ask_120 ?_
        refine j_iload 1 rfl dX0_ask_121 ?_
        refine j_istore (by decide) rfl dX0_ask_123 ?_
        refine j_ls [3, 4, 1, 0, 5] rfl ?_
        exact fX0_ask_J125_ok hf tx ht hx Q P hP k31 ok31 l2 l5 (pmax l6 (r1 - l6)) l5 A h
      · rw [if_neg c] at h
        refine j_goto (tgt := 125) dX0_ask_115 (by decide) ?_
        refine j_ls [1, 2, 3, 4, 5] rfl ?_
        exact fX0_ask_J125_ok hf tx ht hx Q P hP k31 ok31 l2 l3 l4 l5 A h
    · rw [if_neg c] at h
      refine j_iload 5 rfl dX0_ask_57 ?_
      refine j_iload_n 1 rfl dX0_ask_59 ?_
      refine j_iload 6 rfl dX0_ask_60 ?_
      refine j_ishr dX0_ask_62 ?_
      refine j_iconst (v := 1) dX0_ask_63 (by decide) ?_
      refine j_iand dX0_ask_64 ?_
      refine j_iconst (v := 1) dX0_ask_65 (by decide) ?_
      refine j_icmp_ne (tgt := 84) dX0_ask_66 (by decide) (fun c => ?_) (fun c => ?_)
      · rw [if_neg c] at h
        refine j_iconst (v := 0) dX0_ask_84 (by decide) ?_
        refine j_ls [0, 1, 2, 3, 4, 6] rfl ?_
        exact fX0_ask_J85_ok hf tx ht hx Q P hP (fun x0 x1 x2 x3 x4 x5 x6 => fX0_ask_L50 tx n K G k31 Q n9 x0 x1 x2 x3 x4 x5 x6) (fun x0 x1 x2 x3 x4 x5 x6 h9 => ih x0 x1 x2 x3 x4 x5 x6 h9) l2 l3 l4 l5 l7 0 l6 A h
      · rw [if_pos c] at h
        refine j_aload_n 0 rfl dX0_ask_69 ?_
        refine j_getfr fl_X0_97_0 rfl (f_lt hf (by decide)) (fk_0 hf) (fg_0_17 hf) dX0_ask_70 ?_
        refine j_iload 6 rfl dX0_ask_73 ?_
        obtain ⟨b2, h⟩ := h
        refine j_ialdJ (j := (l7).toNatClampNeg) (f_lt hf (by decide)) (fk_277 hf) b2 rfl dX0_ask_75 ?_
        refine j_iload 4 rfl dX0_ask_76 ?_
        refine j_ishr dX0_ask_78 ?_
        refine j_iconst (v := 1) dX0_ask_79 (by decide) ?_
        refine j_iand dX0_ask_80 ?_
        refine j_goto (tgt := 85) dX0_ask_81 (by decide) ?_
        refine j_ls [0, 1, 2, 3, 4, 6] rfl ?_
        exact fX0_ask_J85_ok hf tx ht hx Q P hP (fun x0 x1 x2 x3 x4 x5 x6 => fX0_ask_L50 tx n K G k31 Q n9 x0 x1 x2 x3 x4 x5 x6) (fun x0 x1 x2 x3 x4 x5 x6 h9 => ih x0 x1 x2 x3 x4 x5 x6 h9) l2 l3 l4 l5 l7 (((A 277 (l7).toNatClampNeg) >>> (l5 &&& 31)) &&& 1) l6 A h
def fX0_ask_L31 (tx : Nat) (n : Nat) (K : Nat → pKd) (G : pG)  (Q : Int32 → pA → Prop) : Nat → Int32 → Int32 → Int32 → Int32 → pA → Prop
  | 0, _, _, _, _, _ => False
  | n9 + 1, l2, l3, l4, l5, A =>
    fX0_people tx A (fun r3 => (if r3 ≤ l5 then Q l3 A else (if l2 = 0 then Q l3 A else ∃ m4, fX0_ask_L50 tx n K G (fun x0 x1 x2 x3 x4 => fX0_ask_L31 tx n K G  Q n9 x0 x1 x2 x3 x4) Q m4 l2 l3 l4 l5 0 0 A)))
theorem fX0_ask_L31_ok {Γ : jG} {n : Nat} {K : Nat → pKd} {G : pG} {Lg : pL} (hf : fOK n K G) (tx : Nat) (ht : G 0 3 = .ref tx) (hx : xOK n K G tx) (Q : Int32 → pA → Prop) (P : jO → pS → Prop) (hP : P = (fun o u => ∃ (r : Int32) (A' : pA), o = .inl (some (.int r)) ∧ u = (n, K, A', Lg, G) ∧ Q r A'))    : ∀ (n9 : Nat) (l2 : Int32) (l3 : Int32) (l4 : Int32) (l5 : Int32) (A : pA), fX0_ask_L31 tx n K G  Q n9 l2 l3 l4 l5 A → J Γ RX0 cX0_ask 8 (some .int) "ask" [] 508 0 0 31 [(0, .ref 0), (2, .int l2), (3, .int l3), (4, .int l4), (5, .int l5)] [] (n, K, A, Lg, G) P := by
  intro n9
  induction n9 with
  | zero => intro l2 l3 l4 l5 A h; exact h.elim
  | succ n9 ih =>
    intro l2 l3 l4 l5 A h
    unfold fX0_ask_L31 at h
    refine j_iload 4 rfl dX0_ask_31 ?_
    refine j_aload_n 0 rfl dX0_ask_33 ?_
    refine j_callV (b := 0) (As := []) (st := [.int l5]) (C := RX0) (kc' := 0) (ks' := 0) (tX0_people hf tx ht hx _ h) myX0_people rfl q1203 q1205 qs35 (by decide) (fun s9 H9 hK9 hR9 h69 => jIs_in hK9 hR9 h69 (f_lt hf (by decide)) (fk_0 hf) rfl) rfl (Nat.le_of_ble_eq_true rfl) rfl (by decide) (Nat.le_refl 0) (Nat.le_refl 0) dX0_ask_34 (fun v9 u9 hq => ?_) (fun k9 u9 hq => by obtain ⟨_, e9, _⟩ := hq; cases e9)
    obtain ⟨r3, e9, rfl, h⟩ := hq
    obtain rfl := Sum.inl.inj e9
    show J Γ RX0 cX0_ask 8 (some .int) "ask" [] 508 0 0 37 [(0, .ref 0), (2, .int l2), (3, .int l3), (4, .int l4), (5, .int l5)] [.int r3, .int l5] (n, K, A, Lg, G) P
    refine j_icmp_ge (tgt := 131) dX0_ask_37 (by decide) (fun c => ?_) (fun c => ?_)
    · rw [if_pos c] at h
      refine j_iload_n 2 rfl dX0_ask_131 ?_
      refine j_iret rfl ?_ dX0_ask_132
      rw [hP]
      exact ⟨l3, A, rfl, rfl, h⟩
    · rw [if_neg c] at h
      refine j_iload_n 1 rfl dX0_ask_40 ?_
      refine j_if_eq (tgt := 131) dX0_ask_41 (by decide) (fun c => ?_) (fun c => ?_)
      · rw [if_pos c] at h
        refine j_iload_n 2 rfl dX0_ask_131 ?_
        refine j_iret rfl ?_ dX0_ask_132
        rw [hP]
        exact ⟨l3, A, rfl, rfl, h⟩
      · rw [if_neg c] at h
        refine j_iconst (v := 0) dX0_ask_44 (by decide) ?_
        refine j_istore (by decide) rfl dX0_ask_45 ?_
        refine j_iconst (v := 0) dX0_ask_47 (by decide) ?_
        refine j_istore (by decide) rfl dX0_ask_48 ?_
        refine j_ls [2, 3, 4, 5, 6, 1, 0] rfl ?_
        obtain ⟨m4, h⟩ := h
        exact fX0_ask_L50_ok hf tx ht hx Q P hP (fun x0 x1 x2 x3 x4 => fX0_ask_L31 tx n K G  Q n9 x0 x1 x2 x3 x4) (fun x0 x1 x2 x3 x4 h9 => ih x0 x1 x2 x3 x4 h9) m4 l2 l3 l4 l5 0 0 A h
def fX0_ask (tx : Nat) (n : Nat) (K : Nat → pKd) (A : pA) (G : pG) (p1 : Int32) (Q : Int32 → pA → Prop) : Prop :=
    fX0_isIn A p1 0 (A 0 14) (fun r5 => (if r5 = 0 then Q (-1) A else fX0_kicksBy tx n K A G p1 (fun r6 A7 => ∃ m8, fX0_ask_L31 tx n K G  Q m8 r6 (-2) 1000000 0 A7)))
theorem tX0_ask {Γ : jG} {n : Nat} {K : Nat → pKd} {G : pG} {A : pA} {Lg : pL} (hf : fOK n K G) (tx : Nat) (ht : G 0 3 = .ref tx) (hx : xOK n K G tx) (p1 : Int32) (Q : Int32 → pA → Prop) (h : fX0_ask tx n K A G p1 Q) : jMet Γ yX0_ask cX0_ask 8 (some .int) [] 508 0 0 [.ref 0, .int p1] (n, K, A, Lg, G) (fun o u => ∃ (r : Int32) (A' : pA), o = .inl (some (.int r)) ∧ u = (n, K, A', Lg, G) ∧ Q r A') := by
  unfold fX0_ask at h
  obtain ⟨P, hP⟩ : ∃ P : jO → pS → Prop, P = (fun o u => ∃ (r : Int32) (A' : pA), o = .inl (some (.int r)) ∧ u = (n, K, A', Lg, G) ∧ Q r A') := ⟨_, rfl⟩
  rw [← hP]
  refine jMet_of rfl rfl rfl (Nat.le_of_ble_eq_true rfl) ?_
  show J Γ RX0 cX0_ask 8 (some .int) "ask" [] 508 0 0 0 [(0, .ref 0), (1, .int p1)] [] (n, K, A, Lg, G) P
  refine j_iload_n 1 rfl dX0_ask_0 ?_
  refine j_iconst (v := 0) dX0_ask_1 (by decide) ?_
  refine j_aload_n 0 rfl dX0_ask_2 ?_
  refine j_getfi fl_X0_122_0 rfl (f_lt hf (by decide)) (fk_0 hf) dX0_ask_3 ?_
  refine j_callS (As := [.int p1, .int 0, .int (A 0 14)]) (st := []) (kc' := 0) (ks' := 0) (tX0_isIn hf p1 0 (A 0 14) _ h) myX0_isIn q1194 q1195 rfl (Nat.le_of_ble_eq_true rfl) rfl (by decide) (Nat.le_refl 0) (Nat.le_refl 0) dX0_ask_6 (fun v9 u9 hq => ?_) (fun k9 u9 hq => by obtain ⟨_, e9, _⟩ := hq; cases e9)
  obtain ⟨r5, e9, rfl, h⟩ := hq
  obtain rfl := Sum.inl.inj e9
  show J Γ RX0 cX0_ask 8 (some .int) "ask" [] 508 0 0 9 [(0, .ref 0), (1, .int p1)] [.int r5] (n, K, A, Lg, G) P
  refine j_if_ne (tgt := 14) dX0_ask_9 (by decide) (fun c => ?_) (fun c => ?_)
  · rw [if_neg c] at h
    refine j_aload_n 0 rfl dX0_ask_14 ?_
    refine j_iload_n 1 rfl dX0_ask_15 ?_
    refine j_callV (b := 0) (As := [.int p1]) (st := []) (C := RX0) (kc' := 0) (ks' := 0) (tX0_kicksBy hf tx ht hx p1 _ h) myX0_kicksBy rfl q1485 q1487 qs52 (by decide) (fun s9 H9 hK9 hR9 h69 => jIs_in hK9 hR9 h69 (f_lt hf (by decide)) (fk_0 hf) rfl) rfl (Nat.le_of_ble_eq_true rfl) rfl (by decide) (Nat.le_refl 0) (Nat.le_refl 0) dX0_ask_16 (fun v9 u9 hq => ?_) (fun k9 u9 hq => by obtain ⟨_, _, e9, _⟩ := hq; cases e9)
    obtain ⟨r6, A7, e9, rfl, h⟩ := hq
    obtain rfl := Sum.inl.inj e9
    show J Γ RX0 cX0_ask 8 (some .int) "ask" [] 508 0 0 19 [(0, .ref 0), (1, .int p1)] [.int r6] (n, K, A7, Lg, G) P
    refine j_istore_n (by decide) rfl dX0_ask_19 ?_
    refine j_bipush (v := (-2)) dX0_ask_20 (by decide) ?_
    refine j_istore_n (by decide) rfl dX0_ask_22 ?_
    refine j_ldcw (v := 1000000) q1380 dX0_ask_23 ?_
    refine j_istore (by decide) rfl dX0_ask_26 ?_
    refine j_iconst (v := 0) dX0_ask_28 (by decide) ?_
    refine j_istore (by decide) rfl dX0_ask_29 ?_
    refine j_ls [4, 3, 2, 1, 0] rfl ?_
    obtain ⟨m8, h⟩ := h
    exact fX0_ask_L31_ok hf tx ht hx Q P hP   m8 r6 (-2) 1000000 0 A7 h
  · rw [if_pos c] at h
    refine j_iconst (v := (-1)) dX0_ask_12 (by decide) ?_
    refine j_iret rfl ?_ dX0_ask_13
    rw [hP]
    exact ⟨(-1), A, rfl, rfl, h⟩
theorem myX0_hold : jY yX0_hold cX0_hold 2 (some .boolean) 1 := ⟨q1514, q121, by decide +kernel, by decide +kernel, by decide⟩
def fX0_hold (tx : Nat) (A : pA) (p1 : Int32) (Q : Int32 → pA → Prop) : Prop :=
    fX0_isIn A p1 0 2 (fun r1 => (if r1 = 0 then Q 0 A else (vp_in p1 3) ∧ (fX5_takes (73 + 23 * (p1).toNatClampNeg) 25 A (fun A3 => (vp_in p1 3) ∧ (∀ A5 : pA, A5 = pup A3 145 (p1).toNatClampNeg (vp_nar .boolean 1) → Q 1 A5)))))
theorem tX0_hold {Γ : jG} {n : Nat} {K : Nat → pKd} {G : pG} {A : pA} {Lg : pL} (hf : fOK n K G) (tx : Nat) (ht : G 0 3 = .ref tx) (hx : xOK n K G tx) (p1 : Int32) (Q : Int32 → pA → Prop) (h : fX0_hold tx A p1 Q) : jMet Γ yX0_hold cX0_hold 2 (some .boolean) [] 3 0 0 [.ref 0, .int p1] (n, K, A, Lg, G) (fun o u => ∃ (r : Int32) (A' : pA), o = .inl (some (.int r)) ∧ u = (n, K, A', Lg, G) ∧ Q r A') := by
  unfold fX0_hold at h
  obtain ⟨P, hP⟩ : ∃ P : jO → pS → Prop, P = (fun o u => ∃ (r : Int32) (A' : pA), o = .inl (some (.int r)) ∧ u = (n, K, A', Lg, G) ∧ Q r A') := ⟨_, rfl⟩
  rw [← hP]
  refine jMet_of rfl rfl rfl (Nat.le_of_ble_eq_true rfl) ?_
  show J Γ RX0 cX0_hold 2 (some .boolean) "hold" [] 3 0 0 0 [(0, .ref 0), (1, .int p1)] [] (n, K, A, Lg, G) P
  refine j_iload_n 1 rfl dX0_hold_0 ?_
  refine j_iconst (v := 0) dX0_hold_1 (by decide) ?_
  refine j_iconst (v := 2) dX0_hold_2 (by decide) ?_
  refine j_callS (As := [.int p1, .int 0, .int 2]) (st := []) (kc' := 0) (ks' := 0) (tX0_isIn hf p1 0 2 _ h) myX0_isIn q1194 q1195 rfl (Nat.le_of_ble_eq_true rfl) rfl (by decide) (Nat.le_refl 0) (Nat.le_refl 0) dX0_hold_3 (fun v9 u9 hq => ?_) (fun k9 u9 hq => by obtain ⟨_, e9, _⟩ := hq; cases e9)
  obtain ⟨r1, e9, rfl, h⟩ := hq
  obtain rfl := Sum.inl.inj e9
  show J Γ RX0 cX0_hold 2 (some .boolean) "hold" [] 3 0 0 6 [(0, .ref 0), (1, .int p1)] [.int r1] (n, K, A, Lg, G) P
  refine j_if_ne (tgt := 11) dX0_hold_6 (by decide) (fun c => ?_) (fun c => ?_)
  · rw [if_neg c] at h
    refine j_aload_n 0 rfl dX0_hold_11 ?_
    refine j_getfr fl_X0_66_0 rfl (f_lt hf (by decide)) (fk_0 hf) (fg_0_10 hf) dX0_hold_12 ?_
    refine j_iload_n 1 rfl dX0_hold_15 ?_
    obtain ⟨b2, h⟩ := h
    refine j_aaldJ (t := 9) (j := (p1).toNatClampNeg) rfl rfl rfl (f_lt hf (by decide)) (fk_72 hf) b2 rfl (slots_row hf (j_ix b2)) dX0_hold_16 ?_
    refine j_aload_n 0 rfl dX0_hold_17 ?_
    refine j_getfr fl_X0_55_0 rfl (f_lt hf (by decide)) (fk_0 hf) (fg_0_7 hf) dX0_hold_18 ?_
    refine j_callV (b := (73 + 23 * (p1).toNatClampNeg)) (As := [.ref 25]) (st := []) (C := RX5) (kc' := 0) (ks' := 0) (tX5_takes hf (73 + 23 * (p1).toNatClampNeg) (isT_slot (j_ix b2)) 25 isT_town _ h) myX5_takes rfl q1293 q1294 q1295 (j_l2 hf.1 (t_lt hf (isT_slot (j_ix b2)) (j := 0) (by decide))) (fun s9 H9 hK9 hR9 h69 => jIs_in hK9 hR9 h69 (t_lt hf (isT_slot (j_ix b2)) (j := 0) (by decide)) (tk_0 hf (isT_slot (j_ix b2))) rfl) rfl (Nat.le_of_ble_eq_true rfl) rfl (by decide) (Nat.le_refl 0) (Nat.le_refl 0) dX0_hold_21 (fun v9 u9 hq => ?_) (fun k9 u9 hq => by obtain ⟨_, e9, _⟩ := hq; cases e9)
    obtain ⟨A3, e9, rfl, h⟩ := hq
    obtain rfl := Sum.inl.inj e9
    show J Γ RX0 cX0_hold 2 (some .boolean) "hold" [] 3 0 0 24 [(0, .ref 0), (1, .int p1)] [] (n, K, A3, Lg, G) P
    refine j_aload_n 0 rfl dX0_hold_24 ?_
    refine j_getfr fl_X0_81_0 rfl (f_lt hf (by decide)) (fk_0 hf) (fg_0_12 hf) dX0_hold_25 ?_
    refine j_iload_n 1 rfl dX0_hold_28 ?_
    refine j_iconst (v := 1) dX0_hold_29 (by decide) ?_
    obtain ⟨b4, h⟩ := h
    refine j_zastJ (j := (p1).toNatClampNeg) (f_lt hf (by decide)) (fk_145 hf) b4 rfl dX0_hold_30 (fun A5 eA5 => ?_)
    replace h := h A5 eA5
    refine j_iconst (v := 1) dX0_hold_31 (by decide) ?_
    refine j_zret rfl (by decide) ?_ dX0_hold_32
    rw [hP]
    exact ⟨1, A5, rfl, rfl, h⟩
  · rw [if_pos c] at h
    refine j_iconst (v := 0) dX0_hold_9 (by decide) ?_
    refine j_zret rfl (by decide) ?_ dX0_hold_10
    rw [hP]
    exact ⟨0, A, rfl, rfl, h⟩
theorem myX0_restore : jY yX0_restore cX0_restore 2 (some .boolean) 1 := ⟨q1518, q121, by decide +kernel, by decide +kernel, by decide⟩
def fX0_restore (tx : Nat) (A : pA) (p1 : Int32) (Q : Int32 → pA → Prop) : Prop :=
    fX0_isIn A p1 0 2 (fun r1 => (if r1 = 0 then Q 0 A else (vp_in p1 3) ∧ ((if (A 145 (p1).toNatClampNeg) = 0 then Q 0 A else (vp_in p1 3) ∧ (fX5_takes 25 (73 + 23 * (p1).toNatClampNeg) A (fun A4 => ∀ A5 : pA, A5 = pup A4 0 5 0 → Q 1 A5))))))
theorem tX0_restore {Γ : jG} {n : Nat} {K : Nat → pKd} {G : pG} {A : pA} {Lg : pL} (hf : fOK n K G) (tx : Nat) (ht : G 0 3 = .ref tx) (hx : xOK n K G tx) (p1 : Int32) (Q : Int32 → pA → Prop) (h : fX0_restore tx A p1 Q) : jMet Γ yX0_restore cX0_restore 2 (some .boolean) [] 3 0 0 [.ref 0, .int p1] (n, K, A, Lg, G) (fun o u => ∃ (r : Int32) (A' : pA), o = .inl (some (.int r)) ∧ u = (n, K, A', Lg, G) ∧ Q r A') := by
  unfold fX0_restore at h
  obtain ⟨P, hP⟩ : ∃ P : jO → pS → Prop, P = (fun o u => ∃ (r : Int32) (A' : pA), o = .inl (some (.int r)) ∧ u = (n, K, A', Lg, G) ∧ Q r A') := ⟨_, rfl⟩
  rw [← hP]
  refine jMet_of rfl rfl rfl (Nat.le_of_ble_eq_true rfl) ?_
  show J Γ RX0 cX0_restore 2 (some .boolean) "restore" [] 3 0 0 0 [(0, .ref 0), (1, .int p1)] [] (n, K, A, Lg, G) P
  refine j_iload_n 1 rfl dX0_restore_0 ?_
  refine j_iconst (v := 0) dX0_restore_1 (by decide) ?_
  refine j_iconst (v := 2) dX0_restore_2 (by decide) ?_
  refine j_callS (As := [.int p1, .int 0, .int 2]) (st := []) (kc' := 0) (ks' := 0) (tX0_isIn hf p1 0 2 _ h) myX0_isIn q1194 q1195 rfl (Nat.le_of_ble_eq_true rfl) rfl (by decide) (Nat.le_refl 0) (Nat.le_refl 0) dX0_restore_3 (fun v9 u9 hq => ?_) (fun k9 u9 hq => by obtain ⟨_, e9, _⟩ := hq; cases e9)
  obtain ⟨r1, e9, rfl, h⟩ := hq
  obtain rfl := Sum.inl.inj e9
  show J Γ RX0 cX0_restore 2 (some .boolean) "restore" [] 3 0 0 6 [(0, .ref 0), (1, .int p1)] [.int r1] (n, K, A, Lg, G) P
  refine j_if_eq (tgt := 18) dX0_restore_6 (by decide) (fun c => ?_) (fun c => ?_)
  · rw [if_pos c] at h
    refine j_iconst (v := 0) dX0_restore_18 (by decide) ?_
    refine j_zret rfl (by decide) ?_ dX0_restore_19
    rw [hP]
    exact ⟨0, A, rfl, rfl, h⟩
  · rw [if_neg c] at h
    refine j_aload_n 0 rfl dX0_restore_9 ?_
    refine j_getfr fl_X0_81_0 rfl (f_lt hf (by decide)) (fk_0 hf) (fg_0_12 hf) dX0_restore_10 ?_
    refine j_iload_n 1 rfl dX0_restore_13 ?_
    obtain ⟨b2, h⟩ := h
    refine j_zaldJ (j := (p1).toNatClampNeg) (f_lt hf (by decide)) (fk_145 hf) b2 rfl dX0_restore_14 ?_
    refine j_if_ne (tgt := 20) dX0_restore_15 (by decide) (fun c => ?_) (fun c => ?_)
    · rw [if_neg c] at h
      refine j_aload_n 0 rfl dX0_restore_20 ?_
      refine j_getfr fl_X0_55_0 rfl (f_lt hf (by decide)) (fk_0 hf) (fg_0_7 hf) dX0_restore_21 ?_
      refine j_aload_n 0 rfl dX0_restore_24 ?_
      refine j_getfr fl_X0_66_0 rfl (f_lt hf (by decide)) (fk_0 hf) (fg_0_10 hf) dX0_restore_25 ?_
      refine j_iload_n 1 rfl dX0_restore_28 ?_
      obtain ⟨b3, h⟩ := h
      refine j_aaldJ (t := 9) (j := (p1).toNatClampNeg) rfl rfl rfl (f_lt hf (by decide)) (fk_72 hf) b3 rfl (slots_row hf (j_ix b3)) dX0_restore_29 ?_
      refine j_callV (b := 25) (As := [.ref (73 + 23 * (p1).toNatClampNeg)]) (st := []) (C := RX5) (kc' := 0) (ks' := 0) (tX5_takes hf 25 isT_town (73 + 23 * (p1).toNatClampNeg) (isT_slot (j_ix b3)) _ h) myX5_takes rfl q1293 q1294 q1295 (j_l2 hf.1 (t_lt hf isT_town (j := 0) (by decide))) (fun s9 H9 hK9 hR9 h69 => jIs_in hK9 hR9 h69 (t_lt hf isT_town (j := 0) (by decide)) (tk_0 hf isT_town) rfl) rfl (Nat.le_of_ble_eq_true rfl) rfl (by decide) (Nat.le_refl 0) (Nat.le_refl 0) dX0_restore_30 (fun v9 u9 hq => ?_) (fun k9 u9 hq => by obtain ⟨_, e9, _⟩ := hq; cases e9)
      obtain ⟨A4, e9, rfl, h⟩ := hq
      obtain rfl := Sum.inl.inj e9
      show J Γ RX0 cX0_restore 2 (some .boolean) "restore" [] 3 0 0 33 [(0, .ref 0), (1, .int p1)] [] (n, K, A4, Lg, G) P
      refine j_aload_n 0 rfl dX0_restore_33 ?_
      refine j_iconst (v := 0) dX0_restore_34 (by decide) ?_
      refine j_putfiE (fp_X0_119_0 _) rfl rfl rfl (f_lt hf (by decide)) (fk_0 hf) dX0_restore_35 (fun A5 eA5 => ?_)
      replace h := h A5 eA5
      refine j_iconst (v := 1) dX0_restore_38 (by decide) ?_
      refine j_zret rfl (by decide) ?_ dX0_restore_39
      rw [hP]
      exact ⟨1, A5, rfl, rfl, h⟩
    · rw [if_pos c] at h
      refine j_iconst (v := 0) dX0_restore_18 (by decide) ?_
      refine j_zret rfl (by decide) ?_ dX0_restore_19
      rw [hP]
      exact ⟨0, A, rfl, rfl, h⟩
