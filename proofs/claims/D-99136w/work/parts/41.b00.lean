set_option maxRecDepth 100000
set_option maxHeartbeats 4000000
theorem myX12_init : jY yX12_init cX12_init 1 none  0 := ⟨q799, q144, by decide +kernel, by decide +kernel, by decide⟩
def fX12_init_X13 (a0 : Nat) (n : Nat) (K : Nat → pKd) (A : pA) (Lg : pL) (G : pG) (kc : Nat) (ks : Nat) (Q : Nat → (Nat → pKd) → pA → pL → pG → Prop) : Prop :=
    (n ≤ 1000000) ∧ ((a0 < n) ∧ (Q n K A Lg G))
theorem tX12_init_X13 {Γ : jG} {n : Nat} {K : Nat → pKd} {G : pG} {A : pA} {Lg : pL} {kc ks : Nat} (a0 : Nat)  (Q : Nat → (Nat → pKd) → pA → pL → pG → Prop) (h : fX12_init_X13 a0 n K A Lg G kc ks Q) : jMet Γ yX12_init cX12_init 1 none [] 1 kc ks [.ref a0] (n, K, A, Lg, G) (fun o u => ∃ (n' : Nat) (K' : Nat → pKd) (A' : pA) (Lg' : pL) (G' : pG), o = .inl none ∧ u = (n', K', A', Lg', G') ∧ Q n' K' A' Lg' G') := by
  unfold fX12_init_X13 at h
  obtain ⟨P, hP⟩ : ∃ P : jO → pS → Prop, P = (fun o u => ∃ (n' : Nat) (K' : Nat → pKd) (A' : pA) (Lg' : pL) (G' : pG), o = .inl none ∧ u = (n', K', A', Lg', G') ∧ Q n' K' A' Lg' G') := ⟨_, rfl⟩
  rw [← hP]
  refine jMet_of rfl rfl rfl (Nat.le_of_ble_eq_true rfl) ?_
  show J Γ RX12 cX12_init 1 none "<init>" [] 1 kc ks 0 [(0, .ref a0)] [] (n, K, A, Lg, G) P
  refine j_aload_n 0 rfl dX12_init_0 ?_
  obtain ⟨hn6, h⟩ := h
  obtain ⟨la0, h⟩ := h
  refine j_objInit (b := a0) (st := []) q800 q165 q166 (j_l2 hn6 la0) (Nat.le_of_ble_eq_true rfl) (by decide) dX12_init_1 ?_
  refine j_vret rfl ?_ dX12_init_4
  rw [hP]
  exact ⟨n, K, A, Lg, G, rfl, rfl, h⟩

def fX12_init_X14 (a0 : Nat) (n : Nat) (K : Nat → pKd) (A : pA) (Lg : pL) (G : pG) (kc : Nat) (ks : Nat) (Q : Nat → (Nat → pKd) → pA → pL → pG → Prop) : Prop :=
    (n ≤ 1000000) ∧ ((a0 < n) ∧ (Q n K A Lg G))
theorem tX12_init_X14 {Γ : jG} {n : Nat} {K : Nat → pKd} {G : pG} {A : pA} {Lg : pL} {kc ks : Nat} (a0 : Nat)  (Q : Nat → (Nat → pKd) → pA → pL → pG → Prop) (h : fX12_init_X14 a0 n K A Lg G kc ks Q) : jMet Γ yX12_init cX12_init 1 none [] 1 kc ks [.ref a0] (n, K, A, Lg, G) (fun o u => ∃ (n' : Nat) (K' : Nat → pKd) (A' : pA) (Lg' : pL) (G' : pG), o = .inl none ∧ u = (n', K', A', Lg', G') ∧ Q n' K' A' Lg' G') := by
  unfold fX12_init_X14 at h
  obtain ⟨P, hP⟩ : ∃ P : jO → pS → Prop, P = (fun o u => ∃ (n' : Nat) (K' : Nat → pKd) (A' : pA) (Lg' : pL) (G' : pG), o = .inl none ∧ u = (n', K', A', Lg', G') ∧ Q n' K' A' Lg' G') := ⟨_, rfl⟩
  rw [← hP]
  refine jMet_of rfl rfl rfl (Nat.le_of_ble_eq_true rfl) ?_
  show J Γ RX12 cX12_init 1 none "<init>" [] 1 kc ks 0 [(0, .ref a0)] [] (n, K, A, Lg, G) P
  refine j_aload_n 0 rfl dX12_init_0 ?_
  obtain ⟨hn6, h⟩ := h
  obtain ⟨la0, h⟩ := h
  refine j_objInit (b := a0) (st := []) q800 q165 q166 (j_l2 hn6 la0) (Nat.le_of_ble_eq_true rfl) (by decide) dX12_init_1 ?_
  refine j_vret rfl ?_ dX12_init_4
  rw [hP]
  exact ⟨n, K, A, Lg, G, rfl, rfl, h⟩

def fX12_init_X15 (a0 : Nat) (n : Nat) (K : Nat → pKd) (A : pA) (Lg : pL) (G : pG) (kc : Nat) (ks : Nat) (Q : Nat → (Nat → pKd) → pA → pL → pG → Prop) : Prop :=
    (n ≤ 1000000) ∧ ((a0 < n) ∧ (Q n K A Lg G))
theorem tX12_init_X15 {Γ : jG} {n : Nat} {K : Nat → pKd} {G : pG} {A : pA} {Lg : pL} {kc ks : Nat} (a0 : Nat)  (Q : Nat → (Nat → pKd) → pA → pL → pG → Prop) (h : fX12_init_X15 a0 n K A Lg G kc ks Q) : jMet Γ yX12_init cX12_init 1 none [] 1 kc ks [.ref a0] (n, K, A, Lg, G) (fun o u => ∃ (n' : Nat) (K' : Nat → pKd) (A' : pA) (Lg' : pL) (G' : pG), o = .inl none ∧ u = (n', K', A', Lg', G') ∧ Q n' K' A' Lg' G') := by
  unfold fX12_init_X15 at h
  obtain ⟨P, hP⟩ : ∃ P : jO → pS → Prop, P = (fun o u => ∃ (n' : Nat) (K' : Nat → pKd) (A' : pA) (Lg' : pL) (G' : pG), o = .inl none ∧ u = (n', K', A', Lg', G') ∧ Q n' K' A' Lg' G') := ⟨_, rfl⟩
  rw [← hP]
  refine jMet_of rfl rfl rfl (Nat.le_of_ble_eq_true rfl) ?_
  show J Γ RX12 cX12_init 1 none "<init>" [] 1 kc ks 0 [(0, .ref a0)] [] (n, K, A, Lg, G) P
  refine j_aload_n 0 rfl dX12_init_0 ?_
  obtain ⟨hn6, h⟩ := h
  obtain ⟨la0, h⟩ := h
  refine j_objInit (b := a0) (st := []) q800 q165 q166 (j_l2 hn6 la0) (Nat.le_of_ble_eq_true rfl) (by decide) dX12_init_1 ?_
  refine j_vret rfl ?_ dX12_init_4
  rw [hP]
  exact ⟨n, K, A, Lg, G, rfl, rfl, h⟩
theorem myX7_init : jY yX7_init cX7_init 1 none  0 := ⟨q520, q134, by decide +kernel, by decide +kernel, by decide⟩
def fX7_init_X8 (a0 : Nat) (n : Nat) (K : Nat → pKd) (A : pA) (Lg : pL) (G : pG) (kc : Nat) (ks : Nat) (Q : Nat → (Nat → pKd) → pA → pL → pG → Prop) : Prop :=
    (n ≤ 1000000) ∧ ((a0 < n) ∧ (Q n K A Lg G))
theorem tX7_init_X8 {Γ : jG} {n : Nat} {K : Nat → pKd} {G : pG} {A : pA} {Lg : pL} {kc ks : Nat} (a0 : Nat)  (Q : Nat → (Nat → pKd) → pA → pL → pG → Prop) (h : fX7_init_X8 a0 n K A Lg G kc ks Q) : jMet Γ yX7_init cX7_init 1 none [] 1 kc ks [.ref a0] (n, K, A, Lg, G) (fun o u => ∃ (n' : Nat) (K' : Nat → pKd) (A' : pA) (Lg' : pL) (G' : pG), o = .inl none ∧ u = (n', K', A', Lg', G') ∧ Q n' K' A' Lg' G') := by
  unfold fX7_init_X8 at h
  obtain ⟨P, hP⟩ : ∃ P : jO → pS → Prop, P = (fun o u => ∃ (n' : Nat) (K' : Nat → pKd) (A' : pA) (Lg' : pL) (G' : pG), o = .inl none ∧ u = (n', K', A', Lg', G') ∧ Q n' K' A' Lg' G') := ⟨_, rfl⟩
  rw [← hP]
  refine jMet_of rfl rfl rfl (Nat.le_of_ble_eq_true rfl) ?_
  show J Γ RX7 cX7_init 1 none "<init>" [] 1 kc ks 0 [(0, .ref a0)] [] (n, K, A, Lg, G) P
  refine j_aload_n 0 rfl dX7_init_0 ?_
  obtain ⟨hn6, h⟩ := h
  obtain ⟨la0, h⟩ := h
  refine j_objInit (b := a0) (st := []) q521 q165 q166 (j_l2 hn6 la0) (Nat.le_of_ble_eq_true rfl) (by decide) dX7_init_1 ?_
  refine j_vret rfl ?_ dX7_init_4
  rw [hP]
  exact ⟨n, K, A, Lg, G, rfl, rfl, h⟩

def fX7_init_X9 (a0 : Nat) (n : Nat) (K : Nat → pKd) (A : pA) (Lg : pL) (G : pG) (kc : Nat) (ks : Nat) (Q : Nat → (Nat → pKd) → pA → pL → pG → Prop) : Prop :=
    (n ≤ 1000000) ∧ ((a0 < n) ∧ (Q n K A Lg G))
theorem tX7_init_X9 {Γ : jG} {n : Nat} {K : Nat → pKd} {G : pG} {A : pA} {Lg : pL} {kc ks : Nat} (a0 : Nat)  (Q : Nat → (Nat → pKd) → pA → pL → pG → Prop) (h : fX7_init_X9 a0 n K A Lg G kc ks Q) : jMet Γ yX7_init cX7_init 1 none [] 1 kc ks [.ref a0] (n, K, A, Lg, G) (fun o u => ∃ (n' : Nat) (K' : Nat → pKd) (A' : pA) (Lg' : pL) (G' : pG), o = .inl none ∧ u = (n', K', A', Lg', G') ∧ Q n' K' A' Lg' G') := by
  unfold fX7_init_X9 at h
  obtain ⟨P, hP⟩ : ∃ P : jO → pS → Prop, P = (fun o u => ∃ (n' : Nat) (K' : Nat → pKd) (A' : pA) (Lg' : pL) (G' : pG), o = .inl none ∧ u = (n', K', A', Lg', G') ∧ Q n' K' A' Lg' G') := ⟨_, rfl⟩
  rw [← hP]
  refine jMet_of rfl rfl rfl (Nat.le_of_ble_eq_true rfl) ?_
  show J Γ RX7 cX7_init 1 none "<init>" [] 1 kc ks 0 [(0, .ref a0)] [] (n, K, A, Lg, G) P
  refine j_aload_n 0 rfl dX7_init_0 ?_
  obtain ⟨hn6, h⟩ := h
  obtain ⟨la0, h⟩ := h
  refine j_objInit (b := a0) (st := []) q521 q165 q166 (j_l2 hn6 la0) (Nat.le_of_ble_eq_true rfl) (by decide) dX7_init_1 ?_
  refine j_vret rfl ?_ dX7_init_4
  rw [hP]
  exact ⟨n, K, A, Lg, G, rfl, rfl, h⟩
theorem myX13_init : jY yX13_init cX13_init 2 none  1 := ⟨q796, q145, by decide +kernel, by decide +kernel, by decide⟩
def fX13_init (a0 : Nat) (n : Nat) (K : Nat → pKd) (A : pA) (Lg : pL) (G : pG) (kc : Nat) (ks : Nat) (p1 : Int32) (Q : Nat → (Nat → pKd) → pA → pL → pG → Prop) : Prop :=
    ∃ kY1 sY2 : Nat, kY1 ≤ kc ∧ sY2 ≤ ks ∧ ((n ≤ 1000000) ∧ ((a0 < n) ∧ ((K a0 = .inl 11) ∧ (fX12_init_X13 a0 n K A Lg G kY1 sY2 (fun n3 K4 A5 Lg6 G7 => (a0 < n3) ∧ ((K4 a0 = .inl 11) ∧ (∀ A8 : pA, A8 = pup A5 a0 0 p1 → Q n3 K4 A8 Lg6 G7)))))))
theorem tX13_init {Γ : jG} {n : Nat} {K : Nat → pKd} {G : pG} {A : pA} {Lg : pL} {kc ks : Nat} (a0 : Nat) (p1 : Int32) (Q : Nat → (Nat → pKd) → pA → pL → pG → Prop) (h : fX13_init a0 n K A Lg G kc ks p1 Q) : jMet Γ yX13_init cX13_init 2 none [] 2 kc ks [.ref a0, .int p1] (n, K, A, Lg, G) (fun o u => ∃ (n' : Nat) (K' : Nat → pKd) (A' : pA) (Lg' : pL) (G' : pG), o = .inl none ∧ u = (n', K', A', Lg', G') ∧ Q n' K' A' Lg' G') := by
  unfold fX13_init at h
  obtain ⟨P, hP⟩ : ∃ P : jO → pS → Prop, P = (fun o u => ∃ (n' : Nat) (K' : Nat → pKd) (A' : pA) (Lg' : pL) (G' : pG), o = .inl none ∧ u = (n', K', A', Lg', G') ∧ Q n' K' A' Lg' G') := ⟨_, rfl⟩
  rw [← hP]
  refine jMet_of rfl rfl rfl (Nat.le_of_ble_eq_true rfl) ?_
  show J Γ RX13 cX13_init 2 none "<init>" [] 2 kc ks 0 [(0, .ref a0), (1, .int p1)] [] (n, K, A, Lg, G) P
  refine j_aload_n 0 rfl dX13_init_0 ?_
  obtain ⟨kY1, sY2, kY1h, sY2h, h⟩ := h
  obtain ⟨hn6, h⟩ := h
  obtain ⟨la0, h⟩ := h
  obtain ⟨ha0, h⟩ := h
  refine j_callIN (b := a0) (As := []) (st := []) (kc' := kc - kY1) (ks' := ks - sY2) (host := "DogsHour") (tX12_init_X13  a0 _ h) myX12_init rfl (by decide) q798 (j_l2 hn6 la0) rfl (Nat.le_of_ble_eq_true rfl) rfl (by decide) (by omega) (by omega) dX13_init_1 (fun v9 u9 hq => ?_) (fun k9 u9 hq => by obtain ⟨_, _, _, _, _, e9, _⟩ := hq; cases e9)
  obtain ⟨n3, K4, A5, Lg6, G7, e9, rfl, h⟩ := hq
  obtain rfl := Sum.inl.inj e9
  show J Γ RX13 cX13_init 2 none "<init>" [] 2 (kc - kY1) (ks - sY2) 4 [(0, .ref a0), (1, .int p1)] [] (n3, K4, A5, Lg6, G7) P
  refine j_aload_n 0 rfl dX13_init_4 ?_
  refine j_iload_n 1 rfl dX13_init_5 ?_
  obtain ⟨la0, h⟩ := h
  obtain ⟨ha0, h⟩ := h
  refine j_putfiE (fp_i_X13_7_11 _ rfl) rfl rfl rfl la0 ha0 dX13_init_6 (fun A8 eA8 => ?_)
  replace h := h A8 eA8
  refine j_vret rfl ?_ dX13_init_9
  rw [hP]
  exact ⟨n3, K4, A8, Lg6, G7, rfl, rfl, h⟩
theorem myX14_init : jY yX14_init cX14_init 2 none  1 := ⟨q809, q146, by decide +kernel, by decide +kernel, by decide⟩
def fX14_init (a0 : Nat) (n : Nat) (K : Nat → pKd) (A : pA) (Lg : pL) (G : pG) (kc : Nat) (ks : Nat) (p1 : Int32) (Q : Nat → (Nat → pKd) → pA → pL → pG → Prop) : Prop :=
    ∃ kY1 sY2 : Nat, kY1 ≤ kc ∧ sY2 ≤ ks ∧ ((n ≤ 1000000) ∧ ((a0 < n) ∧ ((K a0 = .inl 12) ∧ (fX12_init_X14 a0 n K A Lg G kY1 sY2 (fun n3 K4 A5 Lg6 G7 => (a0 < n3) ∧ ((K4 a0 = .inl 12) ∧ (∀ A8 : pA, A8 = pup A5 a0 0 p1 → Q n3 K4 A8 Lg6 G7)))))))
theorem tX14_init {Γ : jG} {n : Nat} {K : Nat → pKd} {G : pG} {A : pA} {Lg : pL} {kc ks : Nat} (a0 : Nat) (p1 : Int32) (Q : Nat → (Nat → pKd) → pA → pL → pG → Prop) (h : fX14_init a0 n K A Lg G kc ks p1 Q) : jMet Γ yX14_init cX14_init 2 none [] 2 kc ks [.ref a0, .int p1] (n, K, A, Lg, G) (fun o u => ∃ (n' : Nat) (K' : Nat → pKd) (A' : pA) (Lg' : pL) (G' : pG), o = .inl none ∧ u = (n', K', A', Lg', G') ∧ Q n' K' A' Lg' G') := by
  unfold fX14_init at h
  obtain ⟨P, hP⟩ : ∃ P : jO → pS → Prop, P = (fun o u => ∃ (n' : Nat) (K' : Nat → pKd) (A' : pA) (Lg' : pL) (G' : pG), o = .inl none ∧ u = (n', K', A', Lg', G') ∧ Q n' K' A' Lg' G') := ⟨_, rfl⟩
  rw [← hP]
  refine jMet_of rfl rfl rfl (Nat.le_of_ble_eq_true rfl) ?_
  show J Γ RX14 cX14_init 2 none "<init>" [] 2 kc ks 0 [(0, .ref a0), (1, .int p1)] [] (n, K, A, Lg, G) P
  refine j_aload_n 0 rfl dX14_init_0 ?_
  obtain ⟨kY1, sY2, kY1h, sY2h, h⟩ := h
  obtain ⟨hn6, h⟩ := h
  obtain ⟨la0, h⟩ := h
  obtain ⟨ha0, h⟩ := h
  refine j_callIN (b := a0) (As := []) (st := []) (kc' := kc - kY1) (ks' := ks - sY2) (host := "DogsHour") (tX12_init_X14  a0 _ h) myX12_init rfl (by decide) q798 (j_l2 hn6 la0) rfl (Nat.le_of_ble_eq_true rfl) rfl (by decide) (by omega) (by omega) dX14_init_1 (fun v9 u9 hq => ?_) (fun k9 u9 hq => by obtain ⟨_, _, _, _, _, e9, _⟩ := hq; cases e9)
  obtain ⟨n3, K4, A5, Lg6, G7, e9, rfl, h⟩ := hq
  obtain rfl := Sum.inl.inj e9
  show J Γ RX14 cX14_init 2 none "<init>" [] 2 (kc - kY1) (ks - sY2) 4 [(0, .ref a0), (1, .int p1)] [] (n3, K4, A5, Lg6, G7) P
  refine j_aload_n 0 rfl dX14_init_4 ?_
  refine j_iload_n 1 rfl dX14_init_5 ?_
  obtain ⟨la0, h⟩ := h
  obtain ⟨ha0, h⟩ := h
  refine j_putfiE (fp_i_X14_7_12 _ rfl) rfl rfl rfl la0 ha0 dX14_init_6 (fun A8 eA8 => ?_)
  replace h := h A8 eA8
  refine j_vret rfl ?_ dX14_init_9
  rw [hP]
  exact ⟨n3, K4, A8, Lg6, G7, rfl, rfl, h⟩
theorem myX15_init : jY yX15_init cX15_init 4 none  3 := ⟨q819, q147, by decide +kernel, by decide +kernel, by decide⟩
def fX15_init (a0 : Nat) (a2 : Nat) (a3 : Nat) (n : Nat) (K : Nat → pKd) (A : pA) (Lg : pL) (G : pG) (kc : Nat) (ks : Nat) (p1 : Int32) (Q : Nat → (Nat → pKd) → pA → pL → pG → Prop) : Prop :=
    ∃ kY1 sY2 : Nat, kY1 ≤ kc ∧ sY2 ≤ ks ∧ ((n ≤ 1000000) ∧ ((a0 < n) ∧ ((K a0 = .inl 13) ∧ (fX12_init_X15 a0 n K A Lg G kY1 sY2 (fun n3 K4 A5 Lg6 G7 => (a0 < n3) ∧ ((K4 a0 = .inl 13) ∧ (∀ A8 : pA, A8 = pup A5 a0 0 p1 → ∀ G9 : pG, G9 = pup G7 a0 1 (.ref a2) → ∀ G10 : pG, G10 = pup G9 a0 2 (.ref a3) → Q n3 K4 A8 Lg6 G10)))))))
theorem tX15_init {Γ : jG} {n : Nat} {K : Nat → pKd} {G : pG} {A : pA} {Lg : pL} {kc ks : Nat} (a0 : Nat) (a2 : Nat) (a3 : Nat) (p1 : Int32) (Q : Nat → (Nat → pKd) → pA → pL → pG → Prop) (h : fX15_init a0 a2 a3 n K A Lg G kc ks p1 Q) : jMet Γ yX15_init cX15_init 4 none [] 2 kc ks [.ref a0, .int p1, .ref a2, .ref a3] (n, K, A, Lg, G) (fun o u => ∃ (n' : Nat) (K' : Nat → pKd) (A' : pA) (Lg' : pL) (G' : pG), o = .inl none ∧ u = (n', K', A', Lg', G') ∧ Q n' K' A' Lg' G') := by
  unfold fX15_init at h
  obtain ⟨P, hP⟩ : ∃ P : jO → pS → Prop, P = (fun o u => ∃ (n' : Nat) (K' : Nat → pKd) (A' : pA) (Lg' : pL) (G' : pG), o = .inl none ∧ u = (n', K', A', Lg', G') ∧ Q n' K' A' Lg' G') := ⟨_, rfl⟩
  rw [← hP]
  refine jMet_of rfl rfl rfl (Nat.le_of_ble_eq_true rfl) ?_
  show J Γ RX15 cX15_init 4 none "<init>" [] 2 kc ks 0 [(0, .ref a0), (1, .int p1), (2, .ref a2), (3, .ref a3)] [] (n, K, A, Lg, G) P
  refine j_aload_n 0 rfl dX15_init_0 ?_
  obtain ⟨kY1, sY2, kY1h, sY2h, h⟩ := h
  obtain ⟨hn6, h⟩ := h
  obtain ⟨la0, h⟩ := h
  obtain ⟨ha0, h⟩ := h
  refine j_callIN (b := a0) (As := []) (st := []) (kc' := kc - kY1) (ks' := ks - sY2) (host := "DogsHour") (tX12_init_X15  a0 _ h) myX12_init rfl (by decide) q798 (j_l2 hn6 la0) rfl (Nat.le_of_ble_eq_true rfl) rfl (by decide) (by omega) (by omega) dX15_init_1 (fun v9 u9 hq => ?_) (fun k9 u9 hq => by obtain ⟨_, _, _, _, _, e9, _⟩ := hq; cases e9)
  obtain ⟨n3, K4, A5, Lg6, G7, e9, rfl, h⟩ := hq
  obtain rfl := Sum.inl.inj e9
  show J Γ RX15 cX15_init 4 none "<init>" [] 2 (kc - kY1) (ks - sY2) 4 [(0, .ref a0), (1, .int p1), (2, .ref a2), (3, .ref a3)] [] (n3, K4, A5, Lg6, G7) P
  refine j_aload_n 0 rfl dX15_init_4 ?_
  refine j_iload_n 1 rfl dX15_init_5 ?_
  obtain ⟨la0, h⟩ := h
  obtain ⟨ha0, h⟩ := h
  refine j_putfiE (fp_i_X15_7_13 _ rfl) rfl rfl rfl la0 ha0 dX15_init_6 (fun A8 eA8 => ?_)
  replace h := h A8 eA8
  refine j_aload_n 0 rfl dX15_init_9 ?_
  refine j_aload_n 2 rfl dX15_init_10 ?_
  refine j_putfrE (fp_i_X15_13_13 _ rfl) rfl (Or.inl ⟨_, rfl⟩) (Or.inr ⟨_, rfl⟩) la0 ha0 dX15_init_11 (fun G9 eG9 => ?_)
  replace h := h G9 eG9
  refine j_aload_n 0 rfl dX15_init_14 ?_
  refine j_aload_n 3 rfl dX15_init_15 ?_
  refine j_putfrE (fp_i_X15_17_13 _ rfl) rfl (Or.inl ⟨_, rfl⟩) (Or.inr ⟨_, rfl⟩) la0 ha0 dX15_init_16 (fun G10 eG10 => ?_)
  replace h := h G10 eG10
  refine j_vret rfl ?_ dX15_init_19
  rw [hP]
  exact ⟨n3, K4, A8, Lg6, G10, rfl, rfl, h⟩
theorem myX8_init : jY yX8_init cX8_init 1 none  0 := ⟨q517, q135, by decide +kernel, by decide +kernel, by decide⟩
def fX8_init (a0 : Nat) (n : Nat) (K : Nat → pKd) (A : pA) (Lg : pL) (G : pG) (kc : Nat) (ks : Nat) (Q : Nat → (Nat → pKd) → pA → pL → pG → Prop) : Prop :=
    ∃ kY1 sY2 : Nat, kY1 ≤ kc ∧ sY2 ≤ ks ∧ ((n ≤ 1000000) ∧ ((a0 < n) ∧ ((K a0 = .inl 7) ∧ (fX7_init_X8 a0 n K A Lg G kY1 sY2 (fun n3 K4 A5 Lg6 G7 => Q n3 K4 A5 Lg6 G7)))))
theorem tX8_init {Γ : jG} {n : Nat} {K : Nat → pKd} {G : pG} {A : pA} {Lg : pL} {kc ks : Nat} (a0 : Nat)  (Q : Nat → (Nat → pKd) → pA → pL → pG → Prop) (h : fX8_init a0 n K A Lg G kc ks Q) : jMet Γ yX8_init cX8_init 1 none [] 2 kc ks [.ref a0] (n, K, A, Lg, G) (fun o u => ∃ (n' : Nat) (K' : Nat → pKd) (A' : pA) (Lg' : pL) (G' : pG), o = .inl none ∧ u = (n', K', A', Lg', G') ∧ Q n' K' A' Lg' G') := by
  unfold fX8_init at h
  obtain ⟨P, hP⟩ : ∃ P : jO → pS → Prop, P = (fun o u => ∃ (n' : Nat) (K' : Nat → pKd) (A' : pA) (Lg' : pL) (G' : pG), o = .inl none ∧ u = (n', K', A', Lg', G') ∧ Q n' K' A' Lg' G') := ⟨_, rfl⟩
  rw [← hP]
  refine jMet_of rfl rfl rfl (Nat.le_of_ble_eq_true rfl) ?_
  show J Γ RX8 cX8_init 1 none "<init>" [] 2 kc ks 0 [(0, .ref a0)] [] (n, K, A, Lg, G) P
  refine j_aload_n 0 rfl dX8_init_0 ?_
  obtain ⟨kY1, sY2, kY1h, sY2h, h⟩ := h
  obtain ⟨hn6, h⟩ := h
  obtain ⟨la0, h⟩ := h
  obtain ⟨ha0, h⟩ := h
  refine j_callIN (b := a0) (As := []) (st := []) (kc' := kc - kY1) (ks' := ks - sY2) (host := "DogsHour") (tX7_init_X8  a0 _ h) myX7_init rfl (by decide) q519 (j_l2 hn6 la0) rfl (Nat.le_of_ble_eq_true rfl) rfl (by decide) (by omega) (by omega) dX8_init_1 (fun v9 u9 hq => ?_) (fun k9 u9 hq => by obtain ⟨_, _, _, _, _, e9, _⟩ := hq; cases e9)
  obtain ⟨n3, K4, A5, Lg6, G7, e9, rfl, h⟩ := hq
  obtain rfl := Sum.inl.inj e9
  show J Γ RX8 cX8_init 1 none "<init>" [] 2 (kc - kY1) (ks - sY2) 4 [(0, .ref a0)] [] (n3, K4, A5, Lg6, G7) P
  refine j_vret rfl ?_ dX8_init_4
  rw [hP]
  exact ⟨n3, K4, A5, Lg6, G7, rfl, rfl, h⟩
theorem myX9_init : jY yX9_init cX9_init 1 none  0 := ⟨q527, q136, by decide +kernel, by decide +kernel, by decide⟩
def fX9_init (a0 : Nat) (n : Nat) (K : Nat → pKd) (A : pA) (Lg : pL) (G : pG) (kc : Nat) (ks : Nat) (Q : Nat → (Nat → pKd) → pA → pL → pG → Prop) : Prop :=
    ∃ kY1 sY2 : Nat, kY1 ≤ kc ∧ sY2 ≤ ks ∧ ((n ≤ 1000000) ∧ ((a0 < n) ∧ ((K a0 = .inl 8) ∧ (fX7_init_X9 a0 n K A Lg G kY1 sY2 (fun n3 K4 A5 Lg6 G7 => Q n3 K4 A5 Lg6 G7)))))
theorem tX9_init {Γ : jG} {n : Nat} {K : Nat → pKd} {G : pG} {A : pA} {Lg : pL} {kc ks : Nat} (a0 : Nat)  (Q : Nat → (Nat → pKd) → pA → pL → pG → Prop) (h : fX9_init a0 n K A Lg G kc ks Q) : jMet Γ yX9_init cX9_init 1 none [] 2 kc ks [.ref a0] (n, K, A, Lg, G) (fun o u => ∃ (n' : Nat) (K' : Nat → pKd) (A' : pA) (Lg' : pL) (G' : pG), o = .inl none ∧ u = (n', K', A', Lg', G') ∧ Q n' K' A' Lg' G') := by
  unfold fX9_init at h
  obtain ⟨P, hP⟩ : ∃ P : jO → pS → Prop, P = (fun o u => ∃ (n' : Nat) (K' : Nat → pKd) (A' : pA) (Lg' : pL) (G' : pG), o = .inl none ∧ u = (n', K', A', Lg', G') ∧ Q n' K' A' Lg' G') := ⟨_, rfl⟩
  rw [← hP]
  refine jMet_of rfl rfl rfl (Nat.le_of_ble_eq_true rfl) ?_
  show J Γ RX9 cX9_init 1 none "<init>" [] 2 kc ks 0 [(0, .ref a0)] [] (n, K, A, Lg, G) P
  refine j_aload_n 0 rfl dX9_init_0 ?_
  obtain ⟨kY1, sY2, kY1h, sY2h, h⟩ := h
  obtain ⟨hn6, h⟩ := h
  obtain ⟨la0, h⟩ := h
  obtain ⟨ha0, h⟩ := h
  refine j_callIN (b := a0) (As := []) (st := []) (kc' := kc - kY1) (ks' := ks - sY2) (host := "DogsHour") (tX7_init_X9  a0 _ h) myX7_init rfl (by decide) q519 (j_l2 hn6 la0) rfl (Nat.le_of_ble_eq_true rfl) rfl (by decide) (by omega) (by omega) dX9_init_1 (fun v9 u9 hq => ?_) (fun k9 u9 hq => by obtain ⟨_, _, _, _, _, e9, _⟩ := hq; cases e9)
  obtain ⟨n3, K4, A5, Lg6, G7, e9, rfl, h⟩ := hq
  obtain rfl := Sum.inl.inj e9
  show J Γ RX9 cX9_init 1 none "<init>" [] 2 (kc - kY1) (ks - sY2) 4 [(0, .ref a0)] [] (n3, K4, A5, Lg6, G7) P
  refine j_vret rfl ?_ dX9_init_4
  rw [hP]
  exact ⟨n3, K4, A5, Lg6, G7, rfl, rfl, h⟩
theorem myX16_init : jY yX16_init cX16_init 2 none  1 := ⟨q1039, q148, by decide +kernel, by decide +kernel, by decide⟩
def fX16_init_X17 (a0 : Nat) (a1 : Nat) (n : Nat) (K : Nat → pKd) (A : pA) (Lg : pL) (G : pG) (kc : Nat) (ks : Nat) (Q : Nat → (Nat → pKd) → pA → pL → pG → Prop) : Prop :=
    (n ≤ 1000000) ∧ ((a0 < n) ∧ ((K a0 = .inl 14) ∧ (∀ G1 : pG, G1 = pup G a0 0 (.ref a1) → Q n K A Lg G1)))
theorem tX16_init_X17 {Γ : jG} {n : Nat} {K : Nat → pKd} {G : pG} {A : pA} {Lg : pL} {kc ks : Nat} (a0 : Nat) (a1 : Nat)  (Q : Nat → (Nat → pKd) → pA → pL → pG → Prop) (h : fX16_init_X17 a0 a1 n K A Lg G kc ks Q) : jMet Γ yX16_init cX16_init 2 none [] 1 kc ks [.ref a0, .ref a1] (n, K, A, Lg, G) (fun o u => ∃ (n' : Nat) (K' : Nat → pKd) (A' : pA) (Lg' : pL) (G' : pG), o = .inl none ∧ u = (n', K', A', Lg', G') ∧ Q n' K' A' Lg' G') := by
  unfold fX16_init_X17 at h
  obtain ⟨P, hP⟩ : ∃ P : jO → pS → Prop, P = (fun o u => ∃ (n' : Nat) (K' : Nat → pKd) (A' : pA) (Lg' : pL) (G' : pG), o = .inl none ∧ u = (n', K', A', Lg', G') ∧ Q n' K' A' Lg' G') := ⟨_, rfl⟩
  rw [← hP]
  refine jMet_of rfl rfl rfl (Nat.le_of_ble_eq_true rfl) ?_
  show J Γ RX16 cX16_init 2 none "<init>" [] 1 kc ks 0 [(0, .ref a0), (1, .ref a1)] [] (n, K, A, Lg, G) P
  refine j_aload_n 0 rfl dX16_init_0 ?_
  obtain ⟨hn6, h⟩ := h
  obtain ⟨la0, h⟩ := h
  refine j_objInit (b := a0) (st := []) q1040 q165 q166 (j_l2 hn6 la0) (Nat.le_of_ble_eq_true rfl) (by decide) dX16_init_1 ?_
  refine j_aload_n 0 rfl dX16_init_4 ?_
  refine j_aload_n 1 rfl dX16_init_5 ?_
  obtain ⟨ha0, h⟩ := h
  refine j_putfrE (fp_i_X16_7_14 _ rfl) rfl (Or.inl ⟨_, rfl⟩) (Or.inr ⟨_, rfl⟩) la0 ha0 dX16_init_6 (fun G1 eG1 => ?_)
  replace h := h G1 eG1
  refine j_vret rfl ?_ dX16_init_9
  rw [hP]
  exact ⟨n, K, A, Lg, G1, rfl, rfl, h⟩

def fX16_init_X18 (a0 : Nat) (a1 : Nat) (n : Nat) (K : Nat → pKd) (A : pA) (Lg : pL) (G : pG) (kc : Nat) (ks : Nat) (Q : Nat → (Nat → pKd) → pA → pL → pG → Prop) : Prop :=
    (n ≤ 1000000) ∧ ((a0 < n) ∧ ((K a0 = .inl 15) ∧ (∀ G1 : pG, G1 = pup G a0 0 (.ref a1) → Q n K A Lg G1)))
theorem tX16_init_X18 {Γ : jG} {n : Nat} {K : Nat → pKd} {G : pG} {A : pA} {Lg : pL} {kc ks : Nat} (a0 : Nat) (a1 : Nat)  (Q : Nat → (Nat → pKd) → pA → pL → pG → Prop) (h : fX16_init_X18 a0 a1 n K A Lg G kc ks Q) : jMet Γ yX16_init cX16_init 2 none [] 1 kc ks [.ref a0, .ref a1] (n, K, A, Lg, G) (fun o u => ∃ (n' : Nat) (K' : Nat → pKd) (A' : pA) (Lg' : pL) (G' : pG), o = .inl none ∧ u = (n', K', A', Lg', G') ∧ Q n' K' A' Lg' G') := by
  unfold fX16_init_X18 at h
  obtain ⟨P, hP⟩ : ∃ P : jO → pS → Prop, P = (fun o u => ∃ (n' : Nat) (K' : Nat → pKd) (A' : pA) (Lg' : pL) (G' : pG), o = .inl none ∧ u = (n', K', A', Lg', G') ∧ Q n' K' A' Lg' G') := ⟨_, rfl⟩
  rw [← hP]
  refine jMet_of rfl rfl rfl (Nat.le_of_ble_eq_true rfl) ?_
  show J Γ RX16 cX16_init 2 none "<init>" [] 1 kc ks 0 [(0, .ref a0), (1, .ref a1)] [] (n, K, A, Lg, G) P
  refine j_aload_n 0 rfl dX16_init_0 ?_
  obtain ⟨hn6, h⟩ := h
  obtain ⟨la0, h⟩ := h
  refine j_objInit (b := a0) (st := []) q1040 q165 q166 (j_l2 hn6 la0) (Nat.le_of_ble_eq_true rfl) (by decide) dX16_init_1 ?_
  refine j_aload_n 0 rfl dX16_init_4 ?_
  refine j_aload_n 1 rfl dX16_init_5 ?_
  obtain ⟨ha0, h⟩ := h
  refine j_putfrE (fp_i_X16_7_15 _ rfl) rfl (Or.inl ⟨_, rfl⟩) (Or.inr ⟨_, rfl⟩) la0 ha0 dX16_init_6 (fun G1 eG1 => ?_)
  replace h := h G1 eG1
  refine j_vret rfl ?_ dX16_init_9
  rw [hP]
  exact ⟨n, K, A, Lg, G1, rfl, rfl, h⟩

def fX16_init_X19 (a0 : Nat) (a1 : Nat) (n : Nat) (K : Nat → pKd) (A : pA) (Lg : pL) (G : pG) (kc : Nat) (ks : Nat) (Q : Nat → (Nat → pKd) → pA → pL → pG → Prop) : Prop :=
    (n ≤ 1000000) ∧ ((a0 < n) ∧ ((K a0 = .inl 16) ∧ (∀ G1 : pG, G1 = pup G a0 0 (.ref a1) → Q n K A Lg G1)))
theorem tX16_init_X19 {Γ : jG} {n : Nat} {K : Nat → pKd} {G : pG} {A : pA} {Lg : pL} {kc ks : Nat} (a0 : Nat) (a1 : Nat)  (Q : Nat → (Nat → pKd) → pA → pL → pG → Prop) (h : fX16_init_X19 a0 a1 n K A Lg G kc ks Q) : jMet Γ yX16_init cX16_init 2 none [] 1 kc ks [.ref a0, .ref a1] (n, K, A, Lg, G) (fun o u => ∃ (n' : Nat) (K' : Nat → pKd) (A' : pA) (Lg' : pL) (G' : pG), o = .inl none ∧ u = (n', K', A', Lg', G') ∧ Q n' K' A' Lg' G') := by
  unfold fX16_init_X19 at h
  obtain ⟨P, hP⟩ : ∃ P : jO → pS → Prop, P = (fun o u => ∃ (n' : Nat) (K' : Nat → pKd) (A' : pA) (Lg' : pL) (G' : pG), o = .inl none ∧ u = (n', K', A', Lg', G') ∧ Q n' K' A' Lg' G') := ⟨_, rfl⟩
  rw [← hP]
  refine jMet_of rfl rfl rfl (Nat.le_of_ble_eq_true rfl) ?_
  show J Γ RX16 cX16_init 2 none "<init>" [] 1 kc ks 0 [(0, .ref a0), (1, .ref a1)] [] (n, K, A, Lg, G) P
  refine j_aload_n 0 rfl dX16_init_0 ?_
  obtain ⟨hn6, h⟩ := h
  obtain ⟨la0, h⟩ := h
  refine j_objInit (b := a0) (st := []) q1040 q165 q166 (j_l2 hn6 la0) (Nat.le_of_ble_eq_true rfl) (by decide) dX16_init_1 ?_
  refine j_aload_n 0 rfl dX16_init_4 ?_
  refine j_aload_n 1 rfl dX16_init_5 ?_
  obtain ⟨ha0, h⟩ := h
  refine j_putfrE (fp_i_X16_7_16 _ rfl) rfl (Or.inl ⟨_, rfl⟩) (Or.inr ⟨_, rfl⟩) la0 ha0 dX16_init_6 (fun G1 eG1 => ?_)
  replace h := h G1 eG1
  refine j_vret rfl ?_ dX16_init_9
  rw [hP]
  exact ⟨n, K, A, Lg, G1, rfl, rfl, h⟩
theorem myX17_init : jY yX17_init cX17_init 2 none  1 := ⟨q1036, q149, by decide +kernel, by decide +kernel, by decide⟩
def fX17_init (a0 : Nat) (a1 : Nat) (n : Nat) (K : Nat → pKd) (A : pA) (Lg : pL) (G : pG) (kc : Nat) (ks : Nat) (Q : Nat → (Nat → pKd) → pA → pL → pG → Prop) : Prop :=
    ∃ kY1 sY2 : Nat, kY1 ≤ kc ∧ sY2 ≤ ks ∧ ((n ≤ 1000000) ∧ ((a0 < n) ∧ ((K a0 = .inl 14) ∧ (fX16_init_X17 a0 a1 n K A Lg G kY1 sY2 (fun n3 K4 A5 Lg6 G7 => Q n3 K4 A5 Lg6 G7)))))
theorem tX17_init {Γ : jG} {n : Nat} {K : Nat → pKd} {G : pG} {A : pA} {Lg : pL} {kc ks : Nat} (a0 : Nat) (a1 : Nat)  (Q : Nat → (Nat → pKd) → pA → pL → pG → Prop) (h : fX17_init a0 a1 n K A Lg G kc ks Q) : jMet Γ yX17_init cX17_init 2 none [] 2 kc ks [.ref a0, .ref a1] (n, K, A, Lg, G) (fun o u => ∃ (n' : Nat) (K' : Nat → pKd) (A' : pA) (Lg' : pL) (G' : pG), o = .inl none ∧ u = (n', K', A', Lg', G') ∧ Q n' K' A' Lg' G') := by
  unfold fX17_init at h
  obtain ⟨P, hP⟩ : ∃ P : jO → pS → Prop, P = (fun o u => ∃ (n' : Nat) (K' : Nat → pKd) (A' : pA) (Lg' : pL) (G' : pG), o = .inl none ∧ u = (n', K', A', Lg', G') ∧ Q n' K' A' Lg' G') := ⟨_, rfl⟩
  rw [← hP]
  refine jMet_of rfl rfl rfl (Nat.le_of_ble_eq_true rfl) ?_
  show J Γ RX17 cX17_init 2 none "<init>" [] 2 kc ks 0 [(0, .ref a0), (1, .ref a1)] [] (n, K, A, Lg, G) P
  refine j_aload_n 0 rfl dX17_init_0 ?_
  refine j_aload_n 1 rfl dX17_init_1 ?_
  obtain ⟨kY1, sY2, kY1h, sY2h, h⟩ := h
  obtain ⟨hn6, h⟩ := h
  obtain ⟨la0, h⟩ := h
  obtain ⟨ha0, h⟩ := h
  refine j_callI (b := a0) (As := [.ref a1]) (st := []) (kc' := kc - kY1) (ks' := ks - sY2) (tX16_init_X17  a0 a1 _ h) myX16_init rfl q1037 q1038 (j_l2 hn6 la0) rfl (Nat.le_of_ble_eq_true rfl) rfl (by decide) (by omega) (by omega) dX17_init_2 (fun v9 u9 hq => ?_) (fun k9 u9 hq => by obtain ⟨_, _, _, _, _, e9, _⟩ := hq; cases e9)
  obtain ⟨n3, K4, A5, Lg6, G7, e9, rfl, h⟩ := hq
  obtain rfl := Sum.inl.inj e9
  show J Γ RX17 cX17_init 2 none "<init>" [] 2 (kc - kY1) (ks - sY2) 5 [(0, .ref a0), (1, .ref a1)] [] (n3, K4, A5, Lg6, G7) P
  refine j_vret rfl ?_ dX17_init_5
  rw [hP]
  exact ⟨n3, K4, A5, Lg6, G7, rfl, rfl, h⟩
theorem myX18_init : jY yX18_init cX18_init 2 none  1 := ⟨q1122, q156, by decide +kernel, by decide +kernel, by decide⟩
def fX18_init (a0 : Nat) (a1 : Nat) (n : Nat) (K : Nat → pKd) (A : pA) (Lg : pL) (G : pG) (kc : Nat) (ks : Nat) (Q : Nat → (Nat → pKd) → pA → pL → pG → Prop) : Prop :=
    ∃ kY1 sY2 : Nat, kY1 ≤ kc ∧ sY2 ≤ ks ∧ ((n ≤ 1000000) ∧ ((a0 < n) ∧ ((K a0 = .inl 15) ∧ (fX16_init_X18 a0 a1 n K A Lg G kY1 sY2 (fun n3 K4 A5 Lg6 G7 => Q n3 K4 A5 Lg6 G7)))))
theorem tX18_init {Γ : jG} {n : Nat} {K : Nat → pKd} {G : pG} {A : pA} {Lg : pL} {kc ks : Nat} (a0 : Nat) (a1 : Nat)  (Q : Nat → (Nat → pKd) → pA → pL → pG → Prop) (h : fX18_init a0 a1 n K A Lg G kc ks Q) : jMet Γ yX18_init cX18_init 2 none [] 2 kc ks [.ref a0, .ref a1] (n, K, A, Lg, G) (fun o u => ∃ (n' : Nat) (K' : Nat → pKd) (A' : pA) (Lg' : pL) (G' : pG), o = .inl none ∧ u = (n', K', A', Lg', G') ∧ Q n' K' A' Lg' G') := by
  unfold fX18_init at h
  obtain ⟨P, hP⟩ : ∃ P : jO → pS → Prop, P = (fun o u => ∃ (n' : Nat) (K' : Nat → pKd) (A' : pA) (Lg' : pL) (G' : pG), o = .inl none ∧ u = (n', K', A', Lg', G') ∧ Q n' K' A' Lg' G') := ⟨_, rfl⟩
  rw [← hP]
  refine jMet_of rfl rfl rfl (Nat.le_of_ble_eq_true rfl) ?_
  show J Γ RX18 cX18_init 2 none "<init>" [] 2 kc ks 0 [(0, .ref a0), (1, .ref a1)] [] (n, K, A, Lg, G) P
  refine j_aload_n 0 rfl dX18_init_0 ?_
  refine j_aload_n 1 rfl dX18_init_1 ?_
  obtain ⟨kY1, sY2, kY1h, sY2h, h⟩ := h
  obtain ⟨hn6, h⟩ := h
  obtain ⟨la0, h⟩ := h
  obtain ⟨ha0, h⟩ := h
  refine j_callI (b := a0) (As := [.ref a1]) (st := []) (kc' := kc - kY1) (ks' := ks - sY2) (tX16_init_X18  a0 a1 _ h) myX16_init rfl q1123 q1038 (j_l2 hn6 la0) rfl (Nat.le_of_ble_eq_true rfl) rfl (by decide) (by omega) (by omega) dX18_init_2 (fun v9 u9 hq => ?_) (fun k9 u9 hq => by obtain ⟨_, _, _, _, _, e9, _⟩ := hq; cases e9)
  obtain ⟨n3, K4, A5, Lg6, G7, e9, rfl, h⟩ := hq
  obtain rfl := Sum.inl.inj e9
  show J Γ RX18 cX18_init 2 none "<init>" [] 2 (kc - kY1) (ks - sY2) 5 [(0, .ref a0), (1, .ref a1)] [] (n3, K4, A5, Lg6, G7) P
  refine j_vret rfl ?_ dX18_init_5
  rw [hP]
  exact ⟨n3, K4, A5, Lg6, G7, rfl, rfl, h⟩
theorem myX19_init : jY yX19_init cX19_init 2 none  1 := ⟨q1149, q157, by decide +kernel, by decide +kernel, by decide⟩
def fX19_init (a0 : Nat) (a1 : Nat) (n : Nat) (K : Nat → pKd) (A : pA) (Lg : pL) (G : pG) (kc : Nat) (ks : Nat) (Q : Nat → (Nat → pKd) → pA → pL → pG → Prop) : Prop :=
    ∃ kY1 sY2 : Nat, kY1 ≤ kc ∧ sY2 ≤ ks ∧ ((n ≤ 1000000) ∧ ((a0 < n) ∧ ((K a0 = .inl 16) ∧ (fX16_init_X19 a0 a1 n K A Lg G kY1 sY2 (fun n3 K4 A5 Lg6 G7 => Q n3 K4 A5 Lg6 G7)))))
theorem tX19_init {Γ : jG} {n : Nat} {K : Nat → pKd} {G : pG} {A : pA} {Lg : pL} {kc ks : Nat} (a0 : Nat) (a1 : Nat)  (Q : Nat → (Nat → pKd) → pA → pL → pG → Prop) (h : fX19_init a0 a1 n K A Lg G kc ks Q) : jMet Γ yX19_init cX19_init 2 none [] 2 kc ks [.ref a0, .ref a1] (n, K, A, Lg, G) (fun o u => ∃ (n' : Nat) (K' : Nat → pKd) (A' : pA) (Lg' : pL) (G' : pG), o = .inl none ∧ u = (n', K', A', Lg', G') ∧ Q n' K' A' Lg' G') := by
  unfold fX19_init at h
  obtain ⟨P, hP⟩ : ∃ P : jO → pS → Prop, P = (fun o u => ∃ (n' : Nat) (K' : Nat → pKd) (A' : pA) (Lg' : pL) (G' : pG), o = .inl none ∧ u = (n', K', A', Lg', G') ∧ Q n' K' A' Lg' G') := ⟨_, rfl⟩
  rw [← hP]
  refine jMet_of rfl rfl rfl (Nat.le_of_ble_eq_true rfl) ?_
  show J Γ RX19 cX19_init 2 none "<init>" [] 2 kc ks 0 [(0, .ref a0), (1, .ref a1)] [] (n, K, A, Lg, G) P
  refine j_aload_n 0 rfl dX19_init_0 ?_
  refine j_aload_n 1 rfl dX19_init_1 ?_
  obtain ⟨kY1, sY2, kY1h, sY2h, h⟩ := h
  obtain ⟨hn6, h⟩ := h
  obtain ⟨la0, h⟩ := h
  obtain ⟨ha0, h⟩ := h
  refine j_callI (b := a0) (As := [.ref a1]) (st := []) (kc' := kc - kY1) (ks' := ks - sY2) (tX16_init_X19  a0 a1 _ h) myX16_init rfl q1150 q1038 (j_l2 hn6 la0) rfl (Nat.le_of_ble_eq_true rfl) rfl (by decide) (by omega) (by omega) dX19_init_2 (fun v9 u9 hq => ?_) (fun k9 u9 hq => by obtain ⟨_, _, _, _, _, e9, _⟩ := hq; cases e9)
  obtain ⟨n3, K4, A5, Lg6, G7, e9, rfl, h⟩ := hq
  obtain rfl := Sum.inl.inj e9
  show J Γ RX19 cX19_init 2 none "<init>" [] 2 (kc - kY1) (ks - sY2) 5 [(0, .ref a0), (1, .ref a1)] [] (n3, K4, A5, Lg6, G7) P
  refine j_vret rfl ?_ dX19_init_5
  rw [hP]
  exact ⟨n3, K4, A5, Lg6, G7, rfl, rfl, h⟩
theorem myX6_init : jY yX6_init cX6_init 1 none  0 := ⟨q443, q133, by decide +kernel, by decide +kernel, by decide⟩
def fX6_init (a0 : Nat) (n : Nat) (K : Nat → pKd) (A : pA) (Lg : pL) (G : pG) (kc : Nat) (ks : Nat) (Q : Nat → (Nat → pKd) → pA → pL → pG → Prop) : Prop :=
    (n ≤ 1000000) ∧ ((a0 < n) ∧ ((1 ≤ kc) ∧ ((9 ≤ ks) ∧ (∀ (K3 : Nat → pKd) (A4 : pA) (L5 : pL) (G6 : pG), K3 = pkup K n (.inr (0, 9)) → A4 = prow A n (fun _ => 0) → L5 = prow Lg n (fun _ => 0) → G6 = prow G n (fun _ => .null) → (a0 < (n + 1)) ∧ ((K3 a0 = .inl 6) ∧ (∀ G9 : pG, G9 = pup G6 a0 0 (.ref n) → Q (n + 1) K3 A4 L5 G9))))))
theorem tX6_init {Γ : jG} {n : Nat} {K : Nat → pKd} {G : pG} {A : pA} {Lg : pL} {kc ks : Nat} (a0 : Nat)  (Q : Nat → (Nat → pKd) → pA → pL → pG → Prop) (h : fX6_init a0 n K A Lg G kc ks Q) : jMet Γ yX6_init cX6_init 1 none [] 1 kc ks [.ref a0] (n, K, A, Lg, G) (fun o u => ∃ (n' : Nat) (K' : Nat → pKd) (A' : pA) (Lg' : pL) (G' : pG), o = .inl none ∧ u = (n', K', A', Lg', G') ∧ Q n' K' A' Lg' G') := by
  unfold fX6_init at h
  obtain ⟨P, hP⟩ : ∃ P : jO → pS → Prop, P = (fun o u => ∃ (n' : Nat) (K' : Nat → pKd) (A' : pA) (Lg' : pL) (G' : pG), o = .inl none ∧ u = (n', K', A', Lg', G') ∧ Q n' K' A' Lg' G') := ⟨_, rfl⟩
  rw [← hP]
  refine jMet_of rfl rfl rfl (Nat.le_of_ble_eq_true rfl) ?_
  show J Γ RX6 cX6_init 1 none "<init>" [] 1 kc ks 0 [(0, .ref a0)] [] (n, K, A, Lg, G) P
  refine j_aload_n 0 rfl dX6_init_0 ?_
  obtain ⟨hn6, h⟩ := h
  obtain ⟨la0, h⟩ := h
  refine j_objInit (b := a0) (st := []) q444 q165 q166 (j_l2 hn6 la0) (Nat.le_of_ble_eq_true rfl) (by decide) dX6_init_1 ?_
  refine j_aload_n 0 rfl dX6_init_4 ?_
  refine j_bipush (v := 9) dX6_init_5 (by decide) ?_
  obtain ⟨b1, h⟩ := h
  obtain ⟨b2, h⟩ := h
  refine j_newaE (t := 0) (N := 9) rfl rfl q431 (fun _ _ h9 => h9) rfl (by decide) (by decide) (by decide) b1 b2 dX6_init_7 (fun K3 A4 L5 G6 eK3 eA4 eL5 eG6 => ?_)
  replace h := h K3 A4 L5 G6 eK3 eA4 eL5 eG6
  have b7 : n < (n + 1) := (by omega)
  have b8 : K3 n = .inr (0, 9) := (by rw [eK3]; exact pkup_self)
  obtain ⟨la0, h⟩ := h
  obtain ⟨ha0, h⟩ := h
  refine j_putfrE (fp_i_X6_7_6 _ rfl) rfl (Or.inr ⟨_, rfl⟩) (Or.inr ⟨_, rfl⟩) la0 ha0 dX6_init_9 (fun G9 eG9 => ?_)
  replace h := h G9 eG9
  refine j_vret rfl ?_ dX6_init_12
  rw [hP]
  exact ⟨n + 1, K3, A4, L5, G9, rfl, rfl, h⟩
theorem myX5_init : jY yX5_init cX5_init 1 none  0 := ⟨q436, q132, by decide +kernel, by decide +kernel, by decide⟩
def fX5_init (a0 : Nat) (n : Nat) (K : Nat → pKd) (A : pA) (Lg : pL) (G : pG) (kc : Nat) (ks : Nat) (Q : Nat → (Nat → pKd) → pA → pL → pG → Prop) : Prop :=
    (n ≤ 1000000) ∧ ((a0 < n) ∧ ((1 ≤ kc) ∧ ((5 ≤ ks) ∧ (∀ (K3 : Nat → pKd) (A4 : pA) (L5 : pL) (G6 : pG), K3 = pkup K n (.inr (0, 5)) → A4 = prow A n (fun _ => 0) → L5 = prow Lg n (fun _ => 0) → G6 = prow G n (fun _ => .null) → (a0 < (n + 1)) ∧ ((K3 a0 = .inl 5) ∧ (∀ G9 : pG, G9 = pup G6 a0 0 (.ref n) → (1 ≤ kc - 1) ∧ ((5 ≤ ks - 5) ∧ (∀ (K12 : Nat → pKd) (A13 : pA) (L14 : pL) (G15 : pG), K12 = pkup K3 (n + 1) (.inr (0, 5)) → A13 = prow A4 (n + 1) (fun _ => 0) → L14 = prow L5 (n + 1) (fun _ => 0) → G15 = prow G9 (n + 1) (fun _ => .null) → (a0 < (n + 1 + 1)) ∧ ((K12 a0 = .inl 5) ∧ (∀ G18 : pG, G18 = pup G15 a0 1 (.ref (n + 1)) → (1 ≤ kc - 1 - 1) ∧ ((5 ≤ ks - 5 - 5) ∧ (∀ (K21 : Nat → pKd) (A22 : pA) (L23 : pL) (G24 : pG), K21 = pkup K12 (n + 1 + 1) (.inr (0, 5)) → A22 = prow A13 (n + 1 + 1) (fun _ => 0) → L23 = prow L14 (n + 1 + 1) (fun _ => 0) → G24 = prow G18 (n + 1 + 1) (fun _ => .null) → (a0 < (n + 1 + 1 + 1)) ∧ ((K21 a0 = .inl 5) ∧ (∀ G27 : pG, G27 = pup G24 a0 2 (.ref (n + 1 + 1)) → (1 ≤ kc - 1 - 1 - 1) ∧ ((4 ≤ ks - 5 - 5 - 5) ∧ (∀ (K30 : Nat → pKd) (A31 : pA) (L32 : pL) (G33 : pG), K30 = pkup K21 (n + 1 + 1 + 1) (.inr (0, 4)) → A31 = prow A22 (n + 1 + 1 + 1) (fun _ => 0) → L32 = prow L23 (n + 1 + 1 + 1) (fun _ => 0) → G33 = prow G27 (n + 1 + 1 + 1) (fun _ => .null) → (a0 < (n + 1 + 1 + 1 + 1)) ∧ ((K30 a0 = .inl 5) ∧ (∀ G36 : pG, G36 = pup G33 a0 3 (.ref (n + 1 + 1 + 1)) → (1 ≤ kc - 1 - 1 - 1 - 1) ∧ ((4 ≤ ks - 5 - 5 - 5 - 4) ∧ (∀ (K39 : Nat → pKd) (A40 : pA) (L41 : pL) (G42 : pG), K39 = pkup K30 (n + 1 + 1 + 1 + 1) (.inr (0, 4)) → A40 = prow A31 (n + 1 + 1 + 1 + 1) (fun _ => 0) → L41 = prow L32 (n + 1 + 1 + 1 + 1) (fun _ => 0) → G42 = prow G36 (n + 1 + 1 + 1 + 1) (fun _ => .null) → (a0 < (n + 1 + 1 + 1 + 1 + 1)) ∧ ((K39 a0 = .inl 5) ∧ (∀ G45 : pG, G45 = pup G42 a0 4 (.ref (n + 1 + 1 + 1 + 1)) → (1 ≤ kc - 1 - 1 - 1 - 1 - 1) ∧ ((4 ≤ ks - 5 - 5 - 5 - 4 - 4) ∧ (∀ (K48 : Nat → pKd) (A49 : pA) (L50 : pL) (G51 : pG), K48 = pkup K39 (n + 1 + 1 + 1 + 1 + 1) (.inr (0, 4)) → A49 = prow A40 (n + 1 + 1 + 1 + 1 + 1) (fun _ => 0) → L50 = prow L41 (n + 1 + 1 + 1 + 1 + 1) (fun _ => 0) → G51 = prow G45 (n + 1 + 1 + 1 + 1 + 1) (fun _ => .null) → (a0 < (n + 1 + 1 + 1 + 1 + 1 + 1)) ∧ ((K48 a0 = .inl 5) ∧ (∀ G54 : pG, G54 = pup G51 a0 5 (.ref (n + 1 + 1 + 1 + 1 + 1)) → (1 ≤ kc - 1 - 1 - 1 - 1 - 1 - 1) ∧ ((4 ≤ ks - 5 - 5 - 5 - 4 - 4 - 4) ∧ (∀ (K57 : Nat → pKd) (A58 : pA) (L59 : pL) (G60 : pG), K57 = pkup K48 (n + 1 + 1 + 1 + 1 + 1 + 1) (.inr (0, 4)) → A58 = prow A49 (n + 1 + 1 + 1 + 1 + 1 + 1) (fun _ => 0) → L59 = prow L50 (n + 1 + 1 + 1 + 1 + 1 + 1) (fun _ => 0) → G60 = prow G54 (n + 1 + 1 + 1 + 1 + 1 + 1) (fun _ => .null) → (a0 < (n + 1 + 1 + 1 + 1 + 1 + 1 + 1)) ∧ ((K57 a0 = .inl 5) ∧ (∀ G63 : pG, G63 = pup G60 a0 6 (.ref (n + 1 + 1 + 1 + 1 + 1 + 1)) → (6 ≤ kc - 1 - 1 - 1 - 1 - 1 - 1 - 1) ∧ ((25 ≤ ks - 5 - 5 - 5 - 4 - 4 - 4 - 4) ∧ (∀ (K66 : Nat → pKd) (A67 : pA) (L68 : pL) (G69 : pG), K66 = pmulK (n + 1 + 1 + 1 + 1 + 1 + 1 + 1) K57 5 4 → A67 = pmulA (n + 1 + 1 + 1 + 1 + 1 + 1 + 1) A58 5 0 → L68 = pmulA (n + 1 + 1 + 1 + 1 + 1 + 1 + 1) L59 5 0 → G69 = pmulG (n + 1 + 1 + 1 + 1 + 1 + 1 + 1) G63 5 → (a0 < (n + 1 + 1 + 1 + 1 + 1 + 1 + 1 + 1 + 5)) ∧ ((K66 a0 = .inl 5) ∧ (∀ G72 : pG, G72 = pup G69 a0 7 (.ref (n + 1 + 1 + 1 + 1 + 1 + 1 + 1)) → (6 ≤ kc - 1 - 1 - 1 - 1 - 1 - 1 - 1 - 6) ∧ ((25 ≤ ks - 5 - 5 - 5 - 4 - 4 - 4 - 4 - 25) ∧ (∀ (K75 : Nat → pKd) (A76 : pA) (L77 : pL) (G78 : pG), K75 = pmulK (n + 1 + 1 + 1 + 1 + 1 + 1 + 1 + 1 + 5) K66 5 4 → A76 = pmulA (n + 1 + 1 + 1 + 1 + 1 + 1 + 1 + 1 + 5) A67 5 0 → L77 = pmulA (n + 1 + 1 + 1 + 1 + 1 + 1 + 1 + 1 + 5) L68 5 0 → G78 = pmulG (n + 1 + 1 + 1 + 1 + 1 + 1 + 1 + 1 + 5) G72 5 → (a0 < (n + 1 + 1 + 1 + 1 + 1 + 1 + 1 + 1 + 5 + 1 + 5)) ∧ ((K75 a0 = .inl 5) ∧ (∀ G81 : pG, G81 = pup G78 a0 8 (.ref (n + 1 + 1 + 1 + 1 + 1 + 1 + 1 + 1 + 5)) → (1 ≤ kc - 1 - 1 - 1 - 1 - 1 - 1 - 1 - 6 - 6) ∧ ((4 ≤ ks - 5 - 5 - 5 - 4 - 4 - 4 - 4 - 25 - 25) ∧ (∀ (K84 : Nat → pKd) (A85 : pA) (L86 : pL) (G87 : pG), K84 = pkup K75 (n + 1 + 1 + 1 + 1 + 1 + 1 + 1 + 1 + 5 + 1 + 5) (.inr (0, 4)) → A85 = prow A76 (n + 1 + 1 + 1 + 1 + 1 + 1 + 1 + 1 + 5 + 1 + 5) (fun _ => 0) → L86 = prow L77 (n + 1 + 1 + 1 + 1 + 1 + 1 + 1 + 1 + 5 + 1 + 5) (fun _ => 0) → G87 = prow G81 (n + 1 + 1 + 1 + 1 + 1 + 1 + 1 + 1 + 5 + 1 + 5) (fun _ => .null) → (a0 < (n + 1 + 1 + 1 + 1 + 1 + 1 + 1 + 1 + 5 + 1 + 5 + 1)) ∧ ((K84 a0 = .inl 5) ∧ (∀ G90 : pG, G90 = pup G87 a0 12 (.ref (n + 1 + 1 + 1 + 1 + 1 + 1 + 1 + 1 + 5 + 1 + 5)) → (1 ≤ kc - 1 - 1 - 1 - 1 - 1 - 1 - 1 - 6 - 6 - 1) ∧ ((2 ≤ ks - 5 - 5 - 5 - 4 - 4 - 4 - 4 - 25 - 25 - 4) ∧ (∀ (K91 : Nat → pKd) (A92 : pA) (L93 : pL) (G94 : pG), K91 = pkup K84 (n + 1 + 1 + 1 + 1 + 1 + 1 + 1 + 1 + 5 + 1 + 5 + 1) (.inl 6) → A92 = prow A85 (n + 1 + 1 + 1 + 1 + 1 + 1 + 1 + 1 + 5 + 1 + 5 + 1) (fun _ => 0) → L93 = prow L86 (n + 1 + 1 + 1 + 1 + 1 + 1 + 1 + 1 + 5 + 1 + 5 + 1) (fun _ => 0) → G94 = prow G90 (n + 1 + 1 + 1 + 1 + 1 + 1 + 1 + 1 + 5 + 1 + 5 + 1) (fun _ => .null) → ∃ kY99 sY100 : Nat, kY99 ≤ kc - 1 - 1 - 1 - 1 - 1 - 1 - 1 - 6 - 6 - 1 - 1 ∧ sY100 ≤ ks - 5 - 5 - 5 - 4 - 4 - 4 - 4 - 25 - 25 - 4 - 2 ∧ (((n + 1 + 1 + 1 + 1 + 1 + 1 + 1 + 1 + 5 + 1 + 5 + 1 + 1) ≤ 1000000) ∧ (fX6_init (n + 1 + 1 + 1 + 1 + 1 + 1 + 1 + 1 + 5 + 1 + 5 + 1) (n + 1 + 1 + 1 + 1 + 1 + 1 + 1 + 1 + 5 + 1 + 5 + 1 + 1) K91 A92 L93 G94 kY99 sY100 (fun n101 K102 A103 Lg104 G105 => (a0 < n101) ∧ ((K102 a0 = .inl 5) ∧ (∀ G106 : pG, G106 = pup G105 a0 13 (.ref (n + 1 + 1 + 1 + 1 + 1 + 1 + 1 + 1 + 5 + 1 + 5 + 1)) → Q n101 K102 A103 Lg104 G106)))))))))))))))))))))))))))))))))))))))))))))))))
theorem tX5_init {Γ : jG} {n : Nat} {K : Nat → pKd} {G : pG} {A : pA} {Lg : pL} {kc ks : Nat} (a0 : Nat)  (Q : Nat → (Nat → pKd) → pA → pL → pG → Prop) (h : fX5_init a0 n K A Lg G kc ks Q) : jMet Γ yX5_init cX5_init 1 none [] 2 kc ks [.ref a0] (n, K, A, Lg, G) (fun o u => ∃ (n' : Nat) (K' : Nat → pKd) (A' : pA) (Lg' : pL) (G' : pG), o = .inl none ∧ u = (n', K', A', Lg', G') ∧ Q n' K' A' Lg' G') := by
  unfold fX5_init at h
  obtain ⟨P, hP⟩ : ∃ P : jO → pS → Prop, P = (fun o u => ∃ (n' : Nat) (K' : Nat → pKd) (A' : pA) (Lg' : pL) (G' : pG), o = .inl none ∧ u = (n', K', A', Lg', G') ∧ Q n' K' A' Lg' G') := ⟨_, rfl⟩
  rw [← hP]
  refine jMet_of rfl rfl rfl (Nat.le_of_ble_eq_true rfl) ?_
  show J Γ RX5 cX5_init 1 none "<init>" [] 2 kc ks 0 [(0, .ref a0)] [] (n, K, A, Lg, G) P
  refine j_aload_n 0 rfl dX5_init_0 ?_
  obtain ⟨hn6, h⟩ := h
  obtain ⟨la0, h⟩ := h
  refine j_objInit (b := a0) (st := []) q437 q165 q166 (j_l2 hn6 la0) (Nat.le_of_ble_eq_true rfl) (by decide) dX5_init_1 ?_
  refine j_aload_n 0 rfl dX5_init_4 ?_
  refine j_iconst (v := 5) dX5_init_5 (by decide) ?_
  obtain ⟨b1, h⟩ := h
  obtain ⟨b2, h⟩ := h
  refine j_newaE (t := 0) (N := 5) rfl rfl q431 (fun _ _ h9 => h9) rfl (by decide) (by decide) (by decide) b1 b2 dX5_init_6 (fun K3 A4 L5 G6 eK3 eA4 eL5 eG6 => ?_)
  replace h := h K3 A4 L5 G6 eK3 eA4 eL5 eG6
  have b7 : n < (n + 1) := (by omega)
  have b8 : K3 n = .inr (0, 5) := (by rw [eK3]; exact pkup_self)
  obtain ⟨la0, h⟩ := h
  obtain ⟨ha0, h⟩ := h
  refine j_putfrE (fp_i_X5_9_5 _ rfl) rfl (Or.inr ⟨_, rfl⟩) (Or.inr ⟨_, rfl⟩) la0 ha0 dX5_init_8 (fun G9 eG9 => ?_)
  replace h := h G9 eG9
  refine j_aload_n 0 rfl dX5_init_11 ?_
  refine j_iconst (v := 5) dX5_init_12 (by decide) ?_
  obtain ⟨b10, h⟩ := h
  obtain ⟨b11, h⟩ := h
  refine j_newaE (t := 0) (N := 5) rfl rfl q431 (fun _ _ h9 => h9) rfl (by decide) (by decide) (by decide) b10 b11 dX5_init_13 (fun K12 A13 L14 G15 eK12 eA13 eL14 eG15 => ?_)
  replace h := h K12 A13 L14 G15 eK12 eA13 eL14 eG15
  have b16 : (n + 1) < (n + 1 + 1) := (by omega)
  have b17 : K12 (n + 1) = .inr (0, 5) := (by rw [eK12]; exact pkup_self)
  obtain ⟨la0, h⟩ := h
  obtain ⟨ha0, h⟩ := h
  refine j_putfrE (fp_i_X5_15_5 _ rfl) rfl (Or.inr ⟨_, rfl⟩) (Or.inr ⟨_, rfl⟩) la0 ha0 dX5_init_15 (fun G18 eG18 => ?_)
  replace h := h G18 eG18
  refine j_aload_n 0 rfl dX5_init_18 ?_
  refine j_iconst (v := 5) dX5_init_19 (by decide) ?_
  obtain ⟨b19, h⟩ := h
  obtain ⟨b20, h⟩ := h
  refine j_newaE (t := 0) (N := 5) rfl rfl q431 (fun _ _ h9 => h9) rfl (by decide) (by decide) (by decide) b19 b20 dX5_init_20 (fun K21 A22 L23 G24 eK21 eA22 eL23 eG24 => ?_)
  replace h := h K21 A22 L23 G24 eK21 eA22 eL23 eG24
  have b25 : (n + 1 + 1) < (n + 1 + 1 + 1) := (by omega)
  have b26 : K21 (n + 1 + 1) = .inr (0, 5) := (by rw [eK21]; exact pkup_self)
  obtain ⟨la0, h⟩ := h
  obtain ⟨ha0, h⟩ := h
  refine j_putfrE (fp_i_X5_18_5 _ rfl) rfl (Or.inr ⟨_, rfl⟩) (Or.inr ⟨_, rfl⟩) la0 ha0 dX5_init_22 (fun G27 eG27 => ?_)
  replace h := h G27 eG27
  refine j_aload_n 0 rfl dX5_init_25 ?_
  refine j_iconst (v := 4) dX5_init_26 (by decide) ?_
  obtain ⟨b28, h⟩ := h
  obtain ⟨b29, h⟩ := h
  refine j_newaE (t := 0) (N := 4) rfl rfl q431 (fun _ _ h9 => h9) rfl (by decide) (by decide) (by decide) b28 b29 dX5_init_27 (fun K30 A31 L32 G33 eK30 eA31 eL32 eG33 => ?_)
  replace h := h K30 A31 L32 G33 eK30 eA31 eL32 eG33
  have b34 : (n + 1 + 1 + 1) < (n + 1 + 1 + 1 + 1) := (by omega)
  have b35 : K30 (n + 1 + 1 + 1) = .inr (0, 4) := (by rw [eK30]; exact pkup_self)
  obtain ⟨la0, h⟩ := h
  obtain ⟨ha0, h⟩ := h
  refine j_putfrE (fp_i_X5_21_5 _ rfl) rfl (Or.inr ⟨_, rfl⟩) (Or.inr ⟨_, rfl⟩) la0 ha0 dX5_init_29 (fun G36 eG36 => ?_)
  replace h := h G36 eG36
  refine j_aload_n 0 rfl dX5_init_32 ?_
  refine j_iconst (v := 4) dX5_init_33 (by decide) ?_
  obtain ⟨b37, h⟩ := h
  obtain ⟨b38, h⟩ := h
  refine j_newaE (t := 0) (N := 4) rfl rfl q431 (fun _ _ h9 => h9) rfl (by decide) (by decide) (by decide) b37 b38 dX5_init_34 (fun K39 A40 L41 G42 eK39 eA40 eL41 eG42 => ?_)
  replace h := h K39 A40 L41 G42 eK39 eA40 eL41 eG42
  have b43 : (n + 1 + 1 + 1 + 1) < (n + 1 + 1 + 1 + 1 + 1) := (by omega)
  have b44 : K39 (n + 1 + 1 + 1 + 1) = .inr (0, 4) := (by rw [eK39]; exact pkup_self)
  obtain ⟨la0, h⟩ := h
  obtain ⟨ha0, h⟩ := h
  refine j_putfrE (fp_i_X5_24_5 _ rfl) rfl (Or.inr ⟨_, rfl⟩) (Or.inr ⟨_, rfl⟩) la0 ha0 dX5_init_36 (fun G45 eG45 => ?_)
  replace h := h G45 eG45
  refine j_aload_n 0 rfl dX5_init_39 ?_
  refine j_iconst (v := 4) dX5_init_40 (by decide) ?_
  obtain ⟨b46, h⟩ := h
  obtain ⟨b47, h⟩ := h
  refine j_newaE (t := 0) (N := 4) rfl rfl q431 (fun _ _ h9 => h9) rfl (by decide) (by decide) (by decide) b46 b47 dX5_init_41 (fun K48 A49 L50 G51 eK48 eA49 eL50 eG51 => ?_)
  replace h := h K48 A49 L50 G51 eK48 eA49 eL50 eG51
  have b52 : (n + 1 + 1 + 1 + 1 + 1) < (n + 1 + 1 + 1 + 1 + 1 + 1) := (by omega)
  have b53 : K48 (n + 1 + 1 + 1 + 1 + 1) = .inr (0, 4) := (by rw [eK48]; exact pkup_self)
  obtain ⟨la0, h⟩ := h
  obtain ⟨ha0, h⟩ := h
  refine j_putfrE (fp_i_X5_27_5 _ rfl) rfl (Or.inr ⟨_, rfl⟩) (Or.inr ⟨_, rfl⟩) la0 ha0 dX5_init_43 (fun G54 eG54 => ?_)
  replace h := h G54 eG54
  refine j_aload_n 0 rfl dX5_init_46 ?_
  refine j_iconst (v := 4) dX5_init_47 (by decide) ?_
  obtain ⟨b55, h⟩ := h
  obtain ⟨b56, h⟩ := h
  refine j_newaE (t := 0) (N := 4) rfl rfl q431 (fun _ _ h9 => h9) rfl (by decide) (by decide) (by decide) b55 b56 dX5_init_48 (fun K57 A58 L59 G60 eK57 eA58 eL59 eG60 => ?_)
  replace h := h K57 A58 L59 G60 eK57 eA58 eL59 eG60
  have b61 : (n + 1 + 1 + 1 + 1 + 1 + 1) < (n + 1 + 1 + 1 + 1 + 1 + 1 + 1) := (by omega)
  have b62 : K57 (n + 1 + 1 + 1 + 1 + 1 + 1) = .inr (0, 4) := (by rw [eK57]; exact pkup_self)
  obtain ⟨la0, h⟩ := h
  obtain ⟨ha0, h⟩ := h
  refine j_putfrE (fp_i_X5_30_5 _ rfl) rfl (Or.inr ⟨_, rfl⟩) (Or.inr ⟨_, rfl⟩) la0 ha0 dX5_init_50 (fun G63 eG63 => ?_)
  replace h := h G63 eG63
  refine j_aload_n 0 rfl dX5_init_53 ?_
  refine j_iconst (v := 5) dX5_init_54 (by decide) ?_
  refine j_iconst (v := 4) dX5_init_55 (by decide) ?_
  obtain ⟨b64, h⟩ := h
  obtain ⟨b65, h⟩ := h
  refine j_multiE (N := 5) (M := 4) q438 q431 (by decide) (by decide) (by decide) (by decide) (by decide) (by decide) b64 b65 dX5_init_56 (fun K66 A67 L68 G69 eK66 eA67 eL68 eG69 => ?_)
  replace h := h K66 A67 L68 G69 eK66 eA67 eL68 eG69
  have b70 : (n + 1 + 1 + 1 + 1 + 1 + 1 + 1) < (n + 1 + 1 + 1 + 1 + 1 + 1 + 1 + 1 + 5) := (by omega)
  have b71 : K66 (n + 1 + 1 + 1 + 1 + 1 + 1 + 1) = .inr (11, 5) := (by rw [eK66]; exact if_pos rfl)
  obtain ⟨la0, h⟩ := h
  obtain ⟨ha0, h⟩ := h
  refine j_putfrE (fp_i_X5_35_5 _ rfl) rfl (Or.inr ⟨_, rfl⟩) (Or.inr ⟨_, rfl⟩) la0 ha0 dX5_init_60 (fun G72 eG72 => ?_)
  replace h := h G72 eG72
  refine j_aload_n 0 rfl dX5_init_63 ?_
  refine j_iconst (v := 5) dX5_init_64 (by decide) ?_
  refine j_iconst (v := 4) dX5_init_65 (by decide) ?_
  obtain ⟨b73, h⟩ := h
  obtain ⟨b74, h⟩ := h
  refine j_multiE (N := 5) (M := 4) q438 q431 (by decide) (by decide) (by decide) (by decide) (by decide) (by decide) b73 b74 dX5_init_66 (fun K75 A76 L77 G78 eK75 eA76 eL77 eG78 => ?_)
  replace h := h K75 A76 L77 G78 eK75 eA76 eL77 eG78
  have b79 : (n + 1 + 1 + 1 + 1 + 1 + 1 + 1 + 1 + 5) < (n + 1 + 1 + 1 + 1 + 1 + 1 + 1 + 1 + 5 + 1 + 5) := (by omega)
  have b80 : K75 (n + 1 + 1 + 1 + 1 + 1 + 1 + 1 + 1 + 5) = .inr (11, 5) := (by rw [eK75]; exact if_pos rfl)
  obtain ⟨la0, h⟩ := h
  obtain ⟨ha0, h⟩ := h
  refine j_putfrE (fp_i_X5_38_5 _ rfl) rfl (Or.inr ⟨_, rfl⟩) (Or.inr ⟨_, rfl⟩) la0 ha0 dX5_init_70 (fun G81 eG81 => ?_)
  replace h := h G81 eG81
  refine j_aload_n 0 rfl dX5_init_73 ?_
  refine j_iconst (v := 4) dX5_init_74 (by decide) ?_
  obtain ⟨b82, h⟩ := h
  obtain ⟨b83, h⟩ := h
  refine j_newaE (t := 0) (N := 4) rfl rfl q431 (fun _ _ h9 => h9) rfl (by decide) (by decide) (by decide) b82 b83 dX5_init_75 (fun K84 A85 L86 G87 eK84 eA85 eL86 eG87 => ?_)
  replace h := h K84 A85 L86 G87 eK84 eA85 eL86 eG87
  have b88 : (n + 1 + 1 + 1 + 1 + 1 + 1 + 1 + 1 + 5 + 1 + 5) < (n + 1 + 1 + 1 + 1 + 1 + 1 + 1 + 1 + 5 + 1 + 5 + 1) := (by omega)
  have b89 : K84 (n + 1 + 1 + 1 + 1 + 1 + 1 + 1 + 1 + 5 + 1 + 5) = .inr (0, 4) := (by rw [eK84]; exact pkup_self)
  obtain ⟨la0, h⟩ := h
  obtain ⟨ha0, h⟩ := h
  refine j_putfrE (fp_i_X5_41_5 _ rfl) rfl (Or.inr ⟨_, rfl⟩) (Or.inr ⟨_, rfl⟩) la0 ha0 dX5_init_77 (fun G90 eG90 => ?_)
  replace h := h G90 eG90
  refine j_aload_n 0 rfl dX5_init_80 ?_
  obtain ⟨b95, h⟩ := h
  obtain ⟨b96, h⟩ := h
  refine j_newE cn_X5_44 b95 b96 dX5_init_81 (fun K91 A92 L93 G94 eK91 eA92 eL93 eG94 => ?_)
  replace h := h K91 A92 L93 G94 eK91 eA92 eL93 eG94
  have b97 : (n + 1 + 1 + 1 + 1 + 1 + 1 + 1 + 1 + 5 + 1 + 5 + 1) < (n + 1 + 1 + 1 + 1 + 1 + 1 + 1 + 1 + 5 + 1 + 5 + 1 + 1) := (by omega)
  have b98 : K91 (n + 1 + 1 + 1 + 1 + 1 + 1 + 1 + 1 + 5 + 1 + 5 + 1) = .inl 6 := (by rw [eK91]; exact pkup_self)
  refine j_dup rfl dX5_init_84 ?_
  obtain ⟨kY99, sY100, kY99h, sY100h, h⟩ := h
  obtain ⟨hn6, h⟩ := h
  refine j_callIN (b := (n + 1 + 1 + 1 + 1 + 1 + 1 + 1 + 1 + 5 + 1 + 5 + 1)) (As := []) (st := [.ref (n + 1 + 1 + 1 + 1 + 1 + 1 + 1 + 1 + 5 + 1 + 5 + 1), .ref a0]) (kc' := kc - 1 - 1 - 1 - 1 - 1 - 1 - 1 - 6 - 6 - 1 - 1 - kY99) (ks' := ks - 5 - 5 - 5 - 4 - 4 - 4 - 4 - 25 - 25 - 4 - 2 - sY100) (host := "DogsHour") (tX6_init  (n + 1 + 1 + 1 + 1 + 1 + 1 + 1 + 1 + 5 + 1 + 5 + 1) _ h) myX6_init rfl (by decide) q442 (j_l2 hn6 b97) rfl (Nat.le_of_ble_eq_true rfl) rfl (by decide) (by omega) (by omega) dX5_init_85 (fun v9 u9 hq => ?_) (fun k9 u9 hq => by obtain ⟨_, _, _, _, _, e9, _⟩ := hq; cases e9)
  obtain ⟨n101, K102, A103, Lg104, G105, e9, rfl, h⟩ := hq
  obtain rfl := Sum.inl.inj e9
  show J Γ RX5 cX5_init 1 none "<init>" [] 2 (kc - 1 - 1 - 1 - 1 - 1 - 1 - 1 - 6 - 6 - 1 - 1 - kY99) (ks - 5 - 5 - 5 - 4 - 4 - 4 - 4 - 25 - 25 - 4 - 2 - sY100) 88 [(0, .ref a0)] [.ref (n + 1 + 1 + 1 + 1 + 1 + 1 + 1 + 1 + 5 + 1 + 5 + 1), .ref a0] (n101, K102, A103, Lg104, G105) P
  obtain ⟨la0, h⟩ := h
  obtain ⟨ha0, h⟩ := h
  refine j_putfrE (fp_i_X5_47_5 _ rfl) rfl (Or.inl ⟨_, rfl⟩) (Or.inr ⟨_, rfl⟩) la0 ha0 dX5_init_88 (fun G106 eG106 => ?_)
  replace h := h G106 eG106
  refine j_vret rfl ?_ dX5_init_91
  rw [hP]
  exact ⟨n101, K102, A103, Lg104, G106, rfl, rfl, h⟩
theorem myX11_init : jY yX11_init cX11_init 1 none  0 := ⟨q739, q143, by decide +kernel, by decide +kernel, by decide⟩
def fX11_init (a0 : Nat) (n : Nat) (K : Nat → pKd) (A : pA) (Lg : pL) (G : pG) (kc : Nat) (ks : Nat) (Q : Nat → (Nat → pKd) → pA → pL → pG → Prop) : Prop :=
    (n ≤ 1000000) ∧ ((a0 < n) ∧ ((1 ≤ kc) ∧ ((4 ≤ ks) ∧ (∀ (K3 : Nat → pKd) (A4 : pA) (L5 : pL) (G6 : pG), K3 = pkup K n (.inr (8, 4)) → A4 = prow A n (fun _ => 0) → L5 = prow Lg n (fun _ => 0) → G6 = prow G n (fun _ => .null) → (a0 < (n + 1)) ∧ ((K3 a0 = .inl 10) ∧ (∀ G9 : pG, G9 = pup G6 a0 0 (.ref n) → (1 ≤ kc - 1) ∧ ((4 ≤ ks - 4) ∧ (∀ (K12 : Nat → pKd) (A13 : pA) (L14 : pL) (G15 : pG), K12 = pkup K3 (n + 1) (.inr (8, 4)) → A13 = prow A4 (n + 1) (fun _ => 0) → L14 = prow L5 (n + 1) (fun _ => 0) → G15 = prow G9 (n + 1) (fun _ => .null) → (a0 < (n + 1 + 1)) ∧ ((K12 a0 = .inl 10) ∧ (∀ G18 : pG, G18 = pup G15 a0 1 (.ref (n + 1)) → (1 ≤ kc - 1 - 1) ∧ ((5 ≤ ks - 4 - 4) ∧ (∀ (K21 : Nat → pKd) (A22 : pA) (L23 : pL) (G24 : pG), K21 = pkup K12 (n + 1 + 1) (.inr (8, 5)) → A22 = prow A13 (n + 1 + 1) (fun _ => 0) → L23 = prow L14 (n + 1 + 1) (fun _ => 0) → G24 = prow G18 (n + 1 + 1) (fun _ => .null) → (a0 < (n + 1 + 1 + 1)) ∧ ((K21 a0 = .inl 10) ∧ (∀ G27 : pG, G27 = pup G24 a0 2 (.ref (n + 1 + 1)) → Q (n + 1 + 1 + 1) K21 A22 L23 G27))))))))))))))
theorem tX11_init {Γ : jG} {n : Nat} {K : Nat → pKd} {G : pG} {A : pA} {Lg : pL} {kc ks : Nat} (a0 : Nat)  (Q : Nat → (Nat → pKd) → pA → pL → pG → Prop) (h : fX11_init a0 n K A Lg G kc ks Q) : jMet Γ yX11_init cX11_init 1 none [] 1 kc ks [.ref a0] (n, K, A, Lg, G) (fun o u => ∃ (n' : Nat) (K' : Nat → pKd) (A' : pA) (Lg' : pL) (G' : pG), o = .inl none ∧ u = (n', K', A', Lg', G') ∧ Q n' K' A' Lg' G') := by
  unfold fX11_init at h
  obtain ⟨P, hP⟩ : ∃ P : jO → pS → Prop, P = (fun o u => ∃ (n' : Nat) (K' : Nat → pKd) (A' : pA) (Lg' : pL) (G' : pG), o = .inl none ∧ u = (n', K', A', Lg', G') ∧ Q n' K' A' Lg' G') := ⟨_, rfl⟩
  rw [← hP]
  refine jMet_of rfl rfl rfl (Nat.le_of_ble_eq_true rfl) ?_
  show J Γ RX11 cX11_init 1 none "<init>" [] 1 kc ks 0 [(0, .ref a0)] [] (n, K, A, Lg, G) P
  refine j_aload_n 0 rfl dX11_init_0 ?_
  obtain ⟨hn6, h⟩ := h
  obtain ⟨la0, h⟩ := h
  refine j_objInit (b := a0) (st := []) q740 q165 q166 (j_l2 hn6 la0) (Nat.le_of_ble_eq_true rfl) (by decide) dX11_init_1 ?_
  refine j_aload_n 0 rfl dX11_init_4 ?_
  refine j_iconst (v := 4) dX11_init_5 (by decide) ?_
  obtain ⟨b1, h⟩ := h
  obtain ⟨b2, h⟩ := h
  refine j_anewE (t := 8) (N := 4) rfl rfl q741 (by decide) (by decide) (by decide) (by decide) b1 b2 dX11_init_6 (fun K3 A4 L5 G6 eK3 eA4 eL5 eG6 => ?_)
  replace h := h K3 A4 L5 G6 eK3 eA4 eL5 eG6
  have b7 : n < (n + 1) := (by omega)
  have b8 : K3 n = .inr (8, 4) := (by rw [eK3]; exact pkup_self)
  obtain ⟨la0, h⟩ := h
  obtain ⟨ha0, h⟩ := h
  refine j_putfrE (fp_i_X11_11_10 _ rfl) rfl (Or.inr ⟨_, rfl⟩) (Or.inr ⟨_, rfl⟩) la0 ha0 dX11_init_9 (fun G9 eG9 => ?_)
  replace h := h G9 eG9
  refine j_aload_n 0 rfl dX11_init_12 ?_
  refine j_iconst (v := 4) dX11_init_13 (by decide) ?_
  obtain ⟨b10, h⟩ := h
  obtain ⟨b11, h⟩ := h
  refine j_anewE (t := 8) (N := 4) rfl rfl q741 (by decide) (by decide) (by decide) (by decide) b10 b11 dX11_init_14 (fun K12 A13 L14 G15 eK12 eA13 eL14 eG15 => ?_)
  replace h := h K12 A13 L14 G15 eK12 eA13 eL14 eG15
  have b16 : (n + 1) < (n + 1 + 1) := (by omega)
  have b17 : K12 (n + 1) = .inr (8, 4) := (by rw [eK12]; exact pkup_self)
  obtain ⟨la0, h⟩ := h
  obtain ⟨ha0, h⟩ := h
  refine j_putfrE (fp_i_X11_17_10 _ rfl) rfl (Or.inr ⟨_, rfl⟩) (Or.inr ⟨_, rfl⟩) la0 ha0 dX11_init_17 (fun G18 eG18 => ?_)
  replace h := h G18 eG18
  refine j_aload_n 0 rfl dX11_init_20 ?_
  refine j_iconst (v := 5) dX11_init_21 (by decide) ?_
  obtain ⟨b19, h⟩ := h
  obtain ⟨b20, h⟩ := h
  refine j_anewE (t := 8) (N := 5) rfl rfl q741 (by decide) (by decide) (by decide) (by decide) b19 b20 dX11_init_22 (fun K21 A22 L23 G24 eK21 eA22 eL23 eG24 => ?_)
  replace h := h K21 A22 L23 G24 eK21 eA22 eL23 eG24
  have b25 : (n + 1 + 1) < (n + 1 + 1 + 1) := (by omega)
  have b26 : K21 (n + 1 + 1) = .inr (8, 5) := (by rw [eK21]; exact pkup_self)
  obtain ⟨la0, h⟩ := h
  obtain ⟨ha0, h⟩ := h
  refine j_putfrE (fp_i_X11_20_10 _ rfl) rfl (Or.inr ⟨_, rfl⟩) (Or.inr ⟨_, rfl⟩) la0 ha0 dX11_init_25 (fun G27 eG27 => ?_)
  replace h := h G27 eG27
  refine j_vret rfl ?_ dX11_init_28
  rw [hP]
  exact ⟨n + 1 + 1 + 1, K21, A22, L23, G27, rfl, rfl, h⟩
theorem myX3_init : jY yX3_init cX3_init 3 none  2 := ⟨q307, q127, by decide +kernel, by decide +kernel, by decide⟩
def fX3_init (a0 : Nat) (a1 : Nat) (a2 : Nat) (n : Nat) (K : Nat → pKd) (A : pA) (Lg : pL) (G : pG) (kc : Nat) (ks : Nat) (Q : Nat → (Nat → pKd) → pA → pL → pG → Prop) : Prop :=
    (n ≤ 1000000) ∧ ((a0 < n) ∧ ((K a0 = .inl 3) ∧ (∀ G1 : pG, G1 = pup G a0 0 (.ref a1) → ∀ G2 : pG, G2 = pup G1 a0 1 (.ref a2) → Q n K A Lg G2)))
theorem tX3_init {Γ : jG} {n : Nat} {K : Nat → pKd} {G : pG} {A : pA} {Lg : pL} {kc ks : Nat} (a0 : Nat) (a1 : Nat) (a2 : Nat)  (Q : Nat → (Nat → pKd) → pA → pL → pG → Prop) (h : fX3_init a0 a1 a2 n K A Lg G kc ks Q) : jMet Γ yX3_init cX3_init 3 none [] 1 kc ks [.ref a0, .ref a1, .ref a2] (n, K, A, Lg, G) (fun o u => ∃ (n' : Nat) (K' : Nat → pKd) (A' : pA) (Lg' : pL) (G' : pG), o = .inl none ∧ u = (n', K', A', Lg', G') ∧ Q n' K' A' Lg' G') := by
  unfold fX3_init at h
  obtain ⟨P, hP⟩ : ∃ P : jO → pS → Prop, P = (fun o u => ∃ (n' : Nat) (K' : Nat → pKd) (A' : pA) (Lg' : pL) (G' : pG), o = .inl none ∧ u = (n', K', A', Lg', G') ∧ Q n' K' A' Lg' G') := ⟨_, rfl⟩
  rw [← hP]
  refine jMet_of rfl rfl rfl (Nat.le_of_ble_eq_true rfl) ?_
  show J Γ RX3 cX3_init 3 none "<init>" [] 1 kc ks 0 [(0, .ref a0), (1, .ref a1), (2, .ref a2)] [] (n, K, A, Lg, G) P
  refine j_aload_n 0 rfl dX3_init_0 ?_
  obtain ⟨hn6, h⟩ := h
  obtain ⟨la0, h⟩ := h
  refine j_objInit (b := a0) (st := []) q308 q165 q166 (j_l2 hn6 la0) (Nat.le_of_ble_eq_true rfl) (by decide) dX3_init_1 ?_
  refine j_aload_n 0 rfl dX3_init_4 ?_
  refine j_aload_n 1 rfl dX3_init_5 ?_
  obtain ⟨ha0, h⟩ := h
  refine j_putfrE (fp_i_X3_9_3 _ rfl) rfl (Or.inl ⟨_, rfl⟩) (Or.inr ⟨_, rfl⟩) la0 ha0 dX3_init_6 (fun G1 eG1 => ?_)
  replace h := h G1 eG1
  refine j_aload_n 0 rfl dX3_init_9 ?_
  refine j_aload_n 2 rfl dX3_init_10 ?_
  refine j_putfrE (fp_i_X3_15_3 _ rfl) rfl (Or.inl ⟨_, rfl⟩) (Or.inr ⟨_, rfl⟩) la0 ha0 dX3_init_11 (fun G2 eG2 => ?_)
  replace h := h G2 eG2
  refine j_vret rfl ?_ dX3_init_14
  rw [hP]
  exact ⟨n, K, A, Lg, G2, rfl, rfl, h⟩
theorem myX2_init : jY yX2_init cX2_init 1 none  0 := ⟨q245, q126, by decide +kernel, by decide +kernel, by decide⟩
def fX2_init (a0 : Nat) (n : Nat) (K : Nat → pKd) (A : pA) (Lg : pL) (G : pG) (kc : Nat) (ks : Nat) (Q : Nat → (Nat → pKd) → pA → pL → pG → Prop) : Prop :=
    (n ≤ 1000000) ∧ ((a0 < n) ∧ ((1 ≤ kc) ∧ ((23 ≤ ks) ∧ (∀ (K3 : Nat → pKd) (A4 : pA) (L5 : pL) (G6 : pG), K3 = pkup K n (.inr (5, 23)) → A4 = prow A n (fun _ => 0) → L5 = prow Lg n (fun _ => 0) → G6 = prow G n (fun _ => .null) → ∀ G9 : pG, G9 = pup G6 n 0 (.ref 1000001) → ∀ G10 : pG, G10 = pup G9 n 1 (.ref 1000002) → ∀ G11 : pG, G11 = pup G10 n 2 (.ref 1000003) → ∀ G12 : pG, G12 = pup G11 n 3 (.ref 1000004) → ∀ G13 : pG, G13 = pup G12 n 4 (.ref 1000005) → ∀ G14 : pG, G14 = pup G13 n 5 (.ref 1000006) → ∀ G15 : pG, G15 = pup G14 n 6 (.ref 1000007) → ∀ G16 : pG, G16 = pup G15 n 7 (.ref 1000008) → ∀ G17 : pG, G17 = pup G16 n 8 (.ref 1000009) → ∀ G18 : pG, G18 = pup G17 n 9 (.ref 1000010) → ∀ G19 : pG, G19 = pup G18 n 10 (.ref 1000011) → ∀ G20 : pG, G20 = pup G19 n 11 (.ref 1000012) → ∀ G21 : pG, G21 = pup G20 n 12 (.ref 1000013) → ∀ G22 : pG, G22 = pup G21 n 13 (.ref 1000014) → ∀ G23 : pG, G23 = pup G22 n 14 (.ref 1000015) → ∀ G24 : pG, G24 = pup G23 n 15 (.ref 1000016) → ∀ G25 : pG, G25 = pup G24 n 16 (.ref 1000017) → ∀ G26 : pG, G26 = pup G25 n 17 (.ref 1000018) → ∀ G27 : pG, G27 = pup G26 n 18 (.ref 1000019) → ∀ G28 : pG, G28 = pup G27 n 19 (.ref 1000020) → ∀ G29 : pG, G29 = pup G28 n 20 (.ref 1000021) → ∀ G30 : pG, G30 = pup G29 n 21 (.ref 1000022) → ∀ G31 : pG, G31 = pup G30 n 22 (.ref 1000023) → (a0 < (n + 1)) ∧ ((K3 a0 = .inl 2) ∧ (∀ G32 : pG, G32 = pup G31 a0 0 (.ref n) → (1 ≤ kc - 1) ∧ ((2000 ≤ ks - 23) ∧ (∀ (K35 : Nat → pKd) (A36 : pA) (L37 : pL) (G38 : pG), K35 = pkup K3 (n + 1) (.inr (1, 2000)) → A36 = prow A4 (n + 1) (fun _ => 0) → L37 = prow L5 (n + 1) (fun _ => 0) → G38 = prow G32 (n + 1) (fun _ => .null) → (a0 < (n + 1 + 1)) ∧ ((K35 a0 = .inl 2) ∧ (∀ G41 : pG, G41 = pup G38 a0 1 (.ref (n + 1)) → (1 ≤ kc - 1 - 1) ∧ ((2001 ≤ ks - 23 - 2000) ∧ (∀ (K44 : Nat → pKd) (A45 : pA) (L46 : pL) (G47 : pG), K44 = pkup K35 (n + 1 + 1) (.inr (1, 2001)) → A45 = prow A36 (n + 1 + 1) (fun _ => 0) → L46 = prow L37 (n + 1 + 1) (fun _ => 0) → G47 = prow G41 (n + 1 + 1) (fun _ => .null) → (a0 < (n + 1 + 1 + 1)) ∧ ((K44 a0 = .inl 2) ∧ (∀ G50 : pG, G50 = pup G47 a0 3 (.ref (n + 1 + 1)) → (1 ≤ kc - 1 - 1 - 1) ∧ ((2001 ≤ ks - 23 - 2000 - 2001) ∧ (∀ (K53 : Nat → pKd) (A54 : pA) (L55 : pL) (G56 : pG), K53 = pkup K44 (n + 1 + 1 + 1) (.inr (2, 2001)) → A54 = prow A45 (n + 1 + 1 + 1) (fun _ => 0) → L55 = prow L46 (n + 1 + 1 + 1) (fun _ => 0) → G56 = prow G50 (n + 1 + 1 + 1) (fun _ => .null) → (a0 < (n + 1 + 1 + 1 + 1)) ∧ ((K53 a0 = .inl 2) ∧ (∀ G59 : pG, G59 = pup G56 a0 4 (.ref (n + 1 + 1 + 1)) → (1 ≤ kc - 1 - 1 - 1 - 1) ∧ ((2001 ≤ ks - 23 - 2000 - 2001 - 2001) ∧ (∀ (K62 : Nat → pKd) (A63 : pA) (L64 : pL) (G65 : pG), K62 = pkup K53 (n + 1 + 1 + 1 + 1) (.inr (2, 2001)) → A63 = prow A54 (n + 1 + 1 + 1 + 1) (fun _ => 0) → L64 = prow L55 (n + 1 + 1 + 1 + 1) (fun _ => 0) → G65 = prow G59 (n + 1 + 1 + 1 + 1) (fun _ => .null) → (a0 < (n + 1 + 1 + 1 + 1 + 1)) ∧ ((K62 a0 = .inl 2) ∧ (∀ G68 : pG, G68 = pup G65 a0 5 (.ref (n + 1 + 1 + 1 + 1)) → (1 ≤ kc - 1 - 1 - 1 - 1 - 1) ∧ ((2001 ≤ ks - 23 - 2000 - 2001 - 2001 - 2001) ∧ (∀ (K71 : Nat → pKd) (A72 : pA) (L73 : pL) (G74 : pG), K71 = pkup K62 (n + 1 + 1 + 1 + 1 + 1) (.inr (2, 2001)) → A72 = prow A63 (n + 1 + 1 + 1 + 1 + 1) (fun _ => 0) → L73 = prow L64 (n + 1 + 1 + 1 + 1 + 1) (fun _ => 0) → G74 = prow G68 (n + 1 + 1 + 1 + 1 + 1) (fun _ => .null) → (a0 < (n + 1 + 1 + 1 + 1 + 1 + 1)) ∧ ((K71 a0 = .inl 2) ∧ (∀ G77 : pG, G77 = pup G74 a0 6 (.ref (n + 1 + 1 + 1 + 1 + 1)) → Q (n + 1 + 1 + 1 + 1 + 1 + 1) K71 A72 L73 G77))))))))))))))))))))))))))
theorem tX2_init {Γ : jG} {n : Nat} {K : Nat → pKd} {G : pG} {A : pA} {Lg : pL} {kc ks : Nat} (a0 : Nat)  (Q : Nat → (Nat → pKd) → pA → pL → pG → Prop) (h : fX2_init a0 n K A Lg G kc ks Q) : jMet Γ yX2_init cX2_init 1 none [] 1 kc ks [.ref a0] (n, K, A, Lg, G) (fun o u => ∃ (n' : Nat) (K' : Nat → pKd) (A' : pA) (Lg' : pL) (G' : pG), o = .inl none ∧ u = (n', K', A', Lg', G') ∧ Q n' K' A' Lg' G') := by
  unfold fX2_init at h
  obtain ⟨P, hP⟩ : ∃ P : jO → pS → Prop, P = (fun o u => ∃ (n' : Nat) (K' : Nat → pKd) (A' : pA) (Lg' : pL) (G' : pG), o = .inl none ∧ u = (n', K', A', Lg', G') ∧ Q n' K' A' Lg' G') := ⟨_, rfl⟩
  rw [← hP]
  refine jMet_of rfl rfl rfl (Nat.le_of_ble_eq_true rfl) ?_
  show J Γ RX2 cX2_init 1 none "<init>" [] 1 kc ks 0 [(0, .ref a0)] [] (n, K, A, Lg, G) P
  refine j_aload_n 0 rfl dX2_init_0 ?_
  obtain ⟨hn6, h⟩ := h
  obtain ⟨la0, h⟩ := h
  refine j_objInit (b := a0) (st := []) q246 q165 q166 (j_l2 hn6 la0) (Nat.le_of_ble_eq_true rfl) (by decide) dX2_init_1 ?_
  refine j_aload_n 0 rfl dX2_init_4 ?_
  refine j_bipush (v := 23) dX2_init_5 (by decide) ?_
  obtain ⟨b1, h⟩ := h
  obtain ⟨b2, h⟩ := h
  refine j_anewE (t := 5) (N := 23) rfl rfl q247 (by decide) (by decide) (by decide) (by decide) b1 b2 dX2_init_7 (fun K3 A4 L5 G6 eK3 eA4 eL5 eG6 => ?_)
  replace h := h K3 A4 L5 G6 eK3 eA4 eL5 eG6
  have b7 : n < (n + 1) := (by omega)
  have b8 : K3 n = .inr (5, 23) := (by rw [eK3]; exact pkup_self)
  refine j_dup rfl dX2_init_10 ?_
  refine j_iconst (v := 0) dX2_init_11 (by decide) ?_
  refine j_ldcS (i := 1) (by decide) rfl dX2_init_12 ?_
  refine j_aastE (t := 5) (j := 0) (C := "java/lang/String") rfl rfl b7 b8 (by unfold vp_in; decide) rfl (by decide) (fun s9 H9 hK9 hR9 h69 => jIs_ext hK9 hR9 (i := 1) (by decide)) (Or.inl rfl) dX2_init_14 (fun G9 eG9 => ?_)
  replace h := h G9 eG9
  refine j_dup rfl dX2_init_15 ?_
  refine j_iconst (v := 1) dX2_init_16 (by decide) ?_
  refine j_ldcS (i := 2) (by decide) rfl dX2_init_17 ?_
  refine j_aastE (t := 5) (j := 1) (C := "java/lang/String") rfl rfl b7 b8 (by unfold vp_in; decide) rfl (by decide) (fun s9 H9 hK9 hR9 h69 => jIs_ext hK9 hR9 (i := 2) (by decide)) (Or.inl rfl) dX2_init_19 (fun G10 eG10 => ?_)
  replace h := h G10 eG10
  refine j_dup rfl dX2_init_20 ?_
  refine j_iconst (v := 2) dX2_init_21 (by decide) ?_
  refine j_ldcS (i := 3) (by decide) rfl dX2_init_22 ?_
  refine j_aastE (t := 5) (j := 2) (C := "java/lang/String") rfl rfl b7 b8 (by unfold vp_in; decide) rfl (by decide) (fun s9 H9 hK9 hR9 h69 => jIs_ext hK9 hR9 (i := 3) (by decide)) (Or.inl rfl) dX2_init_24 (fun G11 eG11 => ?_)
  replace h := h G11 eG11
  refine j_dup rfl dX2_init_25 ?_
  refine j_iconst (v := 3) dX2_init_26 (by decide) ?_
  refine j_ldcS (i := 4) (by decide) rfl dX2_init_27 ?_
  refine j_aastE (t := 5) (j := 3) (C := "java/lang/String") rfl rfl b7 b8 (by unfold vp_in; decide) rfl (by decide) (fun s9 H9 hK9 hR9 h69 => jIs_ext hK9 hR9 (i := 4) (by decide)) (Or.inl rfl) dX2_init_29 (fun G12 eG12 => ?_)
  replace h := h G12 eG12
  refine j_dup rfl dX2_init_30 ?_
  refine j_iconst (v := 4) dX2_init_31 (by decide) ?_
  refine j_ldcS (i := 5) (by decide) rfl dX2_init_32 ?_
  refine j_aastE (t := 5) (j := 4) (C := "java/lang/String") rfl rfl b7 b8 (by unfold vp_in; decide) rfl (by decide) (fun s9 H9 hK9 hR9 h69 => jIs_ext hK9 hR9 (i := 5) (by decide)) (Or.inl rfl) dX2_init_34 (fun G13 eG13 => ?_)
  replace h := h G13 eG13
  refine j_dup rfl dX2_init_35 ?_
  refine j_iconst (v := 5) dX2_init_36 (by decide) ?_
  refine j_ldcS (i := 6) (by decide) rfl dX2_init_37 ?_
  refine j_aastE (t := 5) (j := 5) (C := "java/lang/String") rfl rfl b7 b8 (by unfold vp_in; decide) rfl (by decide) (fun s9 H9 hK9 hR9 h69 => jIs_ext hK9 hR9 (i := 6) (by decide)) (Or.inl rfl) dX2_init_39 (fun G14 eG14 => ?_)
  replace h := h G14 eG14
  refine j_dup rfl dX2_init_40 ?_
  refine j_bipush (v := 6) dX2_init_41 (by decide) ?_
  refine j_ldcS (i := 7) (by decide) rfl dX2_init_43 ?_
  refine j_aastE (t := 5) (j := 6) (C := "java/lang/String") rfl rfl b7 b8 (by unfold vp_in; decide) rfl (by decide) (fun s9 H9 hK9 hR9 h69 => jIs_ext hK9 hR9 (i := 7) (by decide)) (Or.inl rfl) dX2_init_45 (fun G15 eG15 => ?_)
  replace h := h G15 eG15
  refine j_dup rfl dX2_init_46 ?_
  refine j_bipush (v := 7) dX2_init_47 (by decide) ?_
  refine j_ldcS (i := 8) (by decide) rfl dX2_init_49 ?_
  refine j_aastE (t := 5) (j := 7) (C := "java/lang/String") rfl rfl b7 b8 (by unfold vp_in; decide) rfl (by decide) (fun s9 H9 hK9 hR9 h69 => jIs_ext hK9 hR9 (i := 8) (by decide)) (Or.inl rfl) dX2_init_51 (fun G16 eG16 => ?_)
  replace h := h G16 eG16
  refine j_dup rfl dX2_init_52 ?_
  refine j_bipush (v := 8) dX2_init_53 (by decide) ?_
  refine j_ldcS (i := 9) (by decide) rfl dX2_init_55 ?_
  refine j_aastE (t := 5) (j := 8) (C := "java/lang/String") rfl rfl b7 b8 (by unfold vp_in; decide) rfl (by decide) (fun s9 H9 hK9 hR9 h69 => jIs_ext hK9 hR9 (i := 9) (by decide)) (Or.inl rfl) dX2_init_57 (fun G17 eG17 => ?_)
  replace h := h G17 eG17
  refine j_dup rfl dX2_init_58 ?_
  refine j_bipush (v := 9) dX2_init_59 (by decide) ?_
  refine j_ldcS (i := 10) (by decide) rfl dX2_init_61 ?_
  refine j_aastE (t := 5) (j := 9) (C := "java/lang/String") rfl rfl b7 b8 (by unfold vp_in; decide) rfl (by decide) (fun s9 H9 hK9 hR9 h69 => jIs_ext hK9 hR9 (i := 10) (by decide)) (Or.inl rfl) dX2_init_63 (fun G18 eG18 => ?_)
  replace h := h G18 eG18
  refine j_dup rfl dX2_init_64 ?_
  refine j_bipush (v := 10) dX2_init_65 (by decide) ?_
  refine j_ldcS (i := 11) (by decide) rfl dX2_init_67 ?_
  refine j_aastE (t := 5) (j := 10) (C := "java/lang/String") rfl rfl b7 b8 (by unfold vp_in; decide) rfl (by decide) (fun s9 H9 hK9 hR9 h69 => jIs_ext hK9 hR9 (i := 11) (by decide)) (Or.inl rfl) dX2_init_69 (fun G19 eG19 => ?_)
  replace h := h G19 eG19
  refine j_dup rfl dX2_init_70 ?_
  refine j_bipush (v := 11) dX2_init_71 (by decide) ?_
  refine j_ldcS (i := 12) (by decide) rfl dX2_init_73 ?_
  refine j_aastE (t := 5) (j := 11) (C := "java/lang/String") rfl rfl b7 b8 (by unfold vp_in; decide) rfl (by decide) (fun s9 H9 hK9 hR9 h69 => jIs_ext hK9 hR9 (i := 12) (by decide)) (Or.inl rfl) dX2_init_75 (fun G20 eG20 => ?_)
  replace h := h G20 eG20
  refine j_dup rfl dX2_init_76 ?_
  refine j_bipush (v := 12) dX2_init_77 (by decide) ?_
  refine j_ldcS (i := 13) (by decide) rfl dX2_init_79 ?_
  refine j_aastE (t := 5) (j := 12) (C := "java/lang/String") rfl rfl b7 b8 (by unfold vp_in; decide) rfl (by decide) (fun s9 H9 hK9 hR9 h69 => jIs_ext hK9 hR9 (i := 13) (by decide)) (Or.inl rfl) dX2_init_81 (fun G21 eG21 => ?_)
  replace h := h G21 eG21
  refine j_dup rfl dX2_init_82 ?_
  refine j_bipush (v := 13) dX2_init_83 (by decide) ?_
  refine j_ldcS (i := 14) (by decide) rfl dX2_init_85 ?_
  refine j_aastE (t := 5) (j := 13) (C := "java/lang/String") rfl rfl b7 b8 (by unfold vp_in; decide) rfl (by decide) (fun s9 H9 hK9 hR9 h69 => jIs_ext hK9 hR9 (i := 14) (by decide)) (Or.inl rfl) dX2_init_87 (fun G22 eG22 => ?_)
  replace h := h G22 eG22
  refine j_dup rfl dX2_init_88 ?_
  refine j_bipush (v := 14) dX2_init_89 (by decide) ?_
  refine j_ldcS (i := 15) (by decide) rfl dX2_init_91 ?_
  refine j_aastE (t := 5) (j := 14) (C := "java/lang/String") rfl rfl b7 b8 (by unfold vp_in; decide) rfl (by decide) (fun s9 H9 hK9 hR9 h69 => jIs_ext hK9 hR9 (i := 15) (by decide)) (Or.inl rfl) dX2_init_93 (fun G23 eG23 => ?_)
  replace h := h G23 eG23
  refine j_dup rfl dX2_init_94 ?_
  refine j_bipush (v := 15) dX2_init_95 (by decide) ?_
  refine j_ldcS (i := 16) (by decide) rfl dX2_init_97 ?_
  refine j_aastE (t := 5) (j := 15) (C := "java/lang/String") rfl rfl b7 b8 (by unfold vp_in; decide) rfl (by decide) (fun s9 H9 hK9 hR9 h69 => jIs_ext hK9 hR9 (i := 16) (by decide)) (Or.inl rfl) dX2_init_99 (fun G24 eG24 => ?_)
  replace h := h G24 eG24
  refine j_dup rfl dX2_init_100 ?_
  refine j_bipush (v := 16) dX2_init_101 (by decide) ?_
  refine j_ldcS (i := 17) (by decide) rfl dX2_init_103 ?_
  refine j_aastE (t := 5) (j := 16) (C := "java/lang/String") rfl rfl b7 b8 (by unfold vp_in; decide) rfl (by decide) (fun s9 H9 hK9 hR9 h69 => jIs_ext hK9 hR9 (i := 17) (by decide)) (Or.inl rfl) dX2_init_105 (fun G25 eG25 => ?_)
  replace h := h G25 eG25
  refine j_dup rfl dX2_init_106 ?_
  refine j_bipush (v := 17) dX2_init_107 (by decide) ?_
  refine j_ldcS (i := 18) (by decide) rfl dX2_init_109 ?_
  refine j_aastE (t := 5) (j := 17) (C := "java/lang/String") rfl rfl b7 b8 (by unfold vp_in; decide) rfl (by decide) (fun s9 H9 hK9 hR9 h69 => jIs_ext hK9 hR9 (i := 18) (by decide)) (Or.inl rfl) dX2_init_111 (fun G26 eG26 => ?_)
  replace h := h G26 eG26
  refine j_dup rfl dX2_init_112 ?_
  refine j_bipush (v := 18) dX2_init_113 (by decide) ?_
  refine j_ldcS (i := 19) (by decide) rfl dX2_init_115 ?_
  refine j_aastE (t := 5) (j := 18) (C := "java/lang/String") rfl rfl b7 b8 (by unfold vp_in; decide) rfl (by decide) (fun s9 H9 hK9 hR9 h69 => jIs_ext hK9 hR9 (i := 19) (by decide)) (Or.inl rfl) dX2_init_117 (fun G27 eG27 => ?_)
  replace h := h G27 eG27
  refine j_dup rfl dX2_init_118 ?_
  refine j_bipush (v := 19) dX2_init_119 (by decide) ?_
  refine j_ldcS (i := 20) (by decide) rfl dX2_init_121 ?_
  refine j_aastE (t := 5) (j := 19) (C := "java/lang/String") rfl rfl b7 b8 (by unfold vp_in; decide) rfl (by decide) (fun s9 H9 hK9 hR9 h69 => jIs_ext hK9 hR9 (i := 20) (by decide)) (Or.inl rfl) dX2_init_123 (fun G28 eG28 => ?_)
  replace h := h G28 eG28
  refine j_dup rfl dX2_init_124 ?_
  refine j_bipush (v := 20) dX2_init_125 (by decide) ?_
  refine j_ldcS (i := 21) (by decide) rfl dX2_init_127 ?_
  refine j_aastE (t := 5) (j := 20) (C := "java/lang/String") rfl rfl b7 b8 (by unfold vp_in; decide) rfl (by decide) (fun s9 H9 hK9 hR9 h69 => jIs_ext hK9 hR9 (i := 21) (by decide)) (Or.inl rfl) dX2_init_129 (fun G29 eG29 => ?_)
  replace h := h G29 eG29
  refine j_dup rfl dX2_init_130 ?_
  refine j_bipush (v := 21) dX2_init_131 (by decide) ?_
  refine j_ldcS (i := 22) (by decide) rfl dX2_init_133 ?_
  refine j_aastE (t := 5) (j := 21) (C := "java/lang/String") rfl rfl b7 b8 (by unfold vp_in; decide) rfl (by decide) (fun s9 H9 hK9 hR9 h69 => jIs_ext hK9 hR9 (i := 22) (by decide)) (Or.inl rfl) dX2_init_135 (fun G30 eG30 => ?_)
  replace h := h G30 eG30
  refine j_dup rfl dX2_init_136 ?_
  refine j_bipush (v := 22) dX2_init_137 (by decide) ?_
  refine j_ldcS (i := 23) (by decide) rfl dX2_init_139 ?_
  refine j_aastE (t := 5) (j := 22) (C := "java/lang/String") rfl rfl b7 b8 (by unfold vp_in; decide) rfl (by decide) (fun s9 H9 hK9 hR9 h69 => jIs_ext hK9 hR9 (i := 23) (by decide)) (Or.inl rfl) dX2_init_141 (fun G31 eG31 => ?_)
  replace h := h G31 eG31
  obtain ⟨la0, h⟩ := h
  obtain ⟨ha0, h⟩ := h
  refine j_putfrE (fp_i_X2_57_2 _ rfl) rfl (Or.inr ⟨_, rfl⟩) (Or.inr ⟨_, rfl⟩) la0 ha0 dX2_init_142 (fun G32 eG32 => ?_)
  replace h := h G32 eG32
  refine j_aload_n 0 rfl dX2_init_145 ?_
  refine j_sipush (v := 2000) dX2_init_146 (by decide) ?_
  obtain ⟨b33, h⟩ := h
  obtain ⟨b34, h⟩ := h
  refine j_newaE (t := 1) (N := 2000) rfl rfl q240 (fun _ _ h9 => h9) rfl (by decide) (by decide) (by decide) b33 b34 dX2_init_149 (fun K35 A36 L37 G38 eK35 eA36 eL37 eG38 => ?_)
  replace h := h K35 A36 L37 G38 eK35 eA36 eL37 eG38
  have b39 : (n + 1) < (n + 1 + 1) := (by omega)
  have b40 : K35 (n + 1) = .inr (1, 2000) := (by rw [eK35]; exact pkup_self)
  obtain ⟨la0, h⟩ := h
  obtain ⟨ha0, h⟩ := h
  refine j_putfrE (fp_i_X2_63_2 _ rfl) rfl (Or.inr ⟨_, rfl⟩) (Or.inr ⟨_, rfl⟩) la0 ha0 dX2_init_151 (fun G41 eG41 => ?_)
  replace h := h G41 eG41
  refine j_aload_n 0 rfl dX2_init_154 ?_
  refine j_sipush (v := 2001) dX2_init_155 (by decide) ?_
  obtain ⟨b42, h⟩ := h
  obtain ⟨b43, h⟩ := h
  refine j_newaE (t := 1) (N := 2001) rfl rfl q240 (fun _ _ h9 => h9) rfl (by decide) (by decide) (by decide) b42 b43 dX2_init_158 (fun K44 A45 L46 G47 eK44 eA45 eL46 eG47 => ?_)
  replace h := h K44 A45 L46 G47 eK44 eA45 eL46 eG47
  have b48 : (n + 1 + 1) < (n + 1 + 1 + 1) := (by omega)
  have b49 : K44 (n + 1 + 1) = .inr (1, 2001) := (by rw [eK44]; exact pkup_self)
  obtain ⟨la0, h⟩ := h
  obtain ⟨ha0, h⟩ := h
  refine j_putfrE (fp_i_X2_67_2 _ rfl) rfl (Or.inr ⟨_, rfl⟩) (Or.inr ⟨_, rfl⟩) la0 ha0 dX2_init_160 (fun G50 eG50 => ?_)
  replace h := h G50 eG50
  refine j_aload_n 0 rfl dX2_init_163 ?_
  refine j_sipush (v := 2001) dX2_init_164 (by decide) ?_
  obtain ⟨b51, h⟩ := h
  obtain ⟨b52, h⟩ := h
  refine j_newaE (t := 2) (N := 2001) rfl rfl q302 (fun _ _ h9 => h9) rfl (by decide) (by decide) (by decide) b51 b52 dX2_init_167 (fun K53 A54 L55 G56 eK53 eA54 eL55 eG56 => ?_)
  replace h := h K53 A54 L55 G56 eK53 eA54 eL55 eG56
  have b57 : (n + 1 + 1 + 1) < (n + 1 + 1 + 1 + 1) := (by omega)
  have b58 : K53 (n + 1 + 1 + 1) = .inr (2, 2001) := (by rw [eK53]; exact pkup_self)
  obtain ⟨la0, h⟩ := h
  obtain ⟨ha0, h⟩ := h
  refine j_putfrE (fp_i_X2_70_2 _ rfl) rfl (Or.inr ⟨_, rfl⟩) (Or.inr ⟨_, rfl⟩) la0 ha0 dX2_init_169 (fun G59 eG59 => ?_)
  replace h := h G59 eG59
  refine j_aload_n 0 rfl dX2_init_172 ?_
  refine j_sipush (v := 2001) dX2_init_173 (by decide) ?_
  obtain ⟨b60, h⟩ := h
  obtain ⟨b61, h⟩ := h
  refine j_newaE (t := 2) (N := 2001) rfl rfl q302 (fun _ _ h9 => h9) rfl (by decide) (by decide) (by decide) b60 b61 dX2_init_176 (fun K62 A63 L64 G65 eK62 eA63 eL64 eG65 => ?_)
  replace h := h K62 A63 L64 G65 eK62 eA63 eL64 eG65
  have b66 : (n + 1 + 1 + 1 + 1) < (n + 1 + 1 + 1 + 1 + 1) := (by omega)
  have b67 : K62 (n + 1 + 1 + 1 + 1) = .inr (2, 2001) := (by rw [eK62]; exact pkup_self)
  obtain ⟨la0, h⟩ := h
  obtain ⟨ha0, h⟩ := h
  refine j_putfrE (fp_i_X2_74_2 _ rfl) rfl (Or.inr ⟨_, rfl⟩) (Or.inr ⟨_, rfl⟩) la0 ha0 dX2_init_178 (fun G68 eG68 => ?_)
  replace h := h G68 eG68
  refine j_aload_n 0 rfl dX2_init_181 ?_
  refine j_sipush (v := 2001) dX2_init_182 (by decide) ?_
  obtain ⟨b69, h⟩ := h
  obtain ⟨b70, h⟩ := h
  refine j_newaE (t := 2) (N := 2001) rfl rfl q302 (fun _ _ h9 => h9) rfl (by decide) (by decide) (by decide) b69 b70 dX2_init_185 (fun K71 A72 L73 G74 eK71 eA72 eL73 eG74 => ?_)
  replace h := h K71 A72 L73 G74 eK71 eA72 eL73 eG74
  have b75 : (n + 1 + 1 + 1 + 1 + 1) < (n + 1 + 1 + 1 + 1 + 1 + 1) := (by omega)
  have b76 : K71 (n + 1 + 1 + 1 + 1 + 1) = .inr (2, 2001) := (by rw [eK71]; exact pkup_self)
  obtain ⟨la0, h⟩ := h
  obtain ⟨ha0, h⟩ := h
  refine j_putfrE (fp_i_X2_77_2 _ rfl) rfl (Or.inr ⟨_, rfl⟩) (Or.inr ⟨_, rfl⟩) la0 ha0 dX2_init_187 (fun G77 eG77 => ?_)
  replace h := h G77 eG77
  refine j_vret rfl ?_ dX2_init_190
  rw [hP]
  exact ⟨n + 1 + 1 + 1 + 1 + 1 + 1, K71, A72, L73, G77, rfl, rfl, h⟩
theorem myJ0_init_2 : jY yJ0_init_2 cJ0_init_2 5 none  4 := ⟨q218, q122, by decide +kernel, by decide +kernel, by decide⟩
def fJ0_init_2_J41 (a0 : Nat)  (Q : Nat → (Nat → pKd) → pA → pL → pG → Prop) (l3 : Int32) (n : Nat) (K : Nat → pKd) (A : pA) (Lg : pL) (G : pG) (kc : Nat) (ks : Nat) : Prop :=
    (a0 < n) ∧ ((K a0 = .inl 1) ∧ (∀ G1 : pG, G1 = pup G a0 3 (.ref 1000000) → ∀ G2 : pG, G2 = pup G1 a0 0 .null → (if l3 = 0 then ∀ G3 : pG, G3 = pup G2 a0 2 .null → Q n K A Lg G3 else Q n K A Lg G2)))
theorem fJ0_init_2_J41_ok {Γ : jG} (a0 : Nat) (Q : Nat → (Nat → pKd) → pA → pL → pG → Prop) (P : jO → pS → Prop) (hP : P = (fun o u => ∃ (n' : Nat) (K' : Nat → pKd) (A' : pA) (Lg' : pL) (G' : pG), o = .inl none ∧ u = (n', K', A', Lg', G') ∧ Q n' K' A' Lg' G'))   (l3 : Int32) (n : Nat) (K : Nat → pKd) (A : pA) (Lg : pL) (G : pG) (kc : Nat) (ks : Nat) (h : fJ0_init_2_J41 a0  Q l3 n K A Lg G kc ks) : J Γ RJ0 cJ0_init_2 5 none "<init>" [] 1 kc ks 41 [(0, .ref a0), (1, .ref 1000000), (2, .null), (3, .int l3)] [] (n, K, A, Lg, G) P := by
  unfold fJ0_init_2_J41 at h
  refine j_aload_n 0 rfl dJ0_init_2_41 ?_
  refine j_aload_n 1 rfl dJ0_init_2_42 ?_
  obtain ⟨la0, h⟩ := h
  obtain ⟨ha0, h⟩ := h
  refine j_putfrE (fp_i_J0_31_1 _) rfl (Or.inl ⟨_, rfl⟩) (Or.inr ⟨_, rfl⟩) la0 ha0 dJ0_init_2_43 (fun G1 eG1 => ?_)
  replace h := h G1 eG1
  refine j_aload_n 0 rfl dJ0_init_2_46 ?_
  refine j_aload_nN 2 rfl dJ0_init_2_47 ?_
  refine j_putfrE (fp_i_J0_7_1 _) rfl (Or.inl ⟨_, rfl⟩) (Or.inl rfl) la0 ha0 dJ0_init_2_48 (fun G2 eG2 => ?_)
  replace h := h G2 eG2
  refine j_iload_n 3 rfl dJ0_init_2_51 ?_
  refine j_if_ne (tgt := 60) dJ0_init_2_52 (by decide) (fun c => ?_) (fun c => ?_)
  · rw [if_neg c] at h
    refine j_vret rfl ?_ dJ0_init_2_60
    rw [hP]
    exact ⟨n, K, A, Lg, G2, rfl, rfl, h⟩
  · rw [if_pos c] at h
    refine j_aload_n 0 rfl dJ0_init_2_55 ?_
    refine j_null dJ0_init_2_56 ?_
    refine j_putfrE (fp_i_J0_24_1 _) rfl (Or.inl ⟨_, rfl⟩) (Or.inl rfl) la0 ha0 dJ0_init_2_57 (fun G3 eG3 => ?_)
    replace h := h G3 eG3
    refine j_vret rfl ?_ dJ0_init_2_60
    rw [hP]
    exact ⟨n, K, A, Lg, G3, rfl, rfl, h⟩
def fJ0_init_2 (a0 : Nat) (n : Nat) (K : Nat → pKd) (A : pA) (Lg : pL) (G : pG) (kc : Nat) (ks : Nat) (p3 : Int32) (p4 : Int32) (Q : Nat → (Nat → pKd) → pA → pL → pG → Prop) : Prop :=
    (n ≤ 1000000) ∧ ((a0 < n) ∧ ((K a0 = .inl 1) ∧ (∀ G4 : pG, G4 = pup G a0 0 (.ref a0) → ∀ G5 : pG, G5 = pup G4 a0 1 (.ref 2000000) → ∀ G6 : pG, G6 = pup G5 a0 2 (.ref 2000001) → (if p4 = 0 then ∀ G7 : pG, G7 = pup G6 a0 1 .null → fJ0_init_2_J41 a0  Q p3 n K A Lg G7 kc ks else False))))
theorem tJ0_init_2 {Γ : jG} {n : Nat} {K : Nat → pKd} {G : pG} {A : pA} {Lg : pL} {kc ks : Nat} (a0 : Nat) (p3 : Int32) (p4 : Int32) (Q : Nat → (Nat → pKd) → pA → pL → pG → Prop) (h : fJ0_init_2 a0 n K A Lg G kc ks p3 p4 Q) : jMet Γ yJ0_init_2 cJ0_init_2 5 none [] 1 kc ks [.ref a0, .ref 1000000, .null, .int p3, .int p4] (n, K, A, Lg, G) (fun o u => ∃ (n' : Nat) (K' : Nat → pKd) (A' : pA) (Lg' : pL) (G' : pG), o = .inl none ∧ u = (n', K', A', Lg', G') ∧ Q n' K' A' Lg' G') := by
  unfold fJ0_init_2 at h
  obtain ⟨P, hP⟩ : ∃ P : jO → pS → Prop, P = (fun o u => ∃ (n' : Nat) (K' : Nat → pKd) (A' : pA) (Lg' : pL) (G' : pG), o = .inl none ∧ u = (n', K', A', Lg', G') ∧ Q n' K' A' Lg' G') := ⟨_, rfl⟩
  rw [← hP]
  refine jMet_of rfl rfl rfl (Nat.le_of_ble_eq_true rfl) ?_
  show J Γ RJ0 cJ0_init_2 5 none "<init>" [] 1 kc ks 0 [(0, .ref a0), (1, .ref 1000000), (2, .null), (3, .int p3), (4, .int p4)] [] (n, K, A, Lg, G) P
  refine j_aload_n 0 rfl dJ0_init_2_0 ?_
  obtain ⟨hn6, h⟩ := h
  obtain ⟨la0, h⟩ := h
  refine j_objInit (b := a0) (st := []) q192 q165 q166 (j_l2 hn6 la0) (Nat.le_of_ble_eq_true rfl) (by decide) dJ0_init_2_1 ?_
  refine j_aload_n 0 rfl dJ0_init_2_4 ?_
  refine j_aload_n 0 rfl dJ0_init_2_5 ?_
  obtain ⟨ha0, h⟩ := h
  refine j_putfrE (fp_i_J0_7_1 _) rfl (Or.inl ⟨_, rfl⟩) (Or.inr ⟨_, rfl⟩) la0 ha0 dJ0_init_2_6 (fun G4 eG4 => ?_)
  replace h := h G4 eG4
  refine j_aload_n 0 rfl dJ0_init_2_9 ?_
  refine j_gets (i := 2) rfl q193 dJ0_init_2_10 ?_
  refine j_putfrE (fp_i_J0_17_1 _) rfl (Or.inr ⟨_, rfl⟩) (Or.inr ⟨_, rfl⟩) la0 ha0 dJ0_init_2_13 (fun G5 eG5 => ?_)
  replace h := h G5 eG5
  refine j_aload_n 0 rfl dJ0_init_2_16 ?_
  refine j_gets (i := 3) rfl q195 dJ0_init_2_17 ?_
  refine j_putfrE (fp_i_J0_24_1 _) rfl (Or.inl ⟨_, rfl⟩) (Or.inr ⟨_, rfl⟩) la0 ha0 dJ0_init_2_20 (fun G6 eG6 => ?_)
  replace h := h G6 eG6
  refine j_iload 4 rfl dJ0_init_2_23 ?_
  refine j_if_eq (tgt := 36) dJ0_init_2_25 (by decide) (fun c => ?_) (fun c => ?_)
  · rw [if_pos c] at h
    refine j_aload_n 0 rfl dJ0_init_2_36 ?_
    refine j_null dJ0_init_2_37 ?_
    refine j_putfrE (fp_i_J0_17_1 _) rfl (Or.inr ⟨_, rfl⟩) (Or.inl rfl) la0 ha0 dJ0_init_2_38 (fun G7 eG7 => ?_)
    replace h := h G7 eG7
    refine j_ls [0, 1, 2, 3] rfl ?_
    exact fJ0_init_2_J41_ok  a0 Q P hP   p3 n K A Lg G7 kc ks h
  · rw [if_neg c] at h
    exact h.elim
theorem myJ1_init : jY yJ1_init cJ1_init 5 none  4 := ⟨q215, q123, by decide +kernel, by decide +kernel, by decide⟩
def fJ1_init (a0 : Nat) (n : Nat) (K : Nat → pKd) (A : pA) (Lg : pL) (G : pG) (kc : Nat) (ks : Nat) (p3 : Int32) (p4 : Int32) (Q : Nat → (Nat → pKd) → pA → pL → pG → Prop) : Prop :=
    ∃ kY1 sY2 : Nat, kY1 ≤ kc ∧ sY2 ≤ ks ∧ ((n ≤ 1000000) ∧ ((a0 < n) ∧ ((K a0 = .inl 1) ∧ (fJ0_init_2 a0 n K A Lg G kY1 sY2 p3 p4 (fun n3 K4 A5 Lg6 G7 => Q n3 K4 A5 Lg6 G7)))))
theorem tJ1_init {Γ : jG} {n : Nat} {K : Nat → pKd} {G : pG} {A : pA} {Lg : pL} {kc ks : Nat} (a0 : Nat) (p3 : Int32) (p4 : Int32) (Q : Nat → (Nat → pKd) → pA → pL → pG → Prop) (h : fJ1_init a0 n K A Lg G kc ks p3 p4 Q) : jMet Γ yJ1_init cJ1_init 5 none [] 2 kc ks [.ref a0, .ref 1000000, .null, .int p3, .int p4] (n, K, A, Lg, G) (fun o u => ∃ (n' : Nat) (K' : Nat → pKd) (A' : pA) (Lg' : pL) (G' : pG), o = .inl none ∧ u = (n', K', A', Lg', G') ∧ Q n' K' A' Lg' G') := by
  unfold fJ1_init at h
  obtain ⟨P, hP⟩ : ∃ P : jO → pS → Prop, P = (fun o u => ∃ (n' : Nat) (K' : Nat → pKd) (A' : pA) (Lg' : pL) (G' : pG), o = .inl none ∧ u = (n', K', A', Lg', G') ∧ Q n' K' A' Lg' G') := ⟨_, rfl⟩
  rw [← hP]
  refine jMet_of rfl rfl rfl (Nat.le_of_ble_eq_true rfl) ?_
  show J Γ RJ1 cJ1_init 5 none "<init>" [] 2 kc ks 0 [(0, .ref a0), (1, .ref 1000000), (2, .null), (3, .int p3), (4, .int p4)] [] (n, K, A, Lg, G) P
  refine j_aload_n 0 rfl dJ1_init_0 ?_
  refine j_aload_n 1 rfl dJ1_init_1 ?_
  refine j_aload_nN 2 rfl dJ1_init_2 ?_
  refine j_iload_n 3 rfl dJ1_init_3 ?_
  refine j_iload 4 rfl dJ1_init_4 ?_
  obtain ⟨kY1, sY2, kY1h, sY2h, h⟩ := h
  obtain ⟨hn6, h⟩ := h
  obtain ⟨la0, h⟩ := h
  obtain ⟨ha0, h⟩ := h
  refine j_callI (b := a0) (As := [.ref 1000000, .null, .int p3, .int p4]) (st := []) (kc' := kc - kY1) (ks' := ks - sY2) (tJ0_init_2  a0 p3 p4 _ h) myJ0_init_2 rfl q216 q217 (j_l2 hn6 la0) rfl (Nat.le_of_ble_eq_true rfl) rfl (by decide) (by omega) (by omega) dJ1_init_6 (fun v9 u9 hq => ?_) (fun k9 u9 hq => by obtain ⟨_, _, _, _, _, e9, _⟩ := hq; cases e9)
  obtain ⟨n3, K4, A5, Lg6, G7, e9, rfl, h⟩ := hq
  obtain rfl := Sum.inl.inj e9
  show J Γ RJ1 cJ1_init 5 none "<init>" [] 2 (kc - kY1) (ks - sY2) 9 [(0, .ref a0), (1, .ref 1000000), (2, .null), (3, .int p3), (4, .int p4)] [] (n3, K4, A5, Lg6, G7) P
  refine j_vret rfl ?_ dJ1_init_9
  rw [hP]
  exact ⟨n3, K4, A5, Lg6, G7, rfl, rfl, h⟩
theorem myJ2_init : jY yJ2_init cJ2_init 5 none  4 := ⟨q212, q124, by decide +kernel, by decide +kernel, by decide⟩
def fJ2_init (a0 : Nat) (n : Nat) (K : Nat → pKd) (A : pA) (Lg : pL) (G : pG) (kc : Nat) (ks : Nat) (p3 : Int32) (p4 : Int32) (Q : Nat → (Nat → pKd) → pA → pL → pG → Prop) : Prop :=
    ∃ kY1 sY2 : Nat, kY1 ≤ kc ∧ sY2 ≤ ks ∧ ((n ≤ 1000000) ∧ ((a0 < n) ∧ ((K a0 = .inl 1) ∧ (fJ1_init a0 n K A Lg G kY1 sY2 p3 p4 (fun n3 K4 A5 Lg6 G7 => Q n3 K4 A5 Lg6 G7)))))
theorem tJ2_init {Γ : jG} {n : Nat} {K : Nat → pKd} {G : pG} {A : pA} {Lg : pL} {kc ks : Nat} (a0 : Nat) (p3 : Int32) (p4 : Int32) (Q : Nat → (Nat → pKd) → pA → pL → pG → Prop) (h : fJ2_init a0 n K A Lg G kc ks p3 p4 Q) : jMet Γ yJ2_init cJ2_init 5 none [] 3 kc ks [.ref a0, .ref 1000000, .null, .int p3, .int p4] (n, K, A, Lg, G) (fun o u => ∃ (n' : Nat) (K' : Nat → pKd) (A' : pA) (Lg' : pL) (G' : pG), o = .inl none ∧ u = (n', K', A', Lg', G') ∧ Q n' K' A' Lg' G') := by
  unfold fJ2_init at h
  obtain ⟨P, hP⟩ : ∃ P : jO → pS → Prop, P = (fun o u => ∃ (n' : Nat) (K' : Nat → pKd) (A' : pA) (Lg' : pL) (G' : pG), o = .inl none ∧ u = (n', K', A', Lg', G') ∧ Q n' K' A' Lg' G') := ⟨_, rfl⟩
  rw [← hP]
  refine jMet_of rfl rfl rfl (Nat.le_of_ble_eq_true rfl) ?_
  show J Γ RJ2 cJ2_init 5 none "<init>" [] 3 kc ks 0 [(0, .ref a0), (1, .ref 1000000), (2, .null), (3, .int p3), (4, .int p4)] [] (n, K, A, Lg, G) P
  refine j_aload_n 0 rfl dJ2_init_0 ?_
  refine j_aload_n 1 rfl dJ2_init_1 ?_
  refine j_aload_nN 2 rfl dJ2_init_2 ?_
  refine j_iload_n 3 rfl dJ2_init_3 ?_
  refine j_iload 4 rfl dJ2_init_4 ?_
  obtain ⟨kY1, sY2, kY1h, sY2h, h⟩ := h
  obtain ⟨hn6, h⟩ := h
  obtain ⟨la0, h⟩ := h
  obtain ⟨ha0, h⟩ := h
  refine j_callI (b := a0) (As := [.ref 1000000, .null, .int p3, .int p4]) (st := []) (kc' := kc - kY1) (ks' := ks - sY2) (tJ1_init  a0 p3 p4 _ h) myJ1_init rfl q213 q214 (j_l2 hn6 la0) rfl (Nat.le_of_ble_eq_true rfl) rfl (by decide) (by omega) (by omega) dJ2_init_6 (fun v9 u9 hq => ?_) (fun k9 u9 hq => by obtain ⟨_, _, _, _, _, e9, _⟩ := hq; cases e9)
  obtain ⟨n3, K4, A5, Lg6, G7, e9, rfl, h⟩ := hq
  obtain rfl := Sum.inl.inj e9
  show J Γ RJ2 cJ2_init 5 none "<init>" [] 3 (kc - kY1) (ks - sY2) 9 [(0, .ref a0), (1, .ref 1000000), (2, .null), (3, .int p3), (4, .int p4)] [] (n3, K4, A5, Lg6, G7) P
  refine j_vret rfl ?_ dJ2_init_9
  rw [hP]
  exact ⟨n3, K4, A5, Lg6, G7, rfl, rfl, h⟩
theorem myX1_init : jY yX1_init cX1_init 1 none  0 := ⟨q208, q125, by decide +kernel, by decide +kernel, by decide⟩
def fX1_init (a0 : Nat) (n : Nat) (K : Nat → pKd) (A : pA) (Lg : pL) (G : pG) (kc : Nat) (ks : Nat) (Q : Nat → (Nat → pKd) → pA → pL → pG → Prop) : Prop :=
    ∃ kY1 sY2 : Nat, kY1 ≤ kc ∧ sY2 ≤ ks ∧ ((n ≤ 1000000) ∧ ((a0 < n) ∧ ((K a0 = .inl 1) ∧ (fJ2_init a0 n K A Lg G kY1 sY2 0 0 (fun n3 K4 A5 Lg6 G7 => Q n3 K4 A5 Lg6 G7)))))
theorem tX1_init {Γ : jG} {n : Nat} {K : Nat → pKd} {G : pG} {A : pA} {Lg : pL} {kc ks : Nat} (a0 : Nat)  (Q : Nat → (Nat → pKd) → pA → pL → pG → Prop) (h : fX1_init a0 n K A Lg G kc ks Q) : jMet Γ yX1_init cX1_init 1 none [] 4 kc ks [.ref a0] (n, K, A, Lg, G) (fun o u => ∃ (n' : Nat) (K' : Nat → pKd) (A' : pA) (Lg' : pL) (G' : pG), o = .inl none ∧ u = (n', K', A', Lg', G') ∧ Q n' K' A' Lg' G') := by
  unfold fX1_init at h
  obtain ⟨P, hP⟩ : ∃ P : jO → pS → Prop, P = (fun o u => ∃ (n' : Nat) (K' : Nat → pKd) (A' : pA) (Lg' : pL) (G' : pG), o = .inl none ∧ u = (n', K', A', Lg', G') ∧ Q n' K' A' Lg' G') := ⟨_, rfl⟩
  rw [← hP]
  refine jMet_of rfl rfl rfl (Nat.le_of_ble_eq_true rfl) ?_
  show J Γ RX1 cX1_init 1 none "<init>" [] 4 kc ks 0 [(0, .ref a0)] [] (n, K, A, Lg, G) P
  refine j_aload_n 0 rfl dX1_init_0 ?_
  refine j_ldcS (i := 0) (by decide) rfl dX1_init_1 ?_
  refine j_null dX1_init_3 ?_
  refine j_iconst (v := 0) dX1_init_4 (by decide) ?_
  refine j_iconst (v := 0) dX1_init_5 (by decide) ?_
  obtain ⟨kY1, sY2, kY1h, sY2h, h⟩ := h
  obtain ⟨hn6, h⟩ := h
  obtain ⟨la0, h⟩ := h
  obtain ⟨ha0, h⟩ := h
  refine j_callI (b := a0) (As := [.ref 1000000, .null, .int 0, .int 0]) (st := []) (kc' := kc - kY1) (ks' := ks - sY2) (tJ2_init  a0 0 0 _ h) myJ2_init rfl q210 q211 (j_l2 hn6 la0) rfl (Nat.le_of_ble_eq_true rfl) rfl (by decide) (by omega) (by omega) dX1_init_6 (fun v9 u9 hq => ?_) (fun k9 u9 hq => by obtain ⟨_, _, _, _, _, e9, _⟩ := hq; cases e9)
  obtain ⟨n3, K4, A5, Lg6, G7, e9, rfl, h⟩ := hq
  obtain rfl := Sum.inl.inj e9
  show J Γ RX1 cX1_init 1 none "<init>" [] 4 (kc - kY1) (ks - sY2) 9 [(0, .ref a0)] [] (n3, K4, A5, Lg6, G7) P
  refine j_vret rfl ?_ dX1_init_9
  rw [hP]
  exact ⟨n3, K4, A5, Lg6, G7, rfl, rfl, h⟩
theorem myJ3_init : jY yJ3_init cJ3_init 1 none  0 := ⟨q347, q129, by decide +kernel, by decide +kernel, by decide⟩
def fJ3_init (a0 : Nat) (n : Nat) (K : Nat → pKd) (A : pA) (Lg : pL) (G : pG) (kc : Nat) (ks : Nat) (Q : Nat → (Nat → pKd) → pA → pL → pG → Prop) : Prop :=
    (n ≤ 1000000) ∧ ((a0 < n) ∧ (Q n K A Lg G))
theorem tJ3_init {Γ : jG} {n : Nat} {K : Nat → pKd} {G : pG} {A : pA} {Lg : pL} {kc ks : Nat} (a0 : Nat)  (Q : Nat → (Nat → pKd) → pA → pL → pG → Prop) (h : fJ3_init a0 n K A Lg G kc ks Q) : jMet Γ yJ3_init cJ3_init 1 none [] 1 kc ks [.ref a0] (n, K, A, Lg, G) (fun o u => ∃ (n' : Nat) (K' : Nat → pKd) (A' : pA) (Lg' : pL) (G' : pG), o = .inl none ∧ u = (n', K', A', Lg', G') ∧ Q n' K' A' Lg' G') := by
  unfold fJ3_init at h
  obtain ⟨P, hP⟩ : ∃ P : jO → pS → Prop, P = (fun o u => ∃ (n' : Nat) (K' : Nat → pKd) (A' : pA) (Lg' : pL) (G' : pG), o = .inl none ∧ u = (n', K', A', Lg', G') ∧ Q n' K' A' Lg' G') := ⟨_, rfl⟩
  rw [← hP]
  refine jMet_of rfl rfl rfl (Nat.le_of_ble_eq_true rfl) ?_
  show J Γ RJ3 cJ3_init 1 none "<init>" [] 1 kc ks 0 [(0, .ref a0)] [] (n, K, A, Lg, G) P
  refine j_aload_n 0 rfl dJ3_init_0 ?_
  obtain ⟨hn6, h⟩ := h
  obtain ⟨la0, h⟩ := h
  refine j_objInit (b := a0) (st := []) q348 q165 q166 (j_l2 hn6 la0) (Nat.le_of_ble_eq_true rfl) (by decide) dJ3_init_1 ?_
  refine j_vret rfl ?_ dJ3_init_4
  rw [hP]
  exact ⟨n, K, A, Lg, G, rfl, rfl, h⟩
theorem myJ4_init : jY yJ4_init cJ4_init 1 none  0 := ⟨q344, q130, by decide +kernel, by decide +kernel, by decide⟩
def fJ4_init (a0 : Nat) (n : Nat) (K : Nat → pKd) (A : pA) (Lg : pL) (G : pG) (kc : Nat) (ks : Nat) (Q : Nat → (Nat → pKd) → pA → pL → pG → Prop) : Prop :=
    ∃ kY1 sY2 : Nat, kY1 ≤ kc ∧ sY2 ≤ ks ∧ ((n ≤ 1000000) ∧ ((a0 < n) ∧ ((K a0 = .inl 17) ∧ (fJ3_init a0 n K A Lg G kY1 sY2 (fun n3 K4 A5 Lg6 G7 => (a0 < n3) ∧ ((K4 a0 = .inl 17) ∧ (∀ A8 : pA, A8 = pup A5 a0 0 0 → Q n3 K4 A8 Lg6 G7)))))))
theorem tJ4_init {Γ : jG} {n : Nat} {K : Nat → pKd} {G : pG} {A : pA} {Lg : pL} {kc ks : Nat} (a0 : Nat)  (Q : Nat → (Nat → pKd) → pA → pL → pG → Prop) (h : fJ4_init a0 n K A Lg G kc ks Q) : jMet Γ yJ4_init cJ4_init 1 none [] 2 kc ks [.ref a0] (n, K, A, Lg, G) (fun o u => ∃ (n' : Nat) (K' : Nat → pKd) (A' : pA) (Lg' : pL) (G' : pG), o = .inl none ∧ u = (n', K', A', Lg', G') ∧ Q n' K' A' Lg' G') := by
  unfold fJ4_init at h
  obtain ⟨P, hP⟩ : ∃ P : jO → pS → Prop, P = (fun o u => ∃ (n' : Nat) (K' : Nat → pKd) (A' : pA) (Lg' : pL) (G' : pG), o = .inl none ∧ u = (n', K', A', Lg', G') ∧ Q n' K' A' Lg' G') := ⟨_, rfl⟩
  rw [← hP]
  refine jMet_of rfl rfl rfl (Nat.le_of_ble_eq_true rfl) ?_
  show J Γ RJ4 cJ4_init 1 none "<init>" [] 2 kc ks 0 [(0, .ref a0)] [] (n, K, A, Lg, G) P
  refine j_aload_n 0 rfl dJ4_init_0 ?_
  obtain ⟨kY1, sY2, kY1h, sY2h, h⟩ := h
  obtain ⟨hn6, h⟩ := h
  obtain ⟨la0, h⟩ := h
  obtain ⟨ha0, h⟩ := h
  refine j_callI (b := a0) (As := []) (st := []) (kc' := kc - kY1) (ks' := ks - sY2) (tJ3_init  a0 _ h) myJ3_init rfl q345 q346 (j_l2 hn6 la0) rfl (Nat.le_of_ble_eq_true rfl) rfl (by decide) (by omega) (by omega) dJ4_init_1 (fun v9 u9 hq => ?_) (fun k9 u9 hq => by obtain ⟨_, _, _, _, _, e9, _⟩ := hq; cases e9)
  obtain ⟨n3, K4, A5, Lg6, G7, e9, rfl, h⟩ := hq
  obtain rfl := Sum.inl.inj e9
  show J Γ RJ4 cJ4_init 1 none "<init>" [] 2 (kc - kY1) (ks - sY2) 4 [(0, .ref a0)] [] (n3, K4, A5, Lg6, G7) P
  refine j_aload_n 0 rfl dJ4_init_4 ?_
  refine j_iconst (v := 0) dJ4_init_5 (by decide) ?_
  obtain ⟨la0, h⟩ := h
  obtain ⟨ha0, h⟩ := h
  refine j_putfiE (fp_i_J4_7_17 _) rfl rfl rfl la0 ha0 dJ4_init_6 (fun A8 eA8 => ?_)
  replace h := h A8 eA8
  refine j_vret rfl ?_ dJ4_init_9
  rw [hP]
  exact ⟨n3, K4, A8, Lg6, G7, rfl, rfl, h⟩
theorem myJ5_init : jY yJ5_init cJ5_init 1 none  0 := ⟨q341, q131, by decide +kernel, by decide +kernel, by decide⟩
def fJ5_init (a0 : Nat) (n : Nat) (K : Nat → pKd) (A : pA) (Lg : pL) (G : pG) (kc : Nat) (ks : Nat) (Q : Nat → (Nat → pKd) → pA → pL → pG → Prop) : Prop :=
    ∃ kY1 sY2 : Nat, kY1 ≤ kc ∧ sY2 ≤ ks ∧ ((n ≤ 1000000) ∧ ((a0 < n) ∧ ((K a0 = .inl 17) ∧ (fJ4_init a0 n K A Lg G kY1 sY2 (fun n3 K4 A5 Lg6 G7 => (a0 < n3) ∧ ((K4 a0 = .inl 17) ∧ (∀ G8 : pG, G8 = pup G7 a0 1 (.ref 1000200) → Q n3 K4 A5 Lg6 G8)))))))
theorem tJ5_init {Γ : jG} {n : Nat} {K : Nat → pKd} {G : pG} {A : pA} {Lg : pL} {kc ks : Nat} (a0 : Nat)  (Q : Nat → (Nat → pKd) → pA → pL → pG → Prop) (h : fJ5_init a0 n K A Lg G kc ks Q) : jMet Γ yJ5_init cJ5_init 1 none [] 3 kc ks [.ref a0] (n, K, A, Lg, G) (fun o u => ∃ (n' : Nat) (K' : Nat → pKd) (A' : pA) (Lg' : pL) (G' : pG), o = .inl none ∧ u = (n', K', A', Lg', G') ∧ Q n' K' A' Lg' G') := by
  unfold fJ5_init at h
  obtain ⟨P, hP⟩ : ∃ P : jO → pS → Prop, P = (fun o u => ∃ (n' : Nat) (K' : Nat → pKd) (A' : pA) (Lg' : pL) (G' : pG), o = .inl none ∧ u = (n', K', A', Lg', G') ∧ Q n' K' A' Lg' G') := ⟨_, rfl⟩
  rw [← hP]
  refine jMet_of rfl rfl rfl (Nat.le_of_ble_eq_true rfl) ?_
  show J Γ RJ5 cJ5_init 1 none "<init>" [] 3 kc ks 0 [(0, .ref a0)] [] (n, K, A, Lg, G) P
  refine j_aload_n 0 rfl dJ5_init_0 ?_
  obtain ⟨kY1, sY2, kY1h, sY2h, h⟩ := h
  obtain ⟨hn6, h⟩ := h
  obtain ⟨la0, h⟩ := h
  obtain ⟨ha0, h⟩ := h
  refine j_callI (b := a0) (As := []) (st := []) (kc' := kc - kY1) (ks' := ks - sY2) (tJ4_init  a0 _ h) myJ4_init rfl q342 q343 (j_l2 hn6 la0) rfl (Nat.le_of_ble_eq_true rfl) rfl (by decide) (by omega) (by omega) dJ5_init_1 (fun v9 u9 hq => ?_) (fun k9 u9 hq => by obtain ⟨_, _, _, _, _, e9, _⟩ := hq; cases e9)
  obtain ⟨n3, K4, A5, Lg6, G7, e9, rfl, h⟩ := hq
  obtain rfl := Sum.inl.inj e9
  show J Γ RJ5 cJ5_init 1 none "<init>" [] 3 (kc - kY1) (ks - sY2) 4 [(0, .ref a0)] [] (n3, K4, A5, Lg6, G7) P
  refine j_aload_n 0 rfl dJ5_init_4 ?_
  refine j_gets (i := 1) rfl q349 dJ5_init_5 ?_
  obtain ⟨la0, h⟩ := h
  obtain ⟨ha0, h⟩ := h
  refine j_putfrE (fp_i_J5_9_17 _) rfl (Or.inr ⟨_, rfl⟩) (Or.inr ⟨_, rfl⟩) la0 ha0 dJ5_init_8 (fun G8 eG8 => ?_)
  replace h := h G8 eG8
  refine j_vret rfl ?_ dJ5_init_11
  rw [hP]
  exact ⟨n3, K4, A5, Lg6, G8, rfl, rfl, h⟩
theorem myX4_init : jY yX4_init cX4_init 1 none  0 := ⟨q335, q128, by decide +kernel, by decide +kernel, by decide⟩
def fX4_init (a0 : Nat) (n : Nat) (K : Nat → pKd) (A : pA) (Lg : pL) (G : pG) (kc : Nat) (ks : Nat) (Q : Nat → (Nat → pKd) → pA → pL → pG → Prop) : Prop :=
    (n ≤ 1000000) ∧ ((a0 < n) ∧ ((1 ≤ kc) ∧ ((3 ≤ ks) ∧ (∀ (K1 : Nat → pKd) (A2 : pA) (L3 : pL) (G4 : pG), K1 = pkup K n (.inl 17) → A2 = prow A n (fun _ => 0) → L3 = prow Lg n (fun _ => 0) → G4 = prow G n (fun _ => .null) → ∃ kY9 sY10 : Nat, kY9 ≤ kc - 1 ∧ sY10 ≤ ks - 3 ∧ (((n + 1) ≤ 1000000) ∧ (fJ5_init n (n + 1) K1 A2 L3 G4 kY9 sY10 (fun n11 K12 A13 Lg14 G15 => (a0 < n11) ∧ ((K12 a0 = .inl 4) ∧ (∀ G16 : pG, G16 = pup G15 a0 0 (.ref n) → (1 ≤ kc - 1 - kY9) ∧ ((3 ≤ ks - 3 - sY10) ∧ (∀ (K17 : Nat → pKd) (A18 : pA) (L19 : pL) (G20 : pG), K17 = pkup K12 n11 (.inl 17) → A18 = prow A13 n11 (fun _ => 0) → L19 = prow Lg14 n11 (fun _ => 0) → G20 = prow G16 n11 (fun _ => .null) → ∃ kY25 sY26 : Nat, kY25 ≤ kc - 1 - kY9 - 1 ∧ sY26 ≤ ks - 3 - sY10 - 3 ∧ (((n11 + 1) ≤ 1000000) ∧ (fJ5_init n11 (n11 + 1) K17 A18 L19 G20 kY25 sY26 (fun n27 K28 A29 Lg30 G31 => (a0 < n27) ∧ ((K28 a0 = .inl 4) ∧ (∀ G32 : pG, G32 = pup G31 a0 1 (.ref n11) → (1 ≤ kc - 1 - kY9 - 1 - kY25) ∧ ((3 ≤ ks - 3 - sY10 - 3 - sY26) ∧ (∀ (K33 : Nat → pKd) (A34 : pA) (L35 : pL) (G36 : pG), K33 = pkup K28 n27 (.inl 17) → A34 = prow A29 n27 (fun _ => 0) → L35 = prow Lg30 n27 (fun _ => 0) → G36 = prow G32 n27 (fun _ => .null) → ∃ kY41 sY42 : Nat, kY41 ≤ kc - 1 - kY9 - 1 - kY25 - 1 ∧ sY42 ≤ ks - 3 - sY10 - 3 - sY26 - 3 ∧ (((n27 + 1) ≤ 1000000) ∧ (fJ5_init n27 (n27 + 1) K33 A34 L35 G36 kY41 sY42 (fun n43 K44 A45 Lg46 G47 => (a0 < n43) ∧ ((K44 a0 = .inl 4) ∧ (∀ G48 : pG, G48 = pup G47 a0 2 (.ref n27) → (1 ≤ kc - 1 - kY9 - 1 - kY25 - 1 - kY41) ∧ ((8 ≤ ks - 3 - sY10 - 3 - sY26 - 3 - sY42) ∧ (∀ (K51 : Nat → pKd) (A52 : pA) (L53 : pL) (G54 : pG), K51 = pkup K44 n43 (.inr (0, 8)) → A52 = prow A45 n43 (fun _ => 0) → L53 = prow Lg46 n43 (fun _ => 0) → G54 = prow G48 n43 (fun _ => .null) → (a0 < (n43 + 1)) ∧ ((K51 a0 = .inl 4) ∧ (∀ G57 : pG, G57 = pup G54 a0 3 (.ref n43) → (1 ≤ kc - 1 - kY9 - 1 - kY25 - 1 - kY41 - 1) ∧ ((8 ≤ ks - 3 - sY10 - 3 - sY26 - 3 - sY42 - 8) ∧ (∀ (K60 : Nat → pKd) (A61 : pA) (L62 : pL) (G63 : pG), K60 = pkup K51 (n43 + 1) (.inr (0, 8)) → A61 = prow A52 (n43 + 1) (fun _ => 0) → L62 = prow L53 (n43 + 1) (fun _ => 0) → G63 = prow G57 (n43 + 1) (fun _ => .null) → (a0 < (n43 + 1 + 1)) ∧ ((K60 a0 = .inl 4) ∧ (∀ G66 : pG, G66 = pup G63 a0 4 (.ref (n43 + 1)) → (1 ≤ kc - 1 - kY9 - 1 - kY25 - 1 - kY41 - 1 - 1) ∧ ((4 ≤ ks - 3 - sY10 - 3 - sY26 - 3 - sY42 - 8 - 8) ∧ (∀ (K69 : Nat → pKd) (A70 : pA) (L71 : pL) (G72 : pG), K69 = pkup K60 (n43 + 1 + 1) (.inr (7, 4)) → A70 = prow A61 (n43 + 1 + 1) (fun _ => 0) → L71 = prow L62 (n43 + 1 + 1) (fun _ => 0) → G72 = prow G66 (n43 + 1 + 1) (fun _ => .null) → (a0 < (n43 + 1 + 1 + 1)) ∧ ((K69 a0 = .inl 4) ∧ (∀ G75 : pG, G75 = pup G72 a0 5 (.ref (n43 + 1 + 1)) → (8 ≤ kc - 1 - kY9 - 1 - kY25 - 1 - kY41 - 1 - 1 - 1) ∧ ((56 ≤ ks - 3 - sY10 - 3 - sY26 - 3 - sY42 - 8 - 8 - 4) ∧ (∀ (K78 : Nat → pKd) (A79 : pA) (L80 : pL) (G81 : pG), K78 = pmulK (n43 + 1 + 1 + 1) K69 7 7 → A79 = pmulA (n43 + 1 + 1 + 1) A70 7 0 → L80 = pmulA (n43 + 1 + 1 + 1) L71 7 0 → G81 = pmulG (n43 + 1 + 1 + 1) G75 7 → (a0 < (n43 + 1 + 1 + 1 + 1 + 7)) ∧ ((K78 a0 = .inl 4) ∧ (∀ G84 : pG, G84 = pup G81 a0 6 (.ref (n43 + 1 + 1 + 1)) → ∀ A85 : pA, A85 = pup A79 a0 9 60 → ∀ A86 : pA, A86 = pup A85 a0 10 120 → Q (n43 + 1 + 1 + 1 + 1 + 7) K78 A86 L80 G84)))))))))))))))))))))))))))))))))))))))
theorem tX4_init {Γ : jG} {n : Nat} {K : Nat → pKd} {G : pG} {A : pA} {Lg : pL} {kc ks : Nat} (a0 : Nat)  (Q : Nat → (Nat → pKd) → pA → pL → pG → Prop) (h : fX4_init a0 n K A Lg G kc ks Q) : jMet Γ yX4_init cX4_init 1 none [] 4 kc ks [.ref a0] (n, K, A, Lg, G) (fun o u => ∃ (n' : Nat) (K' : Nat → pKd) (A' : pA) (Lg' : pL) (G' : pG), o = .inl none ∧ u = (n', K', A', Lg', G') ∧ Q n' K' A' Lg' G') := by
  unfold fX4_init at h
  obtain ⟨P, hP⟩ : ∃ P : jO → pS → Prop, P = (fun o u => ∃ (n' : Nat) (K' : Nat → pKd) (A' : pA) (Lg' : pL) (G' : pG), o = .inl none ∧ u = (n', K', A', Lg', G') ∧ Q n' K' A' Lg' G') := ⟨_, rfl⟩
  rw [← hP]
  refine jMet_of rfl rfl rfl (Nat.le_of_ble_eq_true rfl) ?_
  show J Γ RX4 cX4_init 1 none "<init>" [] 4 kc ks 0 [(0, .ref a0)] [] (n, K, A, Lg, G) P
  refine j_aload_n 0 rfl dX4_init_0 ?_
  obtain ⟨hn6, h⟩ := h
  obtain ⟨la0, h⟩ := h
  refine j_objInit (b := a0) (st := []) q336 q165 q166 (j_l2 hn6 la0) (Nat.le_of_ble_eq_true rfl) (by decide) dX4_init_1 ?_
  refine j_aload_n 0 rfl dX4_init_4 ?_
  obtain ⟨b5, h⟩ := h
  obtain ⟨b6, h⟩ := h
  refine j_newE cn_X4_9 b5 b6 dX4_init_5 (fun K1 A2 L3 G4 eK1 eA2 eL3 eG4 => ?_)
  replace h := h K1 A2 L3 G4 eK1 eA2 eL3 eG4
  have b7 : n < (n + 1) := (by omega)
  have b8 : K1 n = .inl 17 := (by rw [eK1]; exact pkup_self)
  refine j_dup rfl dX4_init_8 ?_
  obtain ⟨kY9, sY10, kY9h, sY10h, h⟩ := h
  obtain ⟨hn6, h⟩ := h
  refine j_callI (b := n) (As := []) (st := [.ref n, .ref a0]) (kc' := kc - 1 - kY9) (ks' := ks - 3 - sY10) (tJ5_init  n _ h) myJ5_init rfl q339 q340 (j_l2 hn6 b7) rfl (Nat.le_of_ble_eq_true rfl) rfl (by decide) (by omega) (by omega) dX4_init_9 (fun v9 u9 hq => ?_) (fun k9 u9 hq => by obtain ⟨_, _, _, _, _, e9, _⟩ := hq; cases e9)
  obtain ⟨n11, K12, A13, Lg14, G15, e9, rfl, h⟩ := hq
  obtain rfl := Sum.inl.inj e9
  show J Γ RX4 cX4_init 1 none "<init>" [] 4 (kc - 1 - kY9) (ks - 3 - sY10) 12 [(0, .ref a0)] [.ref n, .ref a0] (n11, K12, A13, Lg14, G15) P
  obtain ⟨la0, h⟩ := h
  obtain ⟨ha0, h⟩ := h
  refine j_putfrE (fp_i_X4_12_4 _ rfl) rfl (Or.inl ⟨_, rfl⟩) (Or.inr ⟨_, rfl⟩) la0 ha0 dX4_init_12 (fun G16 eG16 => ?_)
  replace h := h G16 eG16
  refine j_aload_n 0 rfl dX4_init_15 ?_
  obtain ⟨b21, h⟩ := h
  obtain ⟨b22, h⟩ := h
  refine j_newE cn_X4_9 b21 b22 dX4_init_16 (fun K17 A18 L19 G20 eK17 eA18 eL19 eG20 => ?_)
  replace h := h K17 A18 L19 G20 eK17 eA18 eL19 eG20
  have b23 : n11 < (n11 + 1) := (by omega)
  have b24 : K17 n11 = .inl 17 := (by rw [eK17]; exact pkup_self)
  refine j_dup rfl dX4_init_19 ?_
  obtain ⟨kY25, sY26, kY25h, sY26h, h⟩ := h
  obtain ⟨hn6, h⟩ := h
  refine j_callI (b := n11) (As := []) (st := [.ref n11, .ref a0]) (kc' := kc - 1 - kY9 - 1 - kY25) (ks' := ks - 3 - sY10 - 3 - sY26) (tJ5_init  n11 _ h) myJ5_init rfl q339 q340 (j_l2 hn6 b23) rfl (Nat.le_of_ble_eq_true rfl) rfl (by decide) (by omega) (by omega) dX4_init_20 (fun v9 u9 hq => ?_) (fun k9 u9 hq => by obtain ⟨_, _, _, _, _, e9, _⟩ := hq; cases e9)
  obtain ⟨n27, K28, A29, Lg30, G31, e9, rfl, h⟩ := hq
  obtain rfl := Sum.inl.inj e9
  show J Γ RX4 cX4_init 1 none "<init>" [] 4 (kc - 1 - kY9 - 1 - kY25) (ks - 3 - sY10 - 3 - sY26) 23 [(0, .ref a0)] [.ref n11, .ref a0] (n27, K28, A29, Lg30, G31) P
  obtain ⟨la0, h⟩ := h
  obtain ⟨ha0, h⟩ := h
  refine j_putfrE (fp_i_X4_18_4 _ rfl) rfl (Or.inl ⟨_, rfl⟩) (Or.inr ⟨_, rfl⟩) la0 ha0 dX4_init_23 (fun G32 eG32 => ?_)
  replace h := h G32 eG32
  refine j_aload_n 0 rfl dX4_init_26 ?_
  obtain ⟨b37, h⟩ := h
  obtain ⟨b38, h⟩ := h
  refine j_newE cn_X4_9 b37 b38 dX4_init_27 (fun K33 A34 L35 G36 eK33 eA34 eL35 eG36 => ?_)
  replace h := h K33 A34 L35 G36 eK33 eA34 eL35 eG36
  have b39 : n27 < (n27 + 1) := (by omega)
  have b40 : K33 n27 = .inl 17 := (by rw [eK33]; exact pkup_self)
  refine j_dup rfl dX4_init_30 ?_
  obtain ⟨kY41, sY42, kY41h, sY42h, h⟩ := h
  obtain ⟨hn6, h⟩ := h
  refine j_callI (b := n27) (As := []) (st := [.ref n27, .ref a0]) (kc' := kc - 1 - kY9 - 1 - kY25 - 1 - kY41) (ks' := ks - 3 - sY10 - 3 - sY26 - 3 - sY42) (tJ5_init  n27 _ h) myJ5_init rfl q339 q340 (j_l2 hn6 b39) rfl (Nat.le_of_ble_eq_true rfl) rfl (by decide) (by omega) (by omega) dX4_init_31 (fun v9 u9 hq => ?_) (fun k9 u9 hq => by obtain ⟨_, _, _, _, _, e9, _⟩ := hq; cases e9)
  obtain ⟨n43, K44, A45, Lg46, G47, e9, rfl, h⟩ := hq
  obtain rfl := Sum.inl.inj e9
  show J Γ RX4 cX4_init 1 none "<init>" [] 4 (kc - 1 - kY9 - 1 - kY25 - 1 - kY41) (ks - 3 - sY10 - 3 - sY26 - 3 - sY42) 34 [(0, .ref a0)] [.ref n27, .ref a0] (n43, K44, A45, Lg46, G47) P
  obtain ⟨la0, h⟩ := h
  obtain ⟨ha0, h⟩ := h
  refine j_putfrE (fp_i_X4_21_4 _ rfl) rfl (Or.inl ⟨_, rfl⟩) (Or.inr ⟨_, rfl⟩) la0 ha0 dX4_init_34 (fun G48 eG48 => ?_)
  replace h := h G48 eG48
  refine j_aload_n 0 rfl dX4_init_37 ?_
  refine j_bipush (v := 8) dX4_init_38 (by decide) ?_
  obtain ⟨b49, h⟩ := h
  obtain ⟨b50, h⟩ := h
  refine j_newaE (t := 0) (N := 8) rfl rfl q431 (fun _ _ h9 => h9) rfl (by decide) (by decide) (by decide) b49 b50 dX4_init_40 (fun K51 A52 L53 G54 eK51 eA52 eL53 eG54 => ?_)
  replace h := h K51 A52 L53 G54 eK51 eA52 eL53 eG54
  have b55 : n43 < (n43 + 1) := (by omega)
  have b56 : K51 n43 = .inr (0, 8) := (by rw [eK51]; exact pkup_self)
  obtain ⟨la0, h⟩ := h
  obtain ⟨ha0, h⟩ := h
  refine j_putfrE (fp_i_X4_24_4 _ rfl) rfl (Or.inr ⟨_, rfl⟩) (Or.inr ⟨_, rfl⟩) la0 ha0 dX4_init_42 (fun G57 eG57 => ?_)
  replace h := h G57 eG57
  refine j_aload_n 0 rfl dX4_init_45 ?_
  refine j_bipush (v := 8) dX4_init_46 (by decide) ?_
  obtain ⟨b58, h⟩ := h
  obtain ⟨b59, h⟩ := h
  refine j_newaE (t := 0) (N := 8) rfl rfl q431 (fun _ _ h9 => h9) rfl (by decide) (by decide) (by decide) b58 b59 dX4_init_48 (fun K60 A61 L62 G63 eK60 eA61 eL62 eG63 => ?_)
  replace h := h K60 A61 L62 G63 eK60 eA61 eL62 eG63
  have b64 : (n43 + 1) < (n43 + 1 + 1) := (by omega)
  have b65 : K60 (n43 + 1) = .inr (0, 8) := (by rw [eK60]; exact pkup_self)
  obtain ⟨la0, h⟩ := h
  obtain ⟨ha0, h⟩ := h
  refine j_putfrE (fp_i_X4_28_4 _ rfl) rfl (Or.inr ⟨_, rfl⟩) (Or.inr ⟨_, rfl⟩) la0 ha0 dX4_init_50 (fun G66 eG66 => ?_)
  replace h := h G66 eG66
  refine j_aload_n 0 rfl dX4_init_53 ?_
  refine j_iconst (v := 4) dX4_init_54 (by decide) ?_
  obtain ⟨b67, h⟩ := h
  obtain ⟨b68, h⟩ := h
  refine j_anewE (t := 7) (N := 4) rfl rfl q363 (by decide) (by decide) (by decide) (by decide) b67 b68 dX4_init_55 (fun K69 A70 L71 G72 eK69 eA70 eL71 eG72 => ?_)
  replace h := h K69 A70 L71 G72 eK69 eA70 eL71 eG72
  have b73 : (n43 + 1 + 1) < (n43 + 1 + 1 + 1) := (by omega)
  have b74 : K69 (n43 + 1 + 1) = .inr (7, 4) := (by rw [eK69]; exact pkup_self)
  obtain ⟨la0, h⟩ := h
  obtain ⟨ha0, h⟩ := h
  refine j_putfrE (fp_i_X4_33_4 _ rfl) rfl (Or.inr ⟨_, rfl⟩) (Or.inr ⟨_, rfl⟩) la0 ha0 dX4_init_58 (fun G75 eG75 => ?_)
  replace h := h G75 eG75
  refine j_aload_n 0 rfl dX4_init_61 ?_
  refine j_bipush (v := 7) dX4_init_62 (by decide) ?_
  refine j_bipush (v := 7) dX4_init_64 (by decide) ?_
  obtain ⟨b76, h⟩ := h
  obtain ⟨b77, h⟩ := h
  refine j_multiE (N := 7) (M := 7) q365 q431 (by decide) (by decide) (by decide) (by decide) (by decide) (by decide) b76 b77 dX4_init_66 (fun K78 A79 L80 G81 eK78 eA79 eL80 eG81 => ?_)
  replace h := h K78 A79 L80 G81 eK78 eA79 eL80 eG81
  have b82 : (n43 + 1 + 1 + 1) < (n43 + 1 + 1 + 1 + 1 + 7) := (by omega)
  have b83 : K78 (n43 + 1 + 1 + 1) = .inr (11, 7) := (by rw [eK78]; exact if_pos rfl)
  obtain ⟨la0, h⟩ := h
  obtain ⟨ha0, h⟩ := h
  refine j_putfrE (fp_i_X4_39_4 _ rfl) rfl (Or.inr ⟨_, rfl⟩) (Or.inr ⟨_, rfl⟩) la0 ha0 dX4_init_70 (fun G84 eG84 => ?_)
  replace h := h G84 eG84
  refine j_aload_n 0 rfl dX4_init_73 ?_
  refine j_bipush (v := 60) dX4_init_74 (by decide) ?_
  refine j_putfiE (fp_i_X4_42_4 _) rfl rfl rfl la0 ha0 dX4_init_76 (fun A85 eA85 => ?_)
  replace h := h A85 eA85
  refine j_aload_n 0 rfl dX4_init_79 ?_
  refine j_bipush (v := 120) dX4_init_80 (by decide) ?_
  refine j_putfiE (fp_i_X4_46_4 _) rfl rfl rfl la0 ha0 dX4_init_82 (fun A86 eA86 => ?_)
  replace h := h A86 eA86
  refine j_vret rfl ?_ dX4_init_85
  rw [hP]
  exact ⟨n43 + 1 + 1 + 1 + 1 + 7, K78, A86, L80, G84, rfl, rfl, h⟩
