set_option maxRecDepth 100000
set_option maxHeartbeats 4000000
theorem myX0_init : jY yX0_init cX0_init 2 none  0 := ⟨q163, q121, by decide +kernel, by decide +kernel, by decide⟩
def fX0_init_L204 (a0 : Nat)  (Q : Nat → (Nat → pKd) → pA → pL → pG → Prop) : Nat → Int32 → Nat → (Nat → pKd) → pA → pL → pG → Nat → Nat → Prop
  | 0, _, _, _, _, _, _, _, _ => False
  | n9 + 1, l1, n, K, A, Lg, G, kc, ks =>
    (if 40 ≤ l1 then ∃ e1 : Nat, G a0 7 = .ref e1 ∧ ((a0 < n) ∧ ((K a0 = .inl 0) ∧ (∃ e3 : Nat, G a0 3 = .ref e3 ∧ ((isT e1) ∧ ((xOK n K G e3) ∧ ((fOK n K G) ∧ ((n ≤ 1000000) ∧ (fX5_begins e1 e3 n K A G (fun A5 => Q n K A5 Lg G))))))))) else ∃ e6 : Nat, G a0 9 = .ref e6 ∧ ((a0 < n) ∧ ((K a0 = .inl 0) ∧ ((1 ≤ kc) ∧ ((14 ≤ ks) ∧ (∀ (K7 : Nat → pKd) (A8 : pA) (L9 : pL) (G10 : pG), K7 = pkup K n (.inl 5) → A8 = prow A n (fun _ => 0) → L9 = prow Lg n (fun _ => 0) → G10 = prow G n (fun _ => .null) → ∃ kY15 sY16 : Nat, kY15 ≤ kc - 1 ∧ sY16 ≤ ks - 14 ∧ (((n + 1) ≤ 1000000) ∧ (fX5_init n (n + 1) K7 A8 L9 G10 kY15 sY16 (fun n17 K18 A19 Lg20 G21 => ∃ z23 : Nat, K18 e6 = .inr (9, z23) ∧ ((vp_in l1 z23) ∧ ((n17 ≤ 1000000) ∧ ((n < n17) ∧ ((K18 n = .inl 5) ∧ ((e6 < n17) ∧ (∀ G26 : pG, G26 = pup G21 e6 (l1).toNatClampNeg (.ref n) → fX0_init_L204 a0  Q n9 (l1 + 1) n17 K18 A19 Lg20 G26 (kc - 1 - kY15) (ks - 14 - sY16))))))))))))))))
theorem fX0_init_L204_ok {Γ : jG} (a0 : Nat) (Q : Nat → (Nat → pKd) → pA → pL → pG → Prop) (P : jO → pS → Prop) (hP : P = (fun o u => ∃ (n' : Nat) (K' : Nat → pKd) (A' : pA) (Lg' : pL) (G' : pG), o = .inl none ∧ u = (n', K', A', Lg', G') ∧ Q n' K' A' Lg' G'))    : ∀ (n9 : Nat) (l1 : Int32) (n : Nat) (K : Nat → pKd) (A : pA) (Lg : pL) (G : pG) (kc : Nat) (ks : Nat), fX0_init_L204 a0  Q n9 l1 n K A Lg G kc ks → J Γ RX0 cX0_init 2 none "<init>" [] 5 kc ks 204 [(0, .ref a0), (1, .int l1)] [] (n, K, A, Lg, G) P := by
  intro n9
  induction n9 with
  | zero => intro l1 n K A Lg G kc ks h; exact h.elim
  | succ n9 ih =>
    intro l1 n K A Lg G kc ks h
    unfold fX0_init_L204 at h
    refine j_iload_n 1 rfl dX0_init_204 ?_
    refine j_bipush (v := 40) dX0_init_205 (by decide) ?_
    refine j_icmp_ge (tgt := 229) dX0_init_207 (by decide) (fun c => ?_) (fun c => ?_)
    · rw [if_pos c] at h
      refine j_aload_n 0 rfl dX0_init_229 ?_
      obtain ⟨e1, e1h, h⟩ := h
      obtain ⟨la0, h⟩ := h
      obtain ⟨ha0, h⟩ := h
      refine j_getfr fl_X0_55_0 rfl la0 ha0 e1h dX0_init_230 ?_
      refine j_aload_n 0 rfl dX0_init_233 ?_
      obtain ⟨e3, e3h, h⟩ := h
      refine j_getfr fl_X0_44_0 rfl la0 ha0 e3h dX0_init_234 ?_
      obtain ⟨b2, h⟩ := h
      obtain ⟨b4, h⟩ := h
      obtain ⟨hf, h⟩ := h
      obtain ⟨hn6, h⟩ := h
      refine j_callV (b := e1) (As := [.ref e3]) (st := []) (C := RX5) (kc' := kc) (ks' := ks) (tX5_begins hf e1 b2 e3 b4 _ h) myX5_begins rfl q531 q532 q533 (j_l2 hn6 (t_lt hf b2 (j := 0) (by decide))) (fun s9 H9 hK9 hR9 h69 => jIs_in hK9 hR9 h69 (t_lt hf b2 (j := 0) (by decide)) (tk_0 hf b2) rfl) rfl (Nat.le_of_ble_eq_true rfl) rfl (by decide) (Nat.le_refl _) (Nat.le_refl _) dX0_init_237 (fun v9 u9 hq => ?_) (fun k9 u9 hq => by obtain ⟨_, e9, _⟩ := hq; cases e9)
      obtain ⟨A5, e9, rfl, h⟩ := hq
      obtain rfl := Sum.inl.inj e9
      show J Γ RX0 cX0_init 2 none "<init>" [] 5 kc ks 240 [(0, .ref a0), (1, .int l1)] [] (n, K, A5, Lg, G) P
      refine j_vret rfl ?_ dX0_init_240
      rw [hP]
      exact ⟨n, K, A5, Lg, G, rfl, rfl, h⟩
    · rw [if_neg c] at h
      refine j_aload_n 0 rfl dX0_init_210 ?_
      obtain ⟨e6, e6h, h⟩ := h
      obtain ⟨la0, h⟩ := h
      obtain ⟨ha0, h⟩ := h
      refine j_getfr fl_X0_62_0 rfl la0 ha0 e6h dX0_init_211 ?_
      refine j_iload_n 1 rfl dX0_init_214 ?_
      obtain ⟨b11, h⟩ := h
      obtain ⟨b12, h⟩ := h
      refine j_newE cn_X0_52 b11 b12 dX0_init_215 (fun K7 A8 L9 G10 eK7 eA8 eL9 eG10 => ?_)
      replace h := h K7 A8 L9 G10 eK7 eA8 eL9 eG10
      have b13 : n < (n + 1) := (by omega)
      have b14 : K7 n = .inl 5 := (by rw [eK7]; exact pkup_self)
      refine j_dup rfl dX0_init_218 ?_
      obtain ⟨kY15, sY16, kY15h, sY16h, h⟩ := h
      obtain ⟨hn6, h⟩ := h
      refine j_callIN (b := n) (As := []) (st := [.ref n, .int l1, .ref e6]) (kc' := kc - 1 - kY15) (ks' := ks - 14 - sY16) (host := "DogsHour") (tX5_init  n _ h) myX5_init rfl (by decide) q435 (j_l2 hn6 b13) rfl (Nat.le_of_ble_eq_true rfl) rfl (by decide) (by omega) (by omega) dX0_init_219 (fun v9 u9 hq => ?_) (fun k9 u9 hq => by obtain ⟨_, _, _, _, _, e9, _⟩ := hq; cases e9)
      obtain ⟨n17, K18, A19, Lg20, G21, e9, rfl, h⟩ := hq
      obtain rfl := Sum.inl.inj e9
      show J Γ RX0 cX0_init 2 none "<init>" [] 5 (kc - 1 - kY15) (ks - 14 - sY16) 222 [(0, .ref a0), (1, .int l1)] [.ref n, .int l1, .ref e6] (n17, K18, A19, Lg20, G21) P
      obtain ⟨z23, b24, h⟩ := h
      obtain ⟨b25, h⟩ := h
      obtain ⟨hn6, h⟩ := h
      obtain ⟨b13, h⟩ := h
      obtain ⟨b14, h⟩ := h
      obtain ⟨b22, h⟩ := h
      refine j_aastE (t := 9) (j := (l1).toNatClampNeg) (C := "DogsHour$Town") rfl rfl b22 b24 b25 rfl (j_l2 hn6 b13) (fun s9 H9 hK9 hR9 h69 => jIs_in hK9 hR9 h69 b13 b14 rfl) (Or.inl rfl) dX0_init_222 (fun G26 eG26 => ?_)
      replace h := h G26 eG26
      refine j_iinc (v := l1 + 1) 1 rfl rfl (by decide) rfl dX0_init_223 ?_
      refine j_goto (tgt := 204) dX0_init_226 (by decide) ?_
      refine j_ls [1, 0] rfl ?_
      exact ih (l1 + 1) n17 K18 A19 Lg20 G26 (kc - 1 - kY15) (ks - 14 - sY16) h
def fX0_init (a0 : Nat) (n : Nat) (K : Nat → pKd) (A : pA) (Lg : pL) (G : pG) (kc : Nat) (ks : Nat) (Q : Nat → (Nat → pKd) → pA → pL → pG → Prop) : Prop :=
    (n ≤ 1000000) ∧ ((a0 < n) ∧ ((1 ≤ kc) ∧ ((8 ≤ ks) ∧ (∀ (K27 : Nat → pKd) (A28 : pA) (L29 : pL) (G30 : pG), K27 = pkup K n (.inl 1) → A28 = prow A n (fun _ => 0) → L29 = prow Lg n (fun _ => 0) → G30 = prow G n (fun _ => .null) → ∃ kY35 sY36 : Nat, kY35 ≤ kc - 1 ∧ sY36 ≤ ks - 8 ∧ (((n + 1) ≤ 1000000) ∧ (fX1_init n (n + 1) K27 A28 L29 G30 kY35 sY36 (fun n37 K38 A39 Lg40 G41 => (a0 < n37) ∧ ((K38 a0 = .inl 0) ∧ (∀ G42 : pG, G42 = pup G41 a0 0 (.ref n) → (1 ≤ kc - 1 - kY35) ∧ ((8 ≤ ks - 8 - sY36) ∧ (∀ (K43 : Nat → pKd) (A44 : pA) (L45 : pL) (G46 : pG), K43 = pkup K38 n37 (.inl 2) → A44 = prow A39 n37 (fun _ => 0) → L45 = prow Lg40 n37 (fun _ => 0) → G46 = prow G42 n37 (fun _ => .null) → ∃ kY51 sY52 : Nat, kY51 ≤ kc - 1 - kY35 - 1 ∧ sY52 ≤ ks - 8 - sY36 - 8 ∧ (((n37 + 1) ≤ 1000000) ∧ (fX2_init n37 (n37 + 1) K43 A44 L45 G46 kY51 sY52 (fun n53 K54 A55 Lg56 G57 => (a0 < n53) ∧ ((K54 a0 = .inl 0) ∧ (∀ G58 : pG, G58 = pup G57 a0 1 (.ref n37) → (1 ≤ kc - 1 - kY35 - 1 - kY51) ∧ ((7 ≤ ks - 8 - sY36 - 8 - sY52) ∧ (∀ (K59 : Nat → pKd) (A60 : pA) (L61 : pL) (G62 : pG), K59 = pkup K54 n53 (.inl 3) → A60 = prow A55 n53 (fun _ => 0) → L61 = prow Lg56 n53 (fun _ => 0) → G62 = prow G58 n53 (fun _ => .null) → ∃ e67 : Nat, G62 a0 1 = .ref e67 ∧ ((a0 < (n53 + 1)) ∧ ((K59 a0 = .inl 0) ∧ (∃ e68 : Nat, G62 a0 0 = .ref e68 ∧ (∃ kY69 sY70 : Nat, kY69 ≤ kc - 1 - kY35 - 1 - kY51 - 1 ∧ sY70 ≤ ks - 8 - sY36 - 8 - sY52 - 7 ∧ (((n53 + 1) ≤ 1000000) ∧ (fX3_init n53 e67 e68 (n53 + 1) K59 A60 L61 G62 kY69 sY70 (fun n71 K72 A73 Lg74 G75 => (a0 < n71) ∧ ((K72 a0 = .inl 0) ∧ (∀ G76 : pG, G76 = pup G75 a0 2 (.ref n53) → (1 ≤ kc - 1 - kY35 - 1 - kY51 - 1 - kY69) ∧ ((12 ≤ ks - 8 - sY36 - 8 - sY52 - 7 - sY70) ∧ (∀ (K77 : Nat → pKd) (A78 : pA) (L79 : pL) (G80 : pG), K77 = pkup K72 n71 (.inl 4) → A78 = prow A73 n71 (fun _ => 0) → L79 = prow Lg74 n71 (fun _ => 0) → G80 = prow G76 n71 (fun _ => .null) → ∃ kY85 sY86 : Nat, kY85 ≤ kc - 1 - kY35 - 1 - kY51 - 1 - kY69 - 1 ∧ sY86 ≤ ks - 8 - sY36 - 8 - sY52 - 7 - sY70 - 12 ∧ (((n71 + 1) ≤ 1000000) ∧ (fX4_init n71 (n71 + 1) K77 A78 L79 G80 kY85 sY86 (fun n87 K88 A89 Lg90 G91 => (a0 < n87) ∧ ((K88 a0 = .inl 0) ∧ (∀ G92 : pG, G92 = pup G91 a0 3 (.ref n71) → ∀ A93 : pA, A93 = pup A89 a0 4 (-1) → (1 ≤ kc - 1 - kY35 - 1 - kY51 - 1 - kY69 - 1 - kY85) ∧ ((14 ≤ ks - 8 - sY36 - 8 - sY52 - 7 - sY70 - 12 - sY86) ∧ (∀ (K94 : Nat → pKd) (A95 : pA) (L96 : pL) (G97 : pG), K94 = pkup K88 n87 (.inl 5) → A95 = prow A93 n87 (fun _ => 0) → L96 = prow Lg90 n87 (fun _ => 0) → G97 = prow G92 n87 (fun _ => .null) → ∃ kY102 sY103 : Nat, kY102 ≤ kc - 1 - kY35 - 1 - kY51 - 1 - kY69 - 1 - kY85 - 1 ∧ sY103 ≤ ks - 8 - sY36 - 8 - sY52 - 7 - sY70 - 12 - sY86 - 14 ∧ (((n87 + 1) ≤ 1000000) ∧ (fX5_init n87 (n87 + 1) K94 A95 L96 G97 kY102 sY103 (fun n104 K105 A106 Lg107 G108 => (a0 < n104) ∧ ((K105 a0 = .inl 0) ∧ (∀ G109 : pG, G109 = pup G108 a0 7 (.ref n87) → (1 ≤ kc - 1 - kY35 - 1 - kY51 - 1 - kY69 - 1 - kY85 - 1 - kY102) ∧ ((14 ≤ ks - 8 - sY36 - 8 - sY52 - 7 - sY70 - 12 - sY86 - 14 - sY103) ∧ (∀ (K110 : Nat → pKd) (A111 : pA) (L112 : pL) (G113 : pG), K110 = pkup K105 n104 (.inl 5) → A111 = prow A106 n104 (fun _ => 0) → L112 = prow Lg107 n104 (fun _ => 0) → G113 = prow G109 n104 (fun _ => .null) → ∃ kY118 sY119 : Nat, kY118 ≤ kc - 1 - kY35 - 1 - kY51 - 1 - kY69 - 1 - kY85 - 1 - kY102 - 1 ∧ sY119 ≤ ks - 8 - sY36 - 8 - sY52 - 7 - sY70 - 12 - sY86 - 14 - sY103 - 14 ∧ (((n104 + 1) ≤ 1000000) ∧ (fX5_init n104 (n104 + 1) K110 A111 L112 G113 kY118 sY119 (fun n120 K121 A122 Lg123 G124 => (a0 < n120) ∧ ((K121 a0 = .inl 0) ∧ (∀ G125 : pG, G125 = pup G124 a0 8 (.ref n104) → (1 ≤ kc - 1 - kY35 - 1 - kY51 - 1 - kY69 - 1 - kY85 - 1 - kY102 - 1 - kY118) ∧ ((40 ≤ ks - 8 - sY36 - 8 - sY52 - 7 - sY70 - 12 - sY86 - 14 - sY103 - 14 - sY119) ∧ (∀ (K128 : Nat → pKd) (A129 : pA) (L130 : pL) (G131 : pG), K128 = pkup K121 n120 (.inr (9, 40)) → A129 = prow A122 n120 (fun _ => 0) → L130 = prow Lg123 n120 (fun _ => 0) → G131 = prow G125 n120 (fun _ => .null) → (a0 < (n120 + 1)) ∧ ((K128 a0 = .inl 0) ∧ (∀ G134 : pG, G134 = pup G131 a0 9 (.ref n120) → (1 ≤ kc - 1 - kY35 - 1 - kY51 - 1 - kY69 - 1 - kY85 - 1 - kY102 - 1 - kY118 - 1) ∧ ((3 ≤ ks - 8 - sY36 - 8 - sY52 - 7 - sY70 - 12 - sY86 - 14 - sY103 - 14 - sY119 - 40) ∧ (∀ (K137 : Nat → pKd) (A138 : pA) (L139 : pL) (G140 : pG), K137 = pkup K128 (n120 + 1) (.inr (9, 3)) → A138 = prow A129 (n120 + 1) (fun _ => 0) → L139 = prow L130 (n120 + 1) (fun _ => 0) → G140 = prow G134 (n120 + 1) (fun _ => .null) → (1 ≤ kc - 1 - kY35 - 1 - kY51 - 1 - kY69 - 1 - kY85 - 1 - kY102 - 1 - kY118 - 1 - 1) ∧ ((14 ≤ ks - 8 - sY36 - 8 - sY52 - 7 - sY70 - 12 - sY86 - 14 - sY103 - 14 - sY119 - 40 - 3) ∧ (∀ (K143 : Nat → pKd) (A144 : pA) (L145 : pL) (G146 : pG), K143 = pkup K137 (n120 + 1 + 1) (.inl 5) → A144 = prow A138 (n120 + 1 + 1) (fun _ => 0) → L145 = prow L139 (n120 + 1 + 1) (fun _ => 0) → G146 = prow G140 (n120 + 1 + 1) (fun _ => .null) → ∃ kY151 sY152 : Nat, kY151 ≤ kc - 1 - kY35 - 1 - kY51 - 1 - kY69 - 1 - kY85 - 1 - kY102 - 1 - kY118 - 1 - 1 - 1 ∧ sY152 ≤ ks - 8 - sY36 - 8 - sY52 - 7 - sY70 - 12 - sY86 - 14 - sY103 - 14 - sY119 - 40 - 3 - 14 ∧ (((n120 + 1 + 1 + 1) ≤ 1000000) ∧ (fX5_init (n120 + 1 + 1) (n120 + 1 + 1 + 1) K143 A144 L145 G146 kY151 sY152 (fun n153 K154 A155 Lg156 G157 => (n153 ≤ 1000000) ∧ (((n120 + 1 + 1) < n153) ∧ ((K154 (n120 + 1 + 1) = .inl 5) ∧ (((n120 + 1) < n153) ∧ ((K154 (n120 + 1) = .inr (9, 3)) ∧ (∀ G158 : pG, G158 = pup G157 (n120 + 1) 0 (.ref (n120 + 1 + 1)) → (1 ≤ kc - 1 - kY35 - 1 - kY51 - 1 - kY69 - 1 - kY85 - 1 - kY102 - 1 - kY118 - 1 - 1 - 1 - kY151) ∧ ((14 ≤ ks - 8 - sY36 - 8 - sY52 - 7 - sY70 - 12 - sY86 - 14 - sY103 - 14 - sY119 - 40 - 3 - 14 - sY152) ∧ (∀ (K159 : Nat → pKd) (A160 : pA) (L161 : pL) (G162 : pG), K159 = pkup K154 n153 (.inl 5) → A160 = prow A155 n153 (fun _ => 0) → L161 = prow Lg156 n153 (fun _ => 0) → G162 = prow G158 n153 (fun _ => .null) → ∃ kY167 sY168 : Nat, kY167 ≤ kc - 1 - kY35 - 1 - kY51 - 1 - kY69 - 1 - kY85 - 1 - kY102 - 1 - kY118 - 1 - 1 - 1 - kY151 - 1 ∧ sY168 ≤ ks - 8 - sY36 - 8 - sY52 - 7 - sY70 - 12 - sY86 - 14 - sY103 - 14 - sY119 - 40 - 3 - 14 - sY152 - 14 ∧ (((n153 + 1) ≤ 1000000) ∧ (fX5_init n153 (n153 + 1) K159 A160 L161 G162 kY167 sY168 (fun n169 K170 A171 Lg172 G173 => (n169 ≤ 1000000) ∧ ((n153 < n169) ∧ ((K170 n153 = .inl 5) ∧ (((n120 + 1) < n169) ∧ ((K170 (n120 + 1) = .inr (9, 3)) ∧ (∀ G174 : pG, G174 = pup G173 (n120 + 1) 1 (.ref n153) → (1 ≤ kc - 1 - kY35 - 1 - kY51 - 1 - kY69 - 1 - kY85 - 1 - kY102 - 1 - kY118 - 1 - 1 - 1 - kY151 - 1 - kY167) ∧ ((14 ≤ ks - 8 - sY36 - 8 - sY52 - 7 - sY70 - 12 - sY86 - 14 - sY103 - 14 - sY119 - 40 - 3 - 14 - sY152 - 14 - sY168) ∧ (∀ (K175 : Nat → pKd) (A176 : pA) (L177 : pL) (G178 : pG), K175 = pkup K170 n169 (.inl 5) → A176 = prow A171 n169 (fun _ => 0) → L177 = prow Lg172 n169 (fun _ => 0) → G178 = prow G174 n169 (fun _ => .null) → ∃ kY183 sY184 : Nat, kY183 ≤ kc - 1 - kY35 - 1 - kY51 - 1 - kY69 - 1 - kY85 - 1 - kY102 - 1 - kY118 - 1 - 1 - 1 - kY151 - 1 - kY167 - 1 ∧ sY184 ≤ ks - 8 - sY36 - 8 - sY52 - 7 - sY70 - 12 - sY86 - 14 - sY103 - 14 - sY119 - 40 - 3 - 14 - sY152 - 14 - sY168 - 14 ∧ (((n169 + 1) ≤ 1000000) ∧ (fX5_init n169 (n169 + 1) K175 A176 L177 G178 kY183 sY184 (fun n185 K186 A187 Lg188 G189 => (n185 ≤ 1000000) ∧ ((n169 < n185) ∧ ((K186 n169 = .inl 5) ∧ (((n120 + 1) < n185) ∧ ((K186 (n120 + 1) = .inr (9, 3)) ∧ (∀ G190 : pG, G190 = pup G189 (n120 + 1) 2 (.ref n169) → (a0 < n185) ∧ ((K186 a0 = .inl 0) ∧ (∀ G191 : pG, G191 = pup G190 a0 10 (.ref (n120 + 1)) → (1 ≤ kc - 1 - kY35 - 1 - kY51 - 1 - kY69 - 1 - kY85 - 1 - kY102 - 1 - kY118 - 1 - 1 - 1 - kY151 - 1 - kY167 - 1 - kY183) ∧ ((2 ≤ ks - 8 - sY36 - 8 - sY52 - 7 - sY70 - 12 - sY86 - 14 - sY103 - 14 - sY119 - 40 - 3 - 14 - sY152 - 14 - sY168 - 14 - sY184) ∧ (∀ (K194 : Nat → pKd) (A195 : pA) (L196 : pL) (G197 : pG), K194 = pkup K186 n185 (.inr (10, 2)) → A195 = prow A187 n185 (fun _ => 0) → L196 = prow Lg188 n185 (fun _ => 0) → G197 = prow G191 n185 (fun _ => .null) → (1 ≤ kc - 1 - kY35 - 1 - kY51 - 1 - kY69 - 1 - kY85 - 1 - kY102 - 1 - kY118 - 1 - 1 - 1 - kY151 - 1 - kY167 - 1 - kY183 - 1) ∧ ((0 ≤ ks - 8 - sY36 - 8 - sY52 - 7 - sY70 - 12 - sY86 - 14 - sY103 - 14 - sY119 - 40 - 3 - 14 - sY152 - 14 - sY168 - 14 - sY184 - 2) ∧ (∀ (K200 : Nat → pKd) (A201 : pA) (L202 : pL) (G203 : pG), K200 = pkup K194 (n185 + 1) (.inl 7) → A201 = prow A195 (n185 + 1) (fun _ => 0) → L202 = prow L196 (n185 + 1) (fun _ => 0) → G203 = prow G197 (n185 + 1) (fun _ => .null) → ∃ kY208 sY209 : Nat, kY208 ≤ kc - 1 - kY35 - 1 - kY51 - 1 - kY69 - 1 - kY85 - 1 - kY102 - 1 - kY118 - 1 - 1 - 1 - kY151 - 1 - kY167 - 1 - kY183 - 1 - 1 ∧ sY209 ≤ ks - 8 - sY36 - 8 - sY52 - 7 - sY70 - 12 - sY86 - 14 - sY103 - 14 - sY119 - 40 - 3 - 14 - sY152 - 14 - sY168 - 14 - sY184 - 2 - 0 ∧ (((n185 + 1 + 1) ≤ 1000000) ∧ (fX8_init (n185 + 1) (n185 + 1 + 1) K200 A201 L202 G203 kY208 sY209 (fun n210 K211 A212 Lg213 G214 => (n210 ≤ 1000000) ∧ (((n185 + 1) < n210) ∧ ((K211 (n185 + 1) = .inl 7) ∧ ((n185 < n210) ∧ ((K211 n185 = .inr (10, 2)) ∧ (∀ G215 : pG, G215 = pup G214 n185 0 (.ref (n185 + 1)) → (1 ≤ kc - 1 - kY35 - 1 - kY51 - 1 - kY69 - 1 - kY85 - 1 - kY102 - 1 - kY118 - 1 - 1 - 1 - kY151 - 1 - kY167 - 1 - kY183 - 1 - 1 - kY208) ∧ ((0 ≤ ks - 8 - sY36 - 8 - sY52 - 7 - sY70 - 12 - sY86 - 14 - sY103 - 14 - sY119 - 40 - 3 - 14 - sY152 - 14 - sY168 - 14 - sY184 - 2 - 0 - sY209) ∧ (∀ (K216 : Nat → pKd) (A217 : pA) (L218 : pL) (G219 : pG), K216 = pkup K211 n210 (.inl 8) → A217 = prow A212 n210 (fun _ => 0) → L218 = prow Lg213 n210 (fun _ => 0) → G219 = prow G215 n210 (fun _ => .null) → ∃ kY224 sY225 : Nat, kY224 ≤ kc - 1 - kY35 - 1 - kY51 - 1 - kY69 - 1 - kY85 - 1 - kY102 - 1 - kY118 - 1 - 1 - 1 - kY151 - 1 - kY167 - 1 - kY183 - 1 - 1 - kY208 - 1 ∧ sY225 ≤ ks - 8 - sY36 - 8 - sY52 - 7 - sY70 - 12 - sY86 - 14 - sY103 - 14 - sY119 - 40 - 3 - 14 - sY152 - 14 - sY168 - 14 - sY184 - 2 - 0 - sY209 - 0 ∧ (((n210 + 1) ≤ 1000000) ∧ (fX9_init n210 (n210 + 1) K216 A217 L218 G219 kY224 sY225 (fun n226 K227 A228 Lg229 G230 => (n226 ≤ 1000000) ∧ ((n210 < n226) ∧ ((K227 n210 = .inl 8) ∧ ((n185 < n226) ∧ ((K227 n185 = .inr (10, 2)) ∧ (∀ G231 : pG, G231 = pup G230 n185 1 (.ref n210) → (a0 < n226) ∧ ((K227 a0 = .inl 0) ∧ (∀ G232 : pG, G232 = pup G231 a0 11 (.ref n185) → (1 ≤ kc - 1 - kY35 - 1 - kY51 - 1 - kY69 - 1 - kY85 - 1 - kY102 - 1 - kY118 - 1 - 1 - 1 - kY151 - 1 - kY167 - 1 - kY183 - 1 - 1 - kY208 - 1 - kY224) ∧ ((3 ≤ ks - 8 - sY36 - 8 - sY52 - 7 - sY70 - 12 - sY86 - 14 - sY103 - 14 - sY119 - 40 - 3 - 14 - sY152 - 14 - sY168 - 14 - sY184 - 2 - 0 - sY209 - 0 - sY225) ∧ (∀ (K235 : Nat → pKd) (A236 : pA) (L237 : pL) (G238 : pG), K235 = pkup K227 n226 (.inr (3, 3)) → A236 = prow A228 n226 (fun _ => 0) → L237 = prow Lg229 n226 (fun _ => 0) → G238 = prow G232 n226 (fun _ => .null) → (a0 < (n226 + 1)) ∧ ((K235 a0 = .inl 0) ∧ (∀ G241 : pG, G241 = pup G238 a0 12 (.ref n226) → (129 ≤ kc - 1 - kY35 - 1 - kY51 - 1 - kY69 - 1 - kY85 - 1 - kY102 - 1 - kY118 - 1 - 1 - 1 - kY151 - 1 - kY167 - 1 - kY183 - 1 - 1 - kY208 - 1 - kY224 - 1) ∧ ((1024 ≤ ks - 8 - sY36 - 8 - sY52 - 7 - sY70 - 12 - sY86 - 14 - sY103 - 14 - sY119 - 40 - 3 - 14 - sY152 - 14 - sY168 - 14 - sY184 - 2 - 0 - sY209 - 0 - sY225 - 3) ∧ (∀ (K244 : Nat → pKd) (A245 : pA) (L246 : pL) (G247 : pG), K244 = pmulK (n226 + 1) K235 128 7 → A245 = pmulA (n226 + 1) A236 128 0 → L246 = pmulA (n226 + 1) L237 128 0 → G247 = pmulG (n226 + 1) G241 128 → (a0 < (n226 + 1 + 1 + 128)) ∧ ((K244 a0 = .inl 0) ∧ (∀ G250 : pG, G250 = pup G247 a0 13 (.ref (n226 + 1)) → (1 ≤ kc - 1 - kY35 - 1 - kY51 - 1 - kY69 - 1 - kY85 - 1 - kY102 - 1 - kY118 - 1 - 1 - 1 - kY151 - 1 - kY167 - 1 - kY183 - 1 - 1 - kY208 - 1 - kY224 - 1 - 129) ∧ ((20 ≤ ks - 8 - sY36 - 8 - sY52 - 7 - sY70 - 12 - sY86 - 14 - sY103 - 14 - sY119 - 40 - 3 - 14 - sY152 - 14 - sY168 - 14 - sY184 - 2 - 0 - sY209 - 0 - sY225 - 3 - 1024) ∧ (∀ (K253 : Nat → pKd) (A254 : pA) (L255 : pL) (G256 : pG), K253 = pkup K244 (n226 + 1 + 1 + 128) (.inr (0, 20)) → A254 = prow A245 (n226 + 1 + 1 + 128) (fun _ => 0) → L255 = prow L246 (n226 + 1 + 1 + 128) (fun _ => 0) → G256 = prow G250 (n226 + 1 + 1 + 128) (fun _ => .null) → (a0 < (n226 + 1 + 1 + 128 + 1)) ∧ ((K253 a0 = .inl 0) ∧ (∀ G259 : pG, G259 = pup G256 a0 15 (.ref (n226 + 1 + 1 + 128)) → (1 ≤ kc - 1 - kY35 - 1 - kY51 - 1 - kY69 - 1 - kY85 - 1 - kY102 - 1 - kY118 - 1 - 1 - 1 - kY151 - 1 - kY167 - 1 - kY183 - 1 - 1 - kY208 - 1 - kY224 - 1 - 129 - 1) ∧ ((20 ≤ ks - 8 - sY36 - 8 - sY52 - 7 - sY70 - 12 - sY86 - 14 - sY103 - 14 - sY119 - 40 - 3 - 14 - sY152 - 14 - sY168 - 14 - sY184 - 2 - 0 - sY209 - 0 - sY225 - 3 - 1024 - 20) ∧ (∀ (K262 : Nat → pKd) (A263 : pA) (L264 : pL) (G265 : pG), K262 = pkup K253 (n226 + 1 + 1 + 128 + 1) (.inr (3, 20)) → A263 = prow A254 (n226 + 1 + 1 + 128 + 1) (fun _ => 0) → L264 = prow L255 (n226 + 1 + 1 + 128 + 1) (fun _ => 0) → G265 = prow G259 (n226 + 1 + 1 + 128 + 1) (fun _ => .null) → (a0 < (n226 + 1 + 1 + 128 + 1 + 1)) ∧ ((K262 a0 = .inl 0) ∧ (∀ G268 : pG, G268 = pup G265 a0 16 (.ref (n226 + 1 + 1 + 128 + 1)) → (1 ≤ kc - 1 - kY35 - 1 - kY51 - 1 - kY69 - 1 - kY85 - 1 - kY102 - 1 - kY118 - 1 - 1 - 1 - kY151 - 1 - kY167 - 1 - kY183 - 1 - 1 - kY208 - 1 - kY224 - 1 - 129 - 1 - 1) ∧ ((20 ≤ ks - 8 - sY36 - 8 - sY52 - 7 - sY70 - 12 - sY86 - 14 - sY103 - 14 - sY119 - 40 - 3 - 14 - sY152 - 14 - sY168 - 14 - sY184 - 2 - 0 - sY209 - 0 - sY225 - 3 - 1024 - 20 - 20) ∧ (∀ (K271 : Nat → pKd) (A272 : pA) (L273 : pL) (G274 : pG), K271 = pkup K262 (n226 + 1 + 1 + 128 + 1 + 1) (.inr (0, 20)) → A272 = prow A263 (n226 + 1 + 1 + 128 + 1 + 1) (fun _ => 0) → L273 = prow L264 (n226 + 1 + 1 + 128 + 1 + 1) (fun _ => 0) → G274 = prow G268 (n226 + 1 + 1 + 128 + 1 + 1) (fun _ => .null) → (a0 < (n226 + 1 + 1 + 128 + 1 + 1 + 1)) ∧ ((K271 a0 = .inl 0) ∧ (∀ G277 : pG, G277 = pup G274 a0 17 (.ref (n226 + 1 + 1 + 128 + 1 + 1)) → ∃ m278, fX0_init_L204 a0  Q m278 0 (n226 + 1 + 1 + 128 + 1 + 1 + 1) K271 A272 L273 G277 (kc - 1 - kY35 - 1 - kY51 - 1 - kY69 - 1 - kY85 - 1 - kY102 - 1 - kY118 - 1 - 1 - 1 - kY151 - 1 - kY167 - 1 - kY183 - 1 - 1 - kY208 - 1 - kY224 - 1 - 129 - 1 - 1 - 1) (ks - 8 - sY36 - 8 - sY52 - 7 - sY70 - 12 - sY86 - 14 - sY103 - 14 - sY119 - 40 - 3 - 14 - sY152 - 14 - sY168 - 14 - sY184 - 2 - 0 - sY209 - 0 - sY225 - 3 - 1024 - 20 - 20 - 20)))))))))))))))))))))))))))))))))))))))))))))))))))))))))))))))))))))))))))))))))))))))))))))))))))))))))))))))))))))))))))))))))))
theorem tX0_init {Γ : jG} {n : Nat} {K : Nat → pKd} {G : pG} {A : pA} {Lg : pL} {kc ks : Nat} (a0 : Nat)  (Q : Nat → (Nat → pKd) → pA → pL → pG → Prop) (h : fX0_init a0 n K A Lg G kc ks Q) : jMet Γ yX0_init cX0_init 2 none [] 5 kc ks [.ref a0] (n, K, A, Lg, G) (fun o u => ∃ (n' : Nat) (K' : Nat → pKd) (A' : pA) (Lg' : pL) (G' : pG), o = .inl none ∧ u = (n', K', A', Lg', G') ∧ Q n' K' A' Lg' G') := by
  unfold fX0_init at h
  obtain ⟨P, hP⟩ : ∃ P : jO → pS → Prop, P = (fun o u => ∃ (n' : Nat) (K' : Nat → pKd) (A' : pA) (Lg' : pL) (G' : pG), o = .inl none ∧ u = (n', K', A', Lg', G') ∧ Q n' K' A' Lg' G') := ⟨_, rfl⟩
  rw [← hP]
  refine jMet_of rfl rfl rfl (Nat.le_of_ble_eq_true rfl) ?_
  show J Γ RX0 cX0_init 2 none "<init>" [] 5 kc ks 0 [(0, .ref a0)] [] (n, K, A, Lg, G) P
  refine j_aload_n 0 rfl dX0_init_0 ?_
  obtain ⟨hn6, h⟩ := h
  obtain ⟨la0, h⟩ := h
  refine j_objInit (b := a0) (st := []) q164 q165 q166 (j_l2 hn6 la0) (Nat.le_of_ble_eq_true rfl) (by decide) dX0_init_1 ?_
  refine j_aload_n 0 rfl dX0_init_4 ?_
  obtain ⟨b31, h⟩ := h
  obtain ⟨b32, h⟩ := h
  refine j_newE cn_X0_16 b31 b32 dX0_init_5 (fun K27 A28 L29 G30 eK27 eA28 eL29 eG30 => ?_)
  replace h := h K27 A28 L29 G30 eK27 eA28 eL29 eG30
  have b33 : n < (n + 1) := (by omega)
  have b34 : K27 n = .inl 1 := (by rw [eK27]; exact pkup_self)
  refine j_dup rfl dX0_init_8 ?_
  obtain ⟨kY35, sY36, kY35h, sY36h, h⟩ := h
  obtain ⟨hn6, h⟩ := h
  refine j_callI (b := n) (As := []) (st := [.ref n, .ref a0]) (kc' := kc - 1 - kY35) (ks' := ks - 8 - sY36) (tX1_init  n _ h) myX1_init rfl q206 q207 (j_l2 hn6 b33) rfl (Nat.le_of_ble_eq_true rfl) rfl (by decide) (by omega) (by omega) dX0_init_9 (fun v9 u9 hq => ?_) (fun k9 u9 hq => by obtain ⟨_, _, _, _, _, e9, _⟩ := hq; cases e9)
  obtain ⟨n37, K38, A39, Lg40, G41, e9, rfl, h⟩ := hq
  obtain rfl := Sum.inl.inj e9
  show J Γ RX0 cX0_init 2 none "<init>" [] 5 (kc - 1 - kY35) (ks - 8 - sY36) 12 [(0, .ref a0)] [.ref n, .ref a0] (n37, K38, A39, Lg40, G41) P
  obtain ⟨la0, h⟩ := h
  obtain ⟨ha0, h⟩ := h
  refine j_putfrE (fp_i_X0_19_0 _ rfl) rfl (Or.inl ⟨_, rfl⟩) (Or.inr ⟨_, rfl⟩) la0 ha0 dX0_init_12 (fun G42 eG42 => ?_)
  replace h := h G42 eG42
  refine j_aload_n 0 rfl dX0_init_15 ?_
  obtain ⟨b47, h⟩ := h
  obtain ⟨b48, h⟩ := h
  refine j_newE cn_X0_25 b47 b48 dX0_init_16 (fun K43 A44 L45 G46 eK43 eA44 eL45 eG46 => ?_)
  replace h := h K43 A44 L45 G46 eK43 eA44 eL45 eG46
  have b49 : n37 < (n37 + 1) := (by omega)
  have b50 : K43 n37 = .inl 2 := (by rw [eK43]; exact pkup_self)
  refine j_dup rfl dX0_init_19 ?_
  obtain ⟨kY51, sY52, kY51h, sY52h, h⟩ := h
  obtain ⟨hn6, h⟩ := h
  refine j_callIN (b := n37) (As := []) (st := [.ref n37, .ref a0]) (kc' := kc - 1 - kY35 - 1 - kY51) (ks' := ks - 8 - sY36 - 8 - sY52) (host := "DogsHour") (tX2_init  n37 _ h) myX2_init rfl (by decide) q244 (j_l2 hn6 b49) rfl (Nat.le_of_ble_eq_true rfl) rfl (by decide) (by omega) (by omega) dX0_init_20 (fun v9 u9 hq => ?_) (fun k9 u9 hq => by obtain ⟨_, _, _, _, _, e9, _⟩ := hq; cases e9)
  obtain ⟨n53, K54, A55, Lg56, G57, e9, rfl, h⟩ := hq
  obtain rfl := Sum.inl.inj e9
  show J Γ RX0 cX0_init 2 none "<init>" [] 5 (kc - 1 - kY35 - 1 - kY51) (ks - 8 - sY36 - 8 - sY52) 23 [(0, .ref a0)] [.ref n37, .ref a0] (n53, K54, A55, Lg56, G57) P
  obtain ⟨la0, h⟩ := h
  obtain ⟨ha0, h⟩ := h
  refine j_putfrE (fp_i_X0_28_0 _ rfl) rfl (Or.inl ⟨_, rfl⟩) (Or.inr ⟨_, rfl⟩) la0 ha0 dX0_init_23 (fun G58 eG58 => ?_)
  replace h := h G58 eG58
  refine j_aload_n 0 rfl dX0_init_26 ?_
  obtain ⟨b63, h⟩ := h
  obtain ⟨b64, h⟩ := h
  refine j_newE cn_X0_32 b63 b64 dX0_init_27 (fun K59 A60 L61 G62 eK59 eA60 eL61 eG62 => ?_)
  replace h := h K59 A60 L61 G62 eK59 eA60 eL61 eG62
  have b65 : n53 < (n53 + 1) := (by omega)
  have b66 : K59 n53 = .inl 3 := (by rw [eK59]; exact pkup_self)
  refine j_dup rfl dX0_init_30 ?_
  refine j_aload_n 0 rfl dX0_init_31 ?_
  obtain ⟨e67, e67h, h⟩ := h
  obtain ⟨la0, h⟩ := h
  obtain ⟨ha0, h⟩ := h
  refine j_getfr fl_X0_28_0 rfl la0 ha0 e67h dX0_init_32 ?_
  refine j_aload_n 0 rfl dX0_init_35 ?_
  obtain ⟨e68, e68h, h⟩ := h
  refine j_getfr fl_X0_19_0 rfl la0 ha0 e68h dX0_init_36 ?_
  obtain ⟨kY69, sY70, kY69h, sY70h, h⟩ := h
  obtain ⟨hn6, h⟩ := h
  refine j_callI (b := n53) (As := [.ref e67, .ref e68]) (st := [.ref n53, .ref a0]) (kc' := kc - 1 - kY35 - 1 - kY51 - 1 - kY69) (ks' := ks - 8 - sY36 - 8 - sY52 - 7 - sY70) (tX3_init  n53 e67 e68 _ h) myX3_init rfl q305 q306 (j_l2 hn6 b65) rfl (Nat.le_of_ble_eq_true rfl) rfl (by decide) (by omega) (by omega) dX0_init_39 (fun v9 u9 hq => ?_) (fun k9 u9 hq => by obtain ⟨_, _, _, _, _, e9, _⟩ := hq; cases e9)
  obtain ⟨n71, K72, A73, Lg74, G75, e9, rfl, h⟩ := hq
  obtain rfl := Sum.inl.inj e9
  show J Γ RX0 cX0_init 2 none "<init>" [] 5 (kc - 1 - kY35 - 1 - kY51 - 1 - kY69) (ks - 8 - sY36 - 8 - sY52 - 7 - sY70) 42 [(0, .ref a0)] [.ref n53, .ref a0] (n71, K72, A73, Lg74, G75) P
  obtain ⟨la0, h⟩ := h
  obtain ⟨ha0, h⟩ := h
  refine j_putfrE (fp_i_X0_37_0 _ rfl) rfl (Or.inl ⟨_, rfl⟩) (Or.inr ⟨_, rfl⟩) la0 ha0 dX0_init_42 (fun G76 eG76 => ?_)
  replace h := h G76 eG76
  refine j_aload_n 0 rfl dX0_init_45 ?_
  obtain ⟨b81, h⟩ := h
  obtain ⟨b82, h⟩ := h
  refine j_newE cn_X0_41 b81 b82 dX0_init_46 (fun K77 A78 L79 G80 eK77 eA78 eL79 eG80 => ?_)
  replace h := h K77 A78 L79 G80 eK77 eA78 eL79 eG80
  have b83 : n71 < (n71 + 1) := (by omega)
  have b84 : K77 n71 = .inl 4 := (by rw [eK77]; exact pkup_self)
  refine j_dup rfl dX0_init_49 ?_
  obtain ⟨kY85, sY86, kY85h, sY86h, h⟩ := h
  obtain ⟨hn6, h⟩ := h
  refine j_callIN (b := n71) (As := []) (st := [.ref n71, .ref a0]) (kc' := kc - 1 - kY35 - 1 - kY51 - 1 - kY69 - 1 - kY85) (ks' := ks - 8 - sY36 - 8 - sY52 - 7 - sY70 - 12 - sY86) (host := "DogsHour") (tX4_init  n71 _ h) myX4_init rfl (by decide) q334 (j_l2 hn6 b83) rfl (Nat.le_of_ble_eq_true rfl) rfl (by decide) (by omega) (by omega) dX0_init_50 (fun v9 u9 hq => ?_) (fun k9 u9 hq => by obtain ⟨_, _, _, _, _, e9, _⟩ := hq; cases e9)
  obtain ⟨n87, K88, A89, Lg90, G91, e9, rfl, h⟩ := hq
  obtain rfl := Sum.inl.inj e9
  show J Γ RX0 cX0_init 2 none "<init>" [] 5 (kc - 1 - kY35 - 1 - kY51 - 1 - kY69 - 1 - kY85) (ks - 8 - sY36 - 8 - sY52 - 7 - sY70 - 12 - sY86) 53 [(0, .ref a0)] [.ref n71, .ref a0] (n87, K88, A89, Lg90, G91) P
  obtain ⟨la0, h⟩ := h
  obtain ⟨ha0, h⟩ := h
  refine j_putfrE (fp_i_X0_44_0 _) rfl (Or.inl ⟨_, rfl⟩) (Or.inr ⟨_, rfl⟩) la0 ha0 dX0_init_53 (fun G92 eG92 => ?_)
  replace h := h G92 eG92
  refine j_aload_n 0 rfl dX0_init_56 ?_
  refine j_iconst (v := (-1)) dX0_init_57 (by decide) ?_
  refine j_putfiE (fp_i_X0_48_0 _) rfl rfl rfl la0 ha0 dX0_init_58 (fun A93 eA93 => ?_)
  replace h := h A93 eA93
  refine j_aload_n 0 rfl dX0_init_61 ?_
  obtain ⟨b98, h⟩ := h
  obtain ⟨b99, h⟩ := h
  refine j_newE cn_X0_52 b98 b99 dX0_init_62 (fun K94 A95 L96 G97 eK94 eA95 eL96 eG97 => ?_)
  replace h := h K94 A95 L96 G97 eK94 eA95 eL96 eG97
  have b100 : n87 < (n87 + 1) := (by omega)
  have b101 : K94 n87 = .inl 5 := (by rw [eK94]; exact pkup_self)
  refine j_dup rfl dX0_init_65 ?_
  obtain ⟨kY102, sY103, kY102h, sY103h, h⟩ := h
  obtain ⟨hn6, h⟩ := h
  refine j_callIN (b := n87) (As := []) (st := [.ref n87, .ref a0]) (kc' := kc - 1 - kY35 - 1 - kY51 - 1 - kY69 - 1 - kY85 - 1 - kY102) (ks' := ks - 8 - sY36 - 8 - sY52 - 7 - sY70 - 12 - sY86 - 14 - sY103) (host := "DogsHour") (tX5_init  n87 _ h) myX5_init rfl (by decide) q435 (j_l2 hn6 b100) rfl (Nat.le_of_ble_eq_true rfl) rfl (by decide) (by omega) (by omega) dX0_init_66 (fun v9 u9 hq => ?_) (fun k9 u9 hq => by obtain ⟨_, _, _, _, _, e9, _⟩ := hq; cases e9)
  obtain ⟨n104, K105, A106, Lg107, G108, e9, rfl, h⟩ := hq
  obtain rfl := Sum.inl.inj e9
  show J Γ RX0 cX0_init 2 none "<init>" [] 5 (kc - 1 - kY35 - 1 - kY51 - 1 - kY69 - 1 - kY85 - 1 - kY102) (ks - 8 - sY36 - 8 - sY52 - 7 - sY70 - 12 - sY86 - 14 - sY103) 69 [(0, .ref a0)] [.ref n87, .ref a0] (n104, K105, A106, Lg107, G108) P
  obtain ⟨la0, h⟩ := h
  obtain ⟨ha0, h⟩ := h
  refine j_putfrE (fp_i_X0_55_0 _ rfl) rfl (Or.inl ⟨_, rfl⟩) (Or.inr ⟨_, rfl⟩) la0 ha0 dX0_init_69 (fun G109 eG109 => ?_)
  replace h := h G109 eG109
  refine j_aload_n 0 rfl dX0_init_72 ?_
  obtain ⟨b114, h⟩ := h
  obtain ⟨b115, h⟩ := h
  refine j_newE cn_X0_52 b114 b115 dX0_init_73 (fun K110 A111 L112 G113 eK110 eA111 eL112 eG113 => ?_)
  replace h := h K110 A111 L112 G113 eK110 eA111 eL112 eG113
  have b116 : n104 < (n104 + 1) := (by omega)
  have b117 : K110 n104 = .inl 5 := (by rw [eK110]; exact pkup_self)
  refine j_dup rfl dX0_init_76 ?_
  obtain ⟨kY118, sY119, kY118h, sY119h, h⟩ := h
  obtain ⟨hn6, h⟩ := h
  refine j_callIN (b := n104) (As := []) (st := [.ref n104, .ref a0]) (kc' := kc - 1 - kY35 - 1 - kY51 - 1 - kY69 - 1 - kY85 - 1 - kY102 - 1 - kY118) (ks' := ks - 8 - sY36 - 8 - sY52 - 7 - sY70 - 12 - sY86 - 14 - sY103 - 14 - sY119) (host := "DogsHour") (tX5_init  n104 _ h) myX5_init rfl (by decide) q435 (j_l2 hn6 b116) rfl (Nat.le_of_ble_eq_true rfl) rfl (by decide) (by omega) (by omega) dX0_init_77 (fun v9 u9 hq => ?_) (fun k9 u9 hq => by obtain ⟨_, _, _, _, _, e9, _⟩ := hq; cases e9)
  obtain ⟨n120, K121, A122, Lg123, G124, e9, rfl, h⟩ := hq
  obtain rfl := Sum.inl.inj e9
  show J Γ RX0 cX0_init 2 none "<init>" [] 5 (kc - 1 - kY35 - 1 - kY51 - 1 - kY69 - 1 - kY85 - 1 - kY102 - 1 - kY118) (ks - 8 - sY36 - 8 - sY52 - 7 - sY70 - 12 - sY86 - 14 - sY103 - 14 - sY119) 80 [(0, .ref a0)] [.ref n104, .ref a0] (n120, K121, A122, Lg123, G124) P
  obtain ⟨la0, h⟩ := h
  obtain ⟨ha0, h⟩ := h
  refine j_putfrE (fp_i_X0_59_0 _ rfl) rfl (Or.inl ⟨_, rfl⟩) (Or.inr ⟨_, rfl⟩) la0 ha0 dX0_init_80 (fun G125 eG125 => ?_)
  replace h := h G125 eG125
  refine j_aload_n 0 rfl dX0_init_83 ?_
  refine j_bipush (v := 40) dX0_init_84 (by decide) ?_
  obtain ⟨b126, h⟩ := h
  obtain ⟨b127, h⟩ := h
  refine j_anewE (t := 9) (N := 40) rfl rfl q432 (by decide) (by decide) (by decide) (by decide) b126 b127 dX0_init_86 (fun K128 A129 L130 G131 eK128 eA129 eL130 eG131 => ?_)
  replace h := h K128 A129 L130 G131 eK128 eA129 eL130 eG131
  have b132 : n120 < (n120 + 1) := (by omega)
  have b133 : K128 n120 = .inr (9, 40) := (by rw [eK128]; exact pkup_self)
  obtain ⟨la0, h⟩ := h
  obtain ⟨ha0, h⟩ := h
  refine j_putfrE (fp_i_X0_62_0 _ rfl) rfl (Or.inr ⟨_, rfl⟩) (Or.inr ⟨_, rfl⟩) la0 ha0 dX0_init_89 (fun G134 eG134 => ?_)
  replace h := h G134 eG134
  refine j_aload_n 0 rfl dX0_init_92 ?_
  refine j_iconst (v := 3) dX0_init_93 (by decide) ?_
  obtain ⟨b135, h⟩ := h
  obtain ⟨b136, h⟩ := h
  refine j_anewE (t := 9) (N := 3) rfl rfl q432 (by decide) (by decide) (by decide) (by decide) b135 b136 dX0_init_94 (fun K137 A138 L139 G140 eK137 eA138 eL139 eG140 => ?_)
  replace h := h K137 A138 L139 G140 eK137 eA138 eL139 eG140
  have b141 : (n120 + 1) < (n120 + 1 + 1) := (by omega)
  have b142 : K137 (n120 + 1) = .inr (9, 3) := (by rw [eK137]; exact pkup_self)
  refine j_dup rfl dX0_init_97 ?_
  refine j_iconst (v := 0) dX0_init_98 (by decide) ?_
  obtain ⟨b147, h⟩ := h
  obtain ⟨b148, h⟩ := h
  refine j_newE cn_X0_52 b147 b148 dX0_init_99 (fun K143 A144 L145 G146 eK143 eA144 eL145 eG146 => ?_)
  replace h := h K143 A144 L145 G146 eK143 eA144 eL145 eG146
  have b149 : (n120 + 1 + 1) < (n120 + 1 + 1 + 1) := (by omega)
  have b150 : K143 (n120 + 1 + 1) = .inl 5 := (by rw [eK143]; exact pkup_self)
  refine j_dup rfl dX0_init_102 ?_
  obtain ⟨kY151, sY152, kY151h, sY152h, h⟩ := h
  obtain ⟨hn6, h⟩ := h
  refine j_callIN (b := (n120 + 1 + 1)) (As := []) (st := [.ref (n120 + 1 + 1), .int 0, .ref (n120 + 1), .ref (n120 + 1), .ref a0]) (kc' := kc - 1 - kY35 - 1 - kY51 - 1 - kY69 - 1 - kY85 - 1 - kY102 - 1 - kY118 - 1 - 1 - 1 - kY151) (ks' := ks - 8 - sY36 - 8 - sY52 - 7 - sY70 - 12 - sY86 - 14 - sY103 - 14 - sY119 - 40 - 3 - 14 - sY152) (host := "DogsHour") (tX5_init  (n120 + 1 + 1) _ h) myX5_init rfl (by decide) q435 (j_l2 hn6 b149) rfl (Nat.le_of_ble_eq_true rfl) rfl (by decide) (by omega) (by omega) dX0_init_103 (fun v9 u9 hq => ?_) (fun k9 u9 hq => by obtain ⟨_, _, _, _, _, e9, _⟩ := hq; cases e9)
  obtain ⟨n153, K154, A155, Lg156, G157, e9, rfl, h⟩ := hq
  obtain rfl := Sum.inl.inj e9
  show J Γ RX0 cX0_init 2 none "<init>" [] 5 (kc - 1 - kY35 - 1 - kY51 - 1 - kY69 - 1 - kY85 - 1 - kY102 - 1 - kY118 - 1 - 1 - 1 - kY151) (ks - 8 - sY36 - 8 - sY52 - 7 - sY70 - 12 - sY86 - 14 - sY103 - 14 - sY119 - 40 - 3 - 14 - sY152) 106 [(0, .ref a0)] [.ref (n120 + 1 + 1), .int 0, .ref (n120 + 1), .ref (n120 + 1), .ref a0] (n153, K154, A155, Lg156, G157) P
  obtain ⟨hn6, h⟩ := h
  obtain ⟨b149, h⟩ := h
  obtain ⟨b150, h⟩ := h
  obtain ⟨b141, h⟩ := h
  obtain ⟨b142, h⟩ := h
  refine j_aastE (t := 9) (j := 0) (C := "DogsHour$Town") rfl rfl b141 b142 (by unfold vp_in; decide) rfl (j_l2 hn6 b149) (fun s9 H9 hK9 hR9 h69 => jIs_in hK9 hR9 h69 b149 b150 rfl) (Or.inl rfl) dX0_init_106 (fun G158 eG158 => ?_)
  replace h := h G158 eG158
  refine j_dup rfl dX0_init_107 ?_
  refine j_iconst (v := 1) dX0_init_108 (by decide) ?_
  obtain ⟨b163, h⟩ := h
  obtain ⟨b164, h⟩ := h
  refine j_newE cn_X0_52 b163 b164 dX0_init_109 (fun K159 A160 L161 G162 eK159 eA160 eL161 eG162 => ?_)
  replace h := h K159 A160 L161 G162 eK159 eA160 eL161 eG162
  have b165 : n153 < (n153 + 1) := (by omega)
  have b166 : K159 n153 = .inl 5 := (by rw [eK159]; exact pkup_self)
  refine j_dup rfl dX0_init_112 ?_
  obtain ⟨kY167, sY168, kY167h, sY168h, h⟩ := h
  obtain ⟨hn6, h⟩ := h
  refine j_callIN (b := n153) (As := []) (st := [.ref n153, .int 1, .ref (n120 + 1), .ref (n120 + 1), .ref a0]) (kc' := kc - 1 - kY35 - 1 - kY51 - 1 - kY69 - 1 - kY85 - 1 - kY102 - 1 - kY118 - 1 - 1 - 1 - kY151 - 1 - kY167) (ks' := ks - 8 - sY36 - 8 - sY52 - 7 - sY70 - 12 - sY86 - 14 - sY103 - 14 - sY119 - 40 - 3 - 14 - sY152 - 14 - sY168) (host := "DogsHour") (tX5_init  n153 _ h) myX5_init rfl (by decide) q435 (j_l2 hn6 b165) rfl (Nat.le_of_ble_eq_true rfl) rfl (by decide) (by omega) (by omega) dX0_init_113 (fun v9 u9 hq => ?_) (fun k9 u9 hq => by obtain ⟨_, _, _, _, _, e9, _⟩ := hq; cases e9)
  obtain ⟨n169, K170, A171, Lg172, G173, e9, rfl, h⟩ := hq
  obtain rfl := Sum.inl.inj e9
  show J Γ RX0 cX0_init 2 none "<init>" [] 5 (kc - 1 - kY35 - 1 - kY51 - 1 - kY69 - 1 - kY85 - 1 - kY102 - 1 - kY118 - 1 - 1 - 1 - kY151 - 1 - kY167) (ks - 8 - sY36 - 8 - sY52 - 7 - sY70 - 12 - sY86 - 14 - sY103 - 14 - sY119 - 40 - 3 - 14 - sY152 - 14 - sY168) 116 [(0, .ref a0)] [.ref n153, .int 1, .ref (n120 + 1), .ref (n120 + 1), .ref a0] (n169, K170, A171, Lg172, G173) P
  obtain ⟨hn6, h⟩ := h
  obtain ⟨b165, h⟩ := h
  obtain ⟨b166, h⟩ := h
  obtain ⟨b141, h⟩ := h
  obtain ⟨b142, h⟩ := h
  refine j_aastE (t := 9) (j := 1) (C := "DogsHour$Town") rfl rfl b141 b142 (by unfold vp_in; decide) rfl (j_l2 hn6 b165) (fun s9 H9 hK9 hR9 h69 => jIs_in hK9 hR9 h69 b165 b166 rfl) (Or.inl rfl) dX0_init_116 (fun G174 eG174 => ?_)
  replace h := h G174 eG174
  refine j_dup rfl dX0_init_117 ?_
  refine j_iconst (v := 2) dX0_init_118 (by decide) ?_
  obtain ⟨b179, h⟩ := h
  obtain ⟨b180, h⟩ := h
  refine j_newE cn_X0_52 b179 b180 dX0_init_119 (fun K175 A176 L177 G178 eK175 eA176 eL177 eG178 => ?_)
  replace h := h K175 A176 L177 G178 eK175 eA176 eL177 eG178
  have b181 : n169 < (n169 + 1) := (by omega)
  have b182 : K175 n169 = .inl 5 := (by rw [eK175]; exact pkup_self)
  refine j_dup rfl dX0_init_122 ?_
  obtain ⟨kY183, sY184, kY183h, sY184h, h⟩ := h
  obtain ⟨hn6, h⟩ := h
  refine j_callIN (b := n169) (As := []) (st := [.ref n169, .int 2, .ref (n120 + 1), .ref (n120 + 1), .ref a0]) (kc' := kc - 1 - kY35 - 1 - kY51 - 1 - kY69 - 1 - kY85 - 1 - kY102 - 1 - kY118 - 1 - 1 - 1 - kY151 - 1 - kY167 - 1 - kY183) (ks' := ks - 8 - sY36 - 8 - sY52 - 7 - sY70 - 12 - sY86 - 14 - sY103 - 14 - sY119 - 40 - 3 - 14 - sY152 - 14 - sY168 - 14 - sY184) (host := "DogsHour") (tX5_init  n169 _ h) myX5_init rfl (by decide) q435 (j_l2 hn6 b181) rfl (Nat.le_of_ble_eq_true rfl) rfl (by decide) (by omega) (by omega) dX0_init_123 (fun v9 u9 hq => ?_) (fun k9 u9 hq => by obtain ⟨_, _, _, _, _, e9, _⟩ := hq; cases e9)
  obtain ⟨n185, K186, A187, Lg188, G189, e9, rfl, h⟩ := hq
  obtain rfl := Sum.inl.inj e9
  show J Γ RX0 cX0_init 2 none "<init>" [] 5 (kc - 1 - kY35 - 1 - kY51 - 1 - kY69 - 1 - kY85 - 1 - kY102 - 1 - kY118 - 1 - 1 - 1 - kY151 - 1 - kY167 - 1 - kY183) (ks - 8 - sY36 - 8 - sY52 - 7 - sY70 - 12 - sY86 - 14 - sY103 - 14 - sY119 - 40 - 3 - 14 - sY152 - 14 - sY168 - 14 - sY184) 126 [(0, .ref a0)] [.ref n169, .int 2, .ref (n120 + 1), .ref (n120 + 1), .ref a0] (n185, K186, A187, Lg188, G189) P
  obtain ⟨hn6, h⟩ := h
  obtain ⟨b181, h⟩ := h
  obtain ⟨b182, h⟩ := h
  obtain ⟨b141, h⟩ := h
  obtain ⟨b142, h⟩ := h
  refine j_aastE (t := 9) (j := 2) (C := "DogsHour$Town") rfl rfl b141 b142 (by unfold vp_in; decide) rfl (j_l2 hn6 b181) (fun s9 H9 hK9 hR9 h69 => jIs_in hK9 hR9 h69 b181 b182 rfl) (Or.inl rfl) dX0_init_126 (fun G190 eG190 => ?_)
  replace h := h G190 eG190
  obtain ⟨la0, h⟩ := h
  obtain ⟨ha0, h⟩ := h
  refine j_putfrE (fp_i_X0_66_0 _ rfl) rfl (Or.inr ⟨_, rfl⟩) (Or.inr ⟨_, rfl⟩) la0 ha0 dX0_init_127 (fun G191 eG191 => ?_)
  replace h := h G191 eG191
  refine j_aload_n 0 rfl dX0_init_130 ?_
  refine j_iconst (v := 2) dX0_init_131 (by decide) ?_
  obtain ⟨b192, h⟩ := h
  obtain ⟨b193, h⟩ := h
  refine j_anewE (t := 10) (N := 2) rfl rfl q511 (by decide) (by decide) (by decide) (by decide) b192 b193 dX0_init_132 (fun K194 A195 L196 G197 eK194 eA195 eL196 eG197 => ?_)
  replace h := h K194 A195 L196 G197 eK194 eA195 eL196 eG197
  have b198 : n185 < (n185 + 1) := (by omega)
  have b199 : K194 n185 = .inr (10, 2) := (by rw [eK194]; exact pkup_self)
  refine j_dup rfl dX0_init_135 ?_
  refine j_iconst (v := 0) dX0_init_136 (by decide) ?_
  obtain ⟨b204, h⟩ := h
  obtain ⟨b205, h⟩ := h
  refine j_newE cn_X0_71 b204 b205 dX0_init_137 (fun K200 A201 L202 G203 eK200 eA201 eL202 eG203 => ?_)
  replace h := h K200 A201 L202 G203 eK200 eA201 eL202 eG203
  have b206 : (n185 + 1) < (n185 + 1 + 1) := (by omega)
  have b207 : K200 (n185 + 1) = .inl 7 := (by rw [eK200]; exact pkup_self)
  refine j_dup rfl dX0_init_140 ?_
  obtain ⟨kY208, sY209, kY208h, sY209h, h⟩ := h
  obtain ⟨hn6, h⟩ := h
  refine j_callIN (b := (n185 + 1)) (As := []) (st := [.ref (n185 + 1), .int 0, .ref n185, .ref n185, .ref a0]) (kc' := kc - 1 - kY35 - 1 - kY51 - 1 - kY69 - 1 - kY85 - 1 - kY102 - 1 - kY118 - 1 - 1 - 1 - kY151 - 1 - kY167 - 1 - kY183 - 1 - 1 - kY208) (ks' := ks - 8 - sY36 - 8 - sY52 - 7 - sY70 - 12 - sY86 - 14 - sY103 - 14 - sY119 - 40 - 3 - 14 - sY152 - 14 - sY168 - 14 - sY184 - 2 - 0 - sY209) (host := "DogsHour") (tX8_init  (n185 + 1) _ h) myX8_init rfl (by decide) q516 (j_l2 hn6 b206) rfl (Nat.le_of_ble_eq_true rfl) rfl (by decide) (by omega) (by omega) dX0_init_141 (fun v9 u9 hq => ?_) (fun k9 u9 hq => by obtain ⟨_, _, _, _, _, e9, _⟩ := hq; cases e9)
  obtain ⟨n210, K211, A212, Lg213, G214, e9, rfl, h⟩ := hq
  obtain rfl := Sum.inl.inj e9
  show J Γ RX0 cX0_init 2 none "<init>" [] 5 (kc - 1 - kY35 - 1 - kY51 - 1 - kY69 - 1 - kY85 - 1 - kY102 - 1 - kY118 - 1 - 1 - 1 - kY151 - 1 - kY167 - 1 - kY183 - 1 - 1 - kY208) (ks - 8 - sY36 - 8 - sY52 - 7 - sY70 - 12 - sY86 - 14 - sY103 - 14 - sY119 - 40 - 3 - 14 - sY152 - 14 - sY168 - 14 - sY184 - 2 - 0 - sY209) 144 [(0, .ref a0)] [.ref (n185 + 1), .int 0, .ref n185, .ref n185, .ref a0] (n210, K211, A212, Lg213, G214) P
  obtain ⟨hn6, h⟩ := h
  obtain ⟨b206, h⟩ := h
  obtain ⟨b207, h⟩ := h
  obtain ⟨b198, h⟩ := h
  obtain ⟨b199, h⟩ := h
  refine j_aastE (t := 10) (j := 0) (C := "DogsHour$Peace") rfl rfl b198 b199 (by unfold vp_in; decide) rfl (j_l2 hn6 b206) (fun s9 H9 hK9 hR9 h69 => jIs_in hK9 hR9 h69 b206 b207 rfl) (Or.inr (by decide)) dX0_init_144 (fun G215 eG215 => ?_)
  replace h := h G215 eG215
  refine j_dup rfl dX0_init_145 ?_
  refine j_iconst (v := 1) dX0_init_146 (by decide) ?_
  obtain ⟨b220, h⟩ := h
  obtain ⟨b221, h⟩ := h
  refine j_newE cn_X0_74 b220 b221 dX0_init_147 (fun K216 A217 L218 G219 eK216 eA217 eL218 eG219 => ?_)
  replace h := h K216 A217 L218 G219 eK216 eA217 eL218 eG219
  have b222 : n210 < (n210 + 1) := (by omega)
  have b223 : K216 n210 = .inl 8 := (by rw [eK216]; exact pkup_self)
  refine j_dup rfl dX0_init_150 ?_
  obtain ⟨kY224, sY225, kY224h, sY225h, h⟩ := h
  obtain ⟨hn6, h⟩ := h
  refine j_callIN (b := n210) (As := []) (st := [.ref n210, .int 1, .ref n185, .ref n185, .ref a0]) (kc' := kc - 1 - kY35 - 1 - kY51 - 1 - kY69 - 1 - kY85 - 1 - kY102 - 1 - kY118 - 1 - 1 - 1 - kY151 - 1 - kY167 - 1 - kY183 - 1 - 1 - kY208 - 1 - kY224) (ks' := ks - 8 - sY36 - 8 - sY52 - 7 - sY70 - 12 - sY86 - 14 - sY103 - 14 - sY119 - 40 - 3 - 14 - sY152 - 14 - sY168 - 14 - sY184 - 2 - 0 - sY209 - 0 - sY225) (host := "DogsHour") (tX9_init  n210 _ h) myX9_init rfl (by decide) q526 (j_l2 hn6 b222) rfl (Nat.le_of_ble_eq_true rfl) rfl (by decide) (by omega) (by omega) dX0_init_151 (fun v9 u9 hq => ?_) (fun k9 u9 hq => by obtain ⟨_, _, _, _, _, e9, _⟩ := hq; cases e9)
  obtain ⟨n226, K227, A228, Lg229, G230, e9, rfl, h⟩ := hq
  obtain rfl := Sum.inl.inj e9
  show J Γ RX0 cX0_init 2 none "<init>" [] 5 (kc - 1 - kY35 - 1 - kY51 - 1 - kY69 - 1 - kY85 - 1 - kY102 - 1 - kY118 - 1 - 1 - 1 - kY151 - 1 - kY167 - 1 - kY183 - 1 - 1 - kY208 - 1 - kY224) (ks - 8 - sY36 - 8 - sY52 - 7 - sY70 - 12 - sY86 - 14 - sY103 - 14 - sY119 - 40 - 3 - 14 - sY152 - 14 - sY168 - 14 - sY184 - 2 - 0 - sY209 - 0 - sY225) 154 [(0, .ref a0)] [.ref n210, .int 1, .ref n185, .ref n185, .ref a0] (n226, K227, A228, Lg229, G230) P
  obtain ⟨hn6, h⟩ := h
  obtain ⟨b222, h⟩ := h
  obtain ⟨b223, h⟩ := h
  obtain ⟨b198, h⟩ := h
  obtain ⟨b199, h⟩ := h
  refine j_aastE (t := 10) (j := 1) (C := "DogsHour$Hunt") rfl rfl b198 b199 (by unfold vp_in; decide) rfl (j_l2 hn6 b222) (fun s9 H9 hK9 hR9 h69 => jIs_in hK9 hR9 h69 b222 b223 rfl) (Or.inr (by decide)) dX0_init_154 (fun G231 eG231 => ?_)
  replace h := h G231 eG231
  obtain ⟨la0, h⟩ := h
  obtain ⟨ha0, h⟩ := h
  refine j_putfrE (fp_i_X0_77_0 _ rfl) rfl (Or.inr ⟨_, rfl⟩) (Or.inr ⟨_, rfl⟩) la0 ha0 dX0_init_155 (fun G232 eG232 => ?_)
  replace h := h G232 eG232
  refine j_aload_n 0 rfl dX0_init_158 ?_
  refine j_iconst (v := 3) dX0_init_159 (by decide) ?_
  obtain ⟨b233, h⟩ := h
  obtain ⟨b234, h⟩ := h
  refine j_newaE (t := 3) (N := 3) rfl rfl q610 (fun _ _ h9 => h9) rfl (by decide) (by decide) (by decide) b233 b234 dX0_init_160 (fun K235 A236 L237 G238 eK235 eA236 eL237 eG238 => ?_)
  replace h := h K235 A236 L237 G238 eK235 eA236 eL237 eG238
  have b239 : n226 < (n226 + 1) := (by omega)
  have b240 : K235 n226 = .inr (3, 3) := (by rw [eK235]; exact pkup_self)
  obtain ⟨la0, h⟩ := h
  obtain ⟨ha0, h⟩ := h
  refine j_putfrE (fp_i_X0_81_0 _ rfl) rfl (Or.inr ⟨_, rfl⟩) (Or.inr ⟨_, rfl⟩) la0 ha0 dX0_init_162 (fun G241 eG241 => ?_)
  replace h := h G241 eG241
  refine j_aload_n 0 rfl dX0_init_165 ?_
  refine j_sipush (v := 128) dX0_init_166 (by decide) ?_
  refine j_bipush (v := 7) dX0_init_169 (by decide) ?_
  obtain ⟨b242, h⟩ := h
  obtain ⟨b243, h⟩ := h
  refine j_multiE (N := 128) (M := 7) q530 q431 (by decide) (by decide) (by decide) (by decide) (by decide) (by decide) b242 b243 dX0_init_171 (fun K244 A245 L246 G247 eK244 eA245 eL246 eG247 => ?_)
  replace h := h K244 A245 L246 G247 eK244 eA245 eL246 eG247
  have b248 : (n226 + 1) < (n226 + 1 + 1 + 128) := (by omega)
  have b249 : K244 (n226 + 1) = .inr (11, 128) := (by rw [eK244]; exact if_pos rfl)
  obtain ⟨la0, h⟩ := h
  obtain ⟨ha0, h⟩ := h
  refine j_putfrE (fp_i_X0_87_0 _ rfl) rfl (Or.inr ⟨_, rfl⟩) (Or.inr ⟨_, rfl⟩) la0 ha0 dX0_init_175 (fun G250 eG250 => ?_)
  replace h := h G250 eG250
  refine j_aload_n 0 rfl dX0_init_178 ?_
  refine j_bipush (v := 20) dX0_init_179 (by decide) ?_
  obtain ⟨b251, h⟩ := h
  obtain ⟨b252, h⟩ := h
  refine j_newaE (t := 0) (N := 20) rfl rfl q431 (fun _ _ h9 => h9) rfl (by decide) (by decide) (by decide) b251 b252 dX0_init_181 (fun K253 A254 L255 G256 eK253 eA254 eL255 eG256 => ?_)
  replace h := h K253 A254 L255 G256 eK253 eA254 eL255 eG256
  have b257 : (n226 + 1 + 1 + 128) < (n226 + 1 + 1 + 128 + 1) := (by omega)
  have b258 : K253 (n226 + 1 + 1 + 128) = .inr (0, 20) := (by rw [eK253]; exact pkup_self)
  obtain ⟨la0, h⟩ := h
  obtain ⟨ha0, h⟩ := h
  refine j_putfrE (fp_i_X0_90_0 _ rfl) rfl (Or.inr ⟨_, rfl⟩) (Or.inr ⟨_, rfl⟩) la0 ha0 dX0_init_183 (fun G259 eG259 => ?_)
  replace h := h G259 eG259
  refine j_aload_n 0 rfl dX0_init_186 ?_
  refine j_bipush (v := 20) dX0_init_187 (by decide) ?_
  obtain ⟨b260, h⟩ := h
  obtain ⟨b261, h⟩ := h
  refine j_newaE (t := 3) (N := 20) rfl rfl q610 (fun _ _ h9 => h9) rfl (by decide) (by decide) (by decide) b260 b261 dX0_init_189 (fun K262 A263 L264 G265 eK262 eA263 eL264 eG265 => ?_)
  replace h := h K262 A263 L264 G265 eK262 eA263 eL264 eG265
  have b266 : (n226 + 1 + 1 + 128 + 1) < (n226 + 1 + 1 + 128 + 1 + 1) := (by omega)
  have b267 : K262 (n226 + 1 + 1 + 128 + 1) = .inr (3, 20) := (by rw [eK262]; exact pkup_self)
  obtain ⟨la0, h⟩ := h
  obtain ⟨ha0, h⟩ := h
  refine j_putfrE (fp_i_X0_94_0 _ rfl) rfl (Or.inr ⟨_, rfl⟩) (Or.inr ⟨_, rfl⟩) la0 ha0 dX0_init_191 (fun G268 eG268 => ?_)
  replace h := h G268 eG268
  refine j_aload_n 0 rfl dX0_init_194 ?_
  refine j_bipush (v := 20) dX0_init_195 (by decide) ?_
  obtain ⟨b269, h⟩ := h
  obtain ⟨b270, h⟩ := h
  refine j_newaE (t := 0) (N := 20) rfl rfl q431 (fun _ _ h9 => h9) rfl (by decide) (by decide) (by decide) b269 b270 dX0_init_197 (fun K271 A272 L273 G274 eK271 eA272 eL273 eG274 => ?_)
  replace h := h K271 A272 L273 G274 eK271 eA272 eL273 eG274
  have b275 : (n226 + 1 + 1 + 128 + 1 + 1) < (n226 + 1 + 1 + 128 + 1 + 1 + 1) := (by omega)
  have b276 : K271 (n226 + 1 + 1 + 128 + 1 + 1) = .inr (0, 20) := (by rw [eK271]; exact pkup_self)
  obtain ⟨la0, h⟩ := h
  obtain ⟨ha0, h⟩ := h
  refine j_putfrE (fp_i_X0_97_0 _ rfl) rfl (Or.inr ⟨_, rfl⟩) (Or.inr ⟨_, rfl⟩) la0 ha0 dX0_init_199 (fun G277 eG277 => ?_)
  replace h := h G277 eG277
  refine j_iconst (v := 0) dX0_init_202 (by decide) ?_
  refine j_istore_n (by decide) rfl dX0_init_203 ?_
  refine j_ls [1, 0] rfl ?_
  obtain ⟨m278, h⟩ := h
  exact fX0_init_L204_ok  a0 Q P hP   m278 0 (n226 + 1 + 1 + 128 + 1 + 1 + 1) K271 A272 L273 G277 (kc - 1 - kY35 - 1 - kY51 - 1 - kY69 - 1 - kY85 - 1 - kY102 - 1 - kY118 - 1 - 1 - 1 - kY151 - 1 - kY167 - 1 - kY183 - 1 - 1 - kY208 - 1 - kY224 - 1 - 129 - 1 - 1 - 1) (ks - 8 - sY36 - 8 - sY52 - 7 - sY70 - 12 - sY86 - 14 - sY103 - 14 - sY119 - 40 - 3 - 14 - sY152 - 14 - sY168 - 14 - sY184 - 2 - 0 - sY209 - 0 - sY225 - 3 - 1024 - 20 - 20 - 20) h
