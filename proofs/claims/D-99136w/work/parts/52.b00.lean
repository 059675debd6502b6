set_option maxRecDepth 100000
set_option maxHeartbeats 4000000
theorem fp_i_X10_152_9 (nm : String) (hi : nm = "<init>") : jFp RX10 nm 152 9 64 (.array .int) := ⟨_, _, _, _, _, ck_X10, by decide, q1611, Or.inl rfl, rfl, Or.inr ⟨rfl, hi, rfl⟩⟩
theorem fp_i_X10_155_9 (nm : String) (hi : nm = "<init>") : jFp RX10 nm 155 9 65 (.array .boolean) := ⟨_, _, _, _, _, ck_X10, by decide, q1612, Or.inl rfl, rfl, Or.inr ⟨rfl, hi, rfl⟩⟩
theorem fp_i_X10_158_9 (nm : String) (hi : nm = "<init>") : jFp RX10 nm 158 9 66 (.array .int) := ⟨_, _, _, _, _, ck_X10, by decide, q1613, Or.inl rfl, rfl, Or.inr ⟨rfl, hi, rfl⟩⟩
theorem fp_i_X10_137_9 (nm : String) (hi : nm = "<init>") : jFp RX10 nm 137 9 57 (.array .int) := ⟨_, _, _, _, _, ck_X10, by decide, q1604, Or.inl rfl, rfl, Or.inr ⟨rfl, hi, rfl⟩⟩
theorem fp_i_X10_140_9 (nm : String) (hi : nm = "<init>") : jFp RX10 nm 140 9 59 (.array .int) := ⟨_, _, _, _, _, ck_X10, by decide, q1606, Or.inl rfl, rfl, Or.inr ⟨rfl, hi, rfl⟩⟩
theorem fp_i_X10_143_9 (nm : String) (hi : nm = "<init>") : jFp RX10 nm 143 9 60 (.array .int) := ⟨_, _, _, _, _, ck_X10, by decide, q1607, Or.inl rfl, rfl, Or.inr ⟨rfl, hi, rfl⟩⟩
theorem fp_i_X10_146_9 (nm : String) (hi : nm = "<init>") : jFp RX10 nm 146 9 62 (.array .int) := ⟨_, _, _, _, _, ck_X10, by decide, q1609, Or.inl rfl, rfl, Or.inr ⟨rfl, hi, rfl⟩⟩
theorem fp_i_X10_149_9 (nm : String) (hi : nm = "<init>") : jFp RX10 nm 149 9 63 (.array .boolean) := ⟨_, _, _, _, _, ck_X10, by decide, q1610, Or.inl rfl, rfl, Or.inr ⟨rfl, hi, rfl⟩⟩
theorem fp_i_X10_122_9 (nm : String) (hi : nm = "<init>") : jFp RX10 nm 122 9 50 (.array .int) := ⟨_, _, _, _, _, ck_X10, by decide, q1597, Or.inl rfl, rfl, Or.inr ⟨rfl, hi, rfl⟩⟩
theorem fp_i_X10_125_9 (nm : String) (hi : nm = "<init>") : jFp RX10 nm 125 9 52 (.array .int) := ⟨_, _, _, _, _, ck_X10, by decide, q1599, Or.inl rfl, rfl, Or.inr ⟨rfl, hi, rfl⟩⟩
theorem fp_i_X10_128_9 (nm : String) (hi : nm = "<init>") : jFp RX10 nm 128 9 53 (.array .int) := ⟨_, _, _, _, _, ck_X10, by decide, q1600, Or.inl rfl, rfl, Or.inr ⟨rfl, hi, rfl⟩⟩
theorem fp_i_X10_131_9 (nm : String) (hi : nm = "<init>") : jFp RX10 nm 131 9 55 (.array .int) := ⟨_, _, _, _, _, ck_X10, by decide, q1602, Or.inl rfl, rfl, Or.inr ⟨rfl, hi, rfl⟩⟩
theorem fp_i_X10_134_9 (nm : String) (hi : nm = "<init>") : jFp RX10 nm 134 9 56 (.array .int) := ⟨_, _, _, _, _, ck_X10, by decide, q1603, Or.inl rfl, rfl, Or.inr ⟨rfl, hi, rfl⟩⟩
theorem fp_i_X10_107_9 (nm : String) (hi : nm = "<init>") : jFp RX10 nm 107 9 44 (.array .int) := ⟨_, _, _, _, _, ck_X10, by decide, q1591, Or.inl rfl, rfl, Or.inr ⟨rfl, hi, rfl⟩⟩
theorem fp_i_X10_110_9 (nm : String) (hi : nm = "<init>") : jFp RX10 nm 110 9 45 (.array .int) := ⟨_, _, _, _, _, ck_X10, by decide, q1592, Or.inl rfl, rfl, Or.inr ⟨rfl, hi, rfl⟩⟩
theorem fp_i_X10_113_9 (nm : String) (hi : nm = "<init>") : jFp RX10 nm 113 9 46 (.array .int) := ⟨_, _, _, _, _, ck_X10, by decide, q1593, Or.inl rfl, rfl, Or.inr ⟨rfl, hi, rfl⟩⟩
theorem fp_i_X10_116_9 (nm : String) (hi : nm = "<init>") : jFp RX10 nm 116 9 48 (.array .int) := ⟨_, _, _, _, _, ck_X10, by decide, q1595, Or.inl rfl, rfl, Or.inr ⟨rfl, hi, rfl⟩⟩
theorem fp_i_X10_119_9 (nm : String) (hi : nm = "<init>") : jFp RX10 nm 119 9 49 (.array .int) := ⟨_, _, _, _, _, ck_X10, by decide, q1596, Or.inl rfl, rfl, Or.inr ⟨rfl, hi, rfl⟩⟩
theorem fp_i_X10_91_9 (nm : String) (hi : nm = "<init>") : jFp RX10 nm 91 9 38 (.array .int) := ⟨_, _, _, _, _, ck_X10, by decide, q1585, Or.inl rfl, rfl, Or.inr ⟨rfl, hi, rfl⟩⟩
theorem fp_i_X10_94_9 (nm : String) (hi : nm = "<init>") : jFp RX10 nm 94 9 39 (.array .int) := ⟨_, _, _, _, _, ck_X10, by decide, q1586, Or.inl rfl, rfl, Or.inr ⟨rfl, hi, rfl⟩⟩
theorem fp_i_X10_97_9 (nm : String) (hi : nm = "<init>") : jFp RX10 nm 97 9 40 (.array .int) := ⟨_, _, _, _, _, ck_X10, by decide, q1587, Or.inl rfl, rfl, Or.inr ⟨rfl, hi, rfl⟩⟩
theorem fp_i_X10_100_9 (nm : String) (hi : nm = "<init>") : jFp RX10 nm 100 9 42 (.array .boolean) := ⟨_, _, _, _, _, ck_X10, by decide, q1589, Or.inl rfl, rfl, Or.inr ⟨rfl, hi, rfl⟩⟩
theorem fp_i_X10_104_9 (nm : String) (hi : nm = "<init>") : jFp RX10 nm 104 9 43 (.array .int) := ⟨_, _, _, _, _, ck_X10, by decide, q1590, Or.inl rfl, rfl, Or.inr ⟨rfl, hi, rfl⟩⟩
theorem fp_i_X10_76_9 (nm : String) (hi : nm = "<init>") : jFp RX10 nm 76 9 33 (.array .int) := ⟨_, _, _, _, _, ck_X10, by decide, q1580, Or.inl rfl, rfl, Or.inr ⟨rfl, hi, rfl⟩⟩
theorem fp_i_X10_79_9 (nm : String) (hi : nm = "<init>") : jFp RX10 nm 79 9 34 (.array .int) := ⟨_, _, _, _, _, ck_X10, by decide, q1581, Or.inl rfl, rfl, Or.inr ⟨rfl, hi, rfl⟩⟩
theorem fp_i_X10_82_9 (nm : String) (hi : nm = "<init>") : jFp RX10 nm 82 9 35 (.array .int) := ⟨_, _, _, _, _, ck_X10, by decide, q1582, Or.inl rfl, rfl, Or.inr ⟨rfl, hi, rfl⟩⟩
theorem fp_i_X10_85_9 (nm : String) (hi : nm = "<init>") : jFp RX10 nm 85 9 36 (.array .int) := ⟨_, _, _, _, _, ck_X10, by decide, q1583, Or.inl rfl, rfl, Or.inr ⟨rfl, hi, rfl⟩⟩
theorem fp_i_X10_88_9 (nm : String) (hi : nm = "<init>") : jFp RX10 nm 88 9 37 (.array .int) := ⟨_, _, _, _, _, ck_X10, by decide, q1584, Or.inl rfl, rfl, Or.inr ⟨rfl, hi, rfl⟩⟩
theorem fp_i_X10_61_9 (nm : String) (hi : nm = "<init>") : jFp RX10 nm 61 9 28 (.array .int) := ⟨_, _, _, _, _, ck_X10, by decide, q1575, Or.inl rfl, rfl, Or.inr ⟨rfl, hi, rfl⟩⟩
theorem fp_i_X10_64_9 (nm : String) (hi : nm = "<init>") : jFp RX10 nm 64 9 29 (.array .int) := ⟨_, _, _, _, _, ck_X10, by decide, q1576, Or.inl rfl, rfl, Or.inr ⟨rfl, hi, rfl⟩⟩
theorem fp_i_X10_67_9 (nm : String) (hi : nm = "<init>") : jFp RX10 nm 67 9 30 (.array .int) := ⟨_, _, _, _, _, ck_X10, by decide, q1577, Or.inl rfl, rfl, Or.inr ⟨rfl, hi, rfl⟩⟩
theorem fp_i_X10_70_9 (nm : String) (hi : nm = "<init>") : jFp RX10 nm 70 9 31 (.array .int) := ⟨_, _, _, _, _, ck_X10, by decide, q1578, Or.inl rfl, rfl, Or.inr ⟨rfl, hi, rfl⟩⟩
theorem fp_i_X10_73_9 (nm : String) (hi : nm = "<init>") : jFp RX10 nm 73 9 32 (.array .int) := ⟨_, _, _, _, _, ck_X10, by decide, q1579, Or.inl rfl, rfl, Or.inr ⟨rfl, hi, rfl⟩⟩
theorem fp_i_X10_46_9 (nm : String) (hi : nm = "<init>") : jFp RX10 nm 46 9 23 (.array .int) := ⟨_, _, _, _, _, ck_X10, by decide, q1570, Or.inl rfl, rfl, Or.inr ⟨rfl, hi, rfl⟩⟩
theorem fp_i_X10_49_9 (nm : String) (hi : nm = "<init>") : jFp RX10 nm 49 9 24 (.array .int) := ⟨_, _, _, _, _, ck_X10, by decide, q1571, Or.inl rfl, rfl, Or.inr ⟨rfl, hi, rfl⟩⟩
theorem fp_i_X10_52_9 (nm : String) (hi : nm = "<init>") : jFp RX10 nm 52 9 25 (.array .int) := ⟨_, _, _, _, _, ck_X10, by decide, q1572, Or.inl rfl, rfl, Or.inr ⟨rfl, hi, rfl⟩⟩
theorem fp_i_X10_55_9 (nm : String) (hi : nm = "<init>") : jFp RX10 nm 55 9 26 (.array .int) := ⟨_, _, _, _, _, ck_X10, by decide, q1573, Or.inl rfl, rfl, Or.inr ⟨rfl, hi, rfl⟩⟩
theorem fp_i_X10_58_9 (nm : String) (hi : nm = "<init>") : jFp RX10 nm 58 9 27 (.array .int) := ⟨_, _, _, _, _, ck_X10, by decide, q1574, Or.inl rfl, rfl, Or.inr ⟨rfl, hi, rfl⟩⟩
theorem fp_i_X10_30_9 (nm : String) (hi : nm = "<init>") : jFp RX10 nm 30 9 8 (.array .long) := ⟨_, _, _, _, _, ck_X10, by decide, q1555, Or.inl rfl, rfl, Or.inr ⟨rfl, hi, rfl⟩⟩
theorem fp_i_X10_34_9 (nm : String) (hi : nm = "<init>") : jFp RX10 nm 34 9 9 (.array .long) := ⟨_, _, _, _, _, ck_X10, by decide, q1556, Or.inl rfl, rfl, Or.inr ⟨rfl, hi, rfl⟩⟩
theorem fp_i_X10_37_9 (nm : String) : jFp RX10 nm 37 9 17 .int := ⟨_, _, _, _, _, ck_X10, by decide, q1564, Or.inl rfl, rfl, Or.inl rfl⟩
theorem fp_i_X10_40_9 (nm : String) (hi : nm = "<init>") : jFp RX10 nm 40 9 21 (.array .long) := ⟨_, _, _, _, _, ck_X10, by decide, q1568, Or.inl rfl, rfl, Or.inr ⟨rfl, hi, rfl⟩⟩
theorem fp_i_X10_43_9 (nm : String) (hi : nm = "<init>") : jFp RX10 nm 43 9 22 (.array .int) := ⟨_, _, _, _, _, ck_X10, by decide, q1569, Or.inl rfl, rfl, Or.inr ⟨rfl, hi, rfl⟩⟩
theorem fp_i_X10_13_9 (nm : String) (hi : nm = "<init>") : jFp RX10 nm 13 9 1 (.array .byte) := ⟨_, _, _, _, _, ck_X10, by decide, q1548, Or.inl rfl, rfl, Or.inr ⟨rfl, hi, rfl⟩⟩
theorem fp_i_X10_17_9 (nm : String) (hi : nm = "<init>") : jFp RX10 nm 17 9 3 (.array .byte) := ⟨_, _, _, _, _, ck_X10, by decide, q1550, Or.inl rfl, rfl, Or.inr ⟨rfl, hi, rfl⟩⟩
theorem fp_i_X10_20_9 (nm : String) (hi : nm = "<init>") : jFp RX10 nm 20 9 5 (.array .int) := ⟨_, _, _, _, _, ck_X10, by decide, q1552, Or.inl rfl, rfl, Or.inr ⟨rfl, hi, rfl⟩⟩
theorem fp_i_X10_24_9 (nm : String) (hi : nm = "<init>") : jFp RX10 nm 24 9 6 (.array .int) := ⟨_, _, _, _, _, ck_X10, by decide, q1553, Or.inl rfl, rfl, Or.inr ⟨rfl, hi, rfl⟩⟩
theorem fp_i_X10_27_9 (nm : String) (hi : nm = "<init>") : jFp RX10 nm 27 9 7 (.array .int) := ⟨_, _, _, _, _, ck_X10, by decide, q1554, Or.inl rfl, rfl, Or.inr ⟨rfl, hi, rfl⟩⟩
theorem cn_L_7 : jCn "DogsHourLaw" 7 0 18 := ⟨_, _, _, ck_X0, q159, q160, q121⟩
theorem cn_L_10 : jCn "DogsHourLaw" 10 9 67 := ⟨_, _, _, ck_X10, q1523, q1524, q139⟩
theorem myX10_init : jY yX10_init cX10_init 1 none  0 := ⟨q1527, q139, by decide +kernel, by decide +kernel, by decide⟩
def fX10_init_J867   (Q : Nat → (Nat → pKd) → pA → pL → pG → Prop) (n : Nat) (K : Nat → pKd) (A : pA) (Lg : pL) (G : pG) (kc : Nat) (ks : Nat) : Prop :=
    (1198 < n) ∧ ((K 1198 = .inl 9) ∧ ((mOK n K G) ∧ (fX10_word A 116 97 107 101 110 0 0 (fun r1 => ∀ L2 : pL, L2 = pup Lg 1205 22 r1 → fX10_begins A (fun A3 => fX10_keepsRow A3 (fun A4 => Q n K A4 L2 G))))))
theorem fX10_init_J867_ok {Γ : jG} (Q : Nat → (Nat → pKd) → pA → pL → pG → Prop) (P : jO → pS → Prop) (hP : P = (fun o u => ∃ (n' : Nat) (K' : Nat → pKd) (A' : pA) (Lg' : pL) (G' : pG), o = .inl none ∧ u = (n', K', A', Lg', G') ∧ Q n' K' A' Lg' G'))   (n : Nat) (K : Nat → pKd) (A : pA) (Lg : pL) (G : pG) (kc : Nat) (ks : Nat) (h : fX10_init_J867   Q n K A Lg G kc ks) : J Γ RX10 cX10_init 1 none "<init>" [] 3 kc ks 867 [(0, .ref 1198)] [] (n, K, A, Lg, G) P := by
  unfold fX10_init_J867 at h
  refine j_aload_n 0 rfl dX10_init_867 ?_
  obtain ⟨h0l, h⟩ := h
  obtain ⟨h0k, h⟩ := h
  obtain ⟨hm, h⟩ := h
  refine j_getfr fl_X10_34_9 rfl h0l h0k (fg_1198_9 hm) dX10_init_868 ?_
  refine j_bipush (v := 22) dX10_init_871 (by decide) ?_
  refine j_bipush (v := 116) dX10_init_873 (by decide) ?_
  refine j_bipush (v := 97) dX10_init_875 (by decide) ?_
  refine j_bipush (v := 107) dX10_init_877 (by decide) ?_
  refine j_bipush (v := 101) dX10_init_879 (by decide) ?_
  refine j_bipush (v := 110) dX10_init_881 (by decide) ?_
  refine j_iconst (v := 0) dX10_init_883 (by decide) ?_
  refine j_iconst (v := 0) dX10_init_884 (by decide) ?_
  refine j_callS (As := [.int 116, .int 97, .int 107, .int 101, .int 110, .int 0, .int 0]) (st := [.int 22, .ref 1205]) (kc' := kc) (ks' := ks) (tX10_word hm 116 97 107 101 110 0 0 _ h) myX10_word q1533 q1534 rfl (Nat.le_of_ble_eq_true rfl) rfl (by decide) (Nat.le_refl _) (Nat.le_refl _) dX10_init_885 (fun v9 u9 hq => ?_) (fun k9 u9 hq => by obtain ⟨_, e9, _⟩ := hq; cases e9)
  obtain ⟨r1, e9, rfl, h⟩ := hq
  obtain rfl := Sum.inl.inj e9
  show J Γ RX10 cX10_init 1 none "<init>" [] 3 kc ks 888 [(0, .ref 1198)] [.long r1, .int 22, .ref 1205] (n, K, A, Lg, G) P
  refine j_lastJ (j := 22) (m_lt hm (by decide)) (fk_1205 hm) (by unfold vp_in; decide) rfl dX10_init_888 (fun L2 eL2 => ?_)
  replace h := h L2 eL2
  refine j_aload_n 0 rfl dX10_init_889 ?_
  refine j_callV (b := 1198) (As := []) (st := []) (C := RX10) (kc' := kc) (ks' := ks) (tX10_begins hm  _ h) myX10_begins rfl q1540 q1542 qs55 (by decide) (fun s9 H9 hK9 hR9 h69 => jIs_in hK9 hR9 h69 h0l h0k rfl) rfl (Nat.le_of_ble_eq_true rfl) rfl (by decide) (Nat.le_refl _) (Nat.le_refl _) dX10_init_890 (fun v9 u9 hq => ?_) (fun k9 u9 hq => by obtain ⟨_, e9, _⟩ := hq; cases e9)
  obtain ⟨A3, e9, rfl, h⟩ := hq
  obtain rfl := Sum.inl.inj e9
  show J Γ RX10 cX10_init 1 none "<init>" [] 3 kc ks 893 [(0, .ref 1198)] [] (n, K, A3, L2, G) P
  refine j_aload_n 0 rfl dX10_init_893 ?_
  refine j_callV (b := 1198) (As := []) (st := []) (C := RX10) (kc' := kc) (ks' := ks) (tX10_keepsRow hm  _ h) myX10_keepsRow rfl q1544 q1546 qs56 (by decide) (fun s9 H9 hK9 hR9 h69 => jIs_in hK9 hR9 h69 h0l h0k rfl) rfl (Nat.le_of_ble_eq_true rfl) rfl (by decide) (Nat.le_refl _) (Nat.le_refl _) dX10_init_894 (fun v9 u9 hq => ?_) (fun k9 u9 hq => by obtain ⟨_, e9, _⟩ := hq; cases e9)
  obtain ⟨A4, e9, rfl, h⟩ := hq
  obtain rfl := Sum.inl.inj e9
  show J Γ RX10 cX10_init 1 none "<init>" [] 3 kc ks 897 [(0, .ref 1198)] [] (n, K, A4, L2, G) P
  refine j_vret rfl ?_ dX10_init_897
  rw [hP]
  exact ⟨n, K, A4, L2, G, rfl, rfl, h⟩
def fX10_init_J755   (Q : Nat → (Nat → pKd) → pA → pL → pG → Prop) (n : Nat) (K : Nat → pKd) (A : pA) (Lg : pL) (G : pG) (kc : Nat) (ks : Nat) : Prop :=
    (1198 < n) ∧ ((K 1198 = .inl 9) ∧ ((mOK n K G) ∧ (fX10_word A 112 111 99 107 101 116 0 (fun r5 => ∀ L6 : pL, L6 = pup Lg 1205 17 r5 → fX10_word A 98 105 116 101 0 0 0 (fun r7 => ∀ L8 : pL, L8 = pup L6 1205 18 r7 → fX10_word A 104 117 110 103 101 114 0 (fun r9 => ∀ L10 : pL, L10 = pup L8 1205 19 r9 → fX10_word A 109 105 110 117 116 101 0 (fun r11 => ∀ L12 : pL, L12 = pup L10 1205 20 r11 → fX10_word A 119 104 105 99 104 0 0 (fun r13 => ∀ L14 : pL, L14 = pup L12 1205 21 r13 → fX10_init_J867   Q n K A L14 G kc ks))))))))
theorem fX10_init_J755_ok {Γ : jG} (Q : Nat → (Nat → pKd) → pA → pL → pG → Prop) (P : jO → pS → Prop) (hP : P = (fun o u => ∃ (n' : Nat) (K' : Nat → pKd) (A' : pA) (Lg' : pL) (G' : pG), o = .inl none ∧ u = (n', K', A', Lg', G') ∧ Q n' K' A' Lg' G'))   (n : Nat) (K : Nat → pKd) (A : pA) (Lg : pL) (G : pG) (kc : Nat) (ks : Nat) (h : fX10_init_J755   Q n K A Lg G kc ks) : J Γ RX10 cX10_init 1 none "<init>" [] 3 kc ks 755 [(0, .ref 1198)] [] (n, K, A, Lg, G) P := by
  unfold fX10_init_J755 at h
  refine j_aload_n 0 rfl dX10_init_755 ?_
  obtain ⟨h0l, h⟩ := h
  obtain ⟨h0k, h⟩ := h
  obtain ⟨hm, h⟩ := h
  refine j_getfr fl_X10_34_9 rfl h0l h0k (fg_1198_9 hm) dX10_init_756 ?_
  refine j_bipush (v := 17) dX10_init_759 (by decide) ?_
  refine j_bipush (v := 112) dX10_init_761 (by decide) ?_
  refine j_bipush (v := 111) dX10_init_763 (by decide) ?_
  refine j_bipush (v := 99) dX10_init_765 (by decide) ?_
  refine j_bipush (v := 107) dX10_init_767 (by decide) ?_
  refine j_bipush (v := 101) dX10_init_769 (by decide) ?_
  refine j_bipush (v := 116) dX10_init_771 (by decide) ?_
  refine j_iconst (v := 0) dX10_init_773 (by decide) ?_
  refine j_callS (As := [.int 112, .int 111, .int 99, .int 107, .int 101, .int 116, .int 0]) (st := [.int 17, .ref 1205]) (kc' := kc) (ks' := ks) (tX10_word hm 112 111 99 107 101 116 0 _ h) myX10_word q1533 q1534 rfl (Nat.le_of_ble_eq_true rfl) rfl (by decide) (Nat.le_refl _) (Nat.le_refl _) dX10_init_774 (fun v9 u9 hq => ?_) (fun k9 u9 hq => by obtain ⟨_, e9, _⟩ := hq; cases e9)
  obtain ⟨r5, e9, rfl, h⟩ := hq
  obtain rfl := Sum.inl.inj e9
  show J Γ RX10 cX10_init 1 none "<init>" [] 3 kc ks 777 [(0, .ref 1198)] [.long r5, .int 17, .ref 1205] (n, K, A, Lg, G) P
  refine j_lastJ (j := 17) (m_lt hm (by decide)) (fk_1205 hm) (by unfold vp_in; decide) rfl dX10_init_777 (fun L6 eL6 => ?_)
  replace h := h L6 eL6
  refine j_aload_n 0 rfl dX10_init_778 ?_
  refine j_getfr fl_X10_34_9 rfl h0l h0k (fg_1198_9 hm) dX10_init_779 ?_
  refine j_bipush (v := 18) dX10_init_782 (by decide) ?_
  refine j_bipush (v := 98) dX10_init_784 (by decide) ?_
  refine j_bipush (v := 105) dX10_init_786 (by decide) ?_
  refine j_bipush (v := 116) dX10_init_788 (by decide) ?_
  refine j_bipush (v := 101) dX10_init_790 (by decide) ?_
  refine j_iconst (v := 0) dX10_init_792 (by decide) ?_
  refine j_iconst (v := 0) dX10_init_793 (by decide) ?_
  refine j_iconst (v := 0) dX10_init_794 (by decide) ?_
  refine j_callS (As := [.int 98, .int 105, .int 116, .int 101, .int 0, .int 0, .int 0]) (st := [.int 18, .ref 1205]) (kc' := kc) (ks' := ks) (tX10_word hm 98 105 116 101 0 0 0 _ h) myX10_word q1533 q1534 rfl (Nat.le_of_ble_eq_true rfl) rfl (by decide) (Nat.le_refl _) (Nat.le_refl _) dX10_init_795 (fun v9 u9 hq => ?_) (fun k9 u9 hq => by obtain ⟨_, e9, _⟩ := hq; cases e9)
  obtain ⟨r7, e9, rfl, h⟩ := hq
  obtain rfl := Sum.inl.inj e9
  show J Γ RX10 cX10_init 1 none "<init>" [] 3 kc ks 798 [(0, .ref 1198)] [.long r7, .int 18, .ref 1205] (n, K, A, L6, G) P
  refine j_lastJ (j := 18) (m_lt hm (by decide)) (fk_1205 hm) (by unfold vp_in; decide) rfl dX10_init_798 (fun L8 eL8 => ?_)
  replace h := h L8 eL8
  refine j_aload_n 0 rfl dX10_init_799 ?_
  refine j_getfr fl_X10_34_9 rfl h0l h0k (fg_1198_9 hm) dX10_init_800 ?_
  refine j_bipush (v := 19) dX10_init_803 (by decide) ?_
  refine j_bipush (v := 104) dX10_init_805 (by decide) ?_
  refine j_bipush (v := 117) dX10_init_807 (by decide) ?_
  refine j_bipush (v := 110) dX10_init_809 (by decide) ?_
  refine j_bipush (v := 103) dX10_init_811 (by decide) ?_
  refine j_bipush (v := 101) dX10_init_813 (by decide) ?_
  refine j_bipush (v := 114) dX10_init_815 (by decide) ?_
  refine j_iconst (v := 0) dX10_init_817 (by decide) ?_
  refine j_callS (As := [.int 104, .int 117, .int 110, .int 103, .int 101, .int 114, .int 0]) (st := [.int 19, .ref 1205]) (kc' := kc) (ks' := ks) (tX10_word hm 104 117 110 103 101 114 0 _ h) myX10_word q1533 q1534 rfl (Nat.le_of_ble_eq_true rfl) rfl (by decide) (Nat.le_refl _) (Nat.le_refl _) dX10_init_818 (fun v9 u9 hq => ?_) (fun k9 u9 hq => by obtain ⟨_, e9, _⟩ := hq; cases e9)
  obtain ⟨r9, e9, rfl, h⟩ := hq
  obtain rfl := Sum.inl.inj e9
  show J Γ RX10 cX10_init 1 none "<init>" [] 3 kc ks 821 [(0, .ref 1198)] [.long r9, .int 19, .ref 1205] (n, K, A, L8, G) P
  refine j_lastJ (j := 19) (m_lt hm (by decide)) (fk_1205 hm) (by unfold vp_in; decide) rfl dX10_init_821 (fun L10 eL10 => ?_)
  replace h := h L10 eL10
  refine j_aload_n 0 rfl dX10_init_822 ?_
  refine j_getfr fl_X10_34_9 rfl h0l h0k (fg_1198_9 hm) dX10_init_823 ?_
  refine j_bipush (v := 20) dX10_init_826 (by decide) ?_
  refine j_bipush (v := 109) dX10_init_828 (by decide) ?_
  refine j_bipush (v := 105) dX10_init_830 (by decide) ?_
  refine j_bipush (v := 110) dX10_init_832 (by decide) ?_
  refine j_bipush (v := 117) dX10_init_834 (by decide) ?_
  refine j_bipush (v := 116) dX10_init_836 (by decide) ?_
  refine j_bipush (v := 101) dX10_init_838 (by decide) ?_
  refine j_iconst (v := 0) dX10_init_840 (by decide) ?_
  refine j_callS (As := [.int 109, .int 105, .int 110, .int 117, .int 116, .int 101, .int 0]) (st := [.int 20, .ref 1205]) (kc' := kc) (ks' := ks) (tX10_word hm 109 105 110 117 116 101 0 _ h) myX10_word q1533 q1534 rfl (Nat.le_of_ble_eq_true rfl) rfl (by decide) (Nat.le_refl _) (Nat.le_refl _) dX10_init_841 (fun v9 u9 hq => ?_) (fun k9 u9 hq => by obtain ⟨_, e9, _⟩ := hq; cases e9)
  obtain ⟨r11, e9, rfl, h⟩ := hq
  obtain rfl := Sum.inl.inj e9
  show J Γ RX10 cX10_init 1 none "<init>" [] 3 kc ks 844 [(0, .ref 1198)] [.long r11, .int 20, .ref 1205] (n, K, A, L10, G) P
  refine j_lastJ (j := 20) (m_lt hm (by decide)) (fk_1205 hm) (by unfold vp_in; decide) rfl dX10_init_844 (fun L12 eL12 => ?_)
  replace h := h L12 eL12
  refine j_aload_n 0 rfl dX10_init_845 ?_
  refine j_getfr fl_X10_34_9 rfl h0l h0k (fg_1198_9 hm) dX10_init_846 ?_
  refine j_bipush (v := 21) dX10_init_849 (by decide) ?_
  refine j_bipush (v := 119) dX10_init_851 (by decide) ?_
  refine j_bipush (v := 104) dX10_init_853 (by decide) ?_
  refine j_bipush (v := 105) dX10_init_855 (by decide) ?_
  refine j_bipush (v := 99) dX10_init_857 (by decide) ?_
  refine j_bipush (v := 104) dX10_init_859 (by decide) ?_
  refine j_iconst (v := 0) dX10_init_861 (by decide) ?_
  refine j_iconst (v := 0) dX10_init_862 (by decide) ?_
  refine j_callS (As := [.int 119, .int 104, .int 105, .int 99, .int 104, .int 0, .int 0]) (st := [.int 21, .ref 1205]) (kc' := kc) (ks' := ks) (tX10_word hm 119 104 105 99 104 0 0 _ h) myX10_word q1533 q1534 rfl (Nat.le_of_ble_eq_true rfl) rfl (by decide) (Nat.le_refl _) (Nat.le_refl _) dX10_init_863 (fun v9 u9 hq => ?_) (fun k9 u9 hq => by obtain ⟨_, e9, _⟩ := hq; cases e9)
  obtain ⟨r13, e9, rfl, h⟩ := hq
  obtain rfl := Sum.inl.inj e9
  show J Γ RX10 cX10_init 1 none "<init>" [] 3 kc ks 866 [(0, .ref 1198)] [.long r13, .int 21, .ref 1205] (n, K, A, L12, G) P
  refine j_lastJ (j := 21) (m_lt hm (by decide)) (fk_1205 hm) (by unfold vp_in; decide) rfl dX10_init_866 (fun L14 eL14 => ?_)
  replace h := h L14 eL14
  exact fX10_init_J867_ok  Q P hP   n K A L14 G kc ks h
def fX10_init_J650   (Q : Nat → (Nat → pKd) → pA → pL → pG → Prop) (n : Nat) (K : Nat → pKd) (A : pA) (Lg : pL) (G : pG) (kc : Nat) (ks : Nat) : Prop :=
    (1198 < n) ∧ ((K 1198 = .inl 9) ∧ ((mOK n K G) ∧ (fX10_word A 116 104 101 110 0 0 0 (fun r15 => ∀ L16 : pL, L16 = pup Lg 1205 12 r15 → fX10_word A 101 108 115 101 0 0 0 (fun r17 => ∀ L18 : pL, L18 = pup L16 1205 13 r17 → fX10_word A 102 101 100 0 0 0 0 (fun r19 => ∀ L20 : pL, L20 = pup L18 1205 14 r19 → fX10_word A 107 105 99 107 101 100 0 (fun r21 => ∀ L22 : pL, L22 = pup L20 1205 15 r21 → fX10_word A 102 97 114 0 0 0 0 (fun r23 => ∀ L24 : pL, L24 = pup L22 1205 16 r23 → fX10_init_J755   Q n K A L24 G kc ks))))))))
theorem fX10_init_J650_ok {Γ : jG} (Q : Nat → (Nat → pKd) → pA → pL → pG → Prop) (P : jO → pS → Prop) (hP : P = (fun o u => ∃ (n' : Nat) (K' : Nat → pKd) (A' : pA) (Lg' : pL) (G' : pG), o = .inl none ∧ u = (n', K', A', Lg', G') ∧ Q n' K' A' Lg' G'))   (n : Nat) (K : Nat → pKd) (A : pA) (Lg : pL) (G : pG) (kc : Nat) (ks : Nat) (h : fX10_init_J650   Q n K A Lg G kc ks) : J Γ RX10 cX10_init 1 none "<init>" [] 3 kc ks 650 [(0, .ref 1198)] [] (n, K, A, Lg, G) P := by
  unfold fX10_init_J650 at h
  refine j_aload_n 0 rfl dX10_init_650 ?_
  obtain ⟨h0l, h⟩ := h
  obtain ⟨h0k, h⟩ := h
  obtain ⟨hm, h⟩ := h
  refine j_getfr fl_X10_34_9 rfl h0l h0k (fg_1198_9 hm) dX10_init_651 ?_
  refine j_bipush (v := 12) dX10_init_654 (by decide) ?_
  refine j_bipush (v := 116) dX10_init_656 (by decide) ?_
  refine j_bipush (v := 104) dX10_init_658 (by decide) ?_
  refine j_bipush (v := 101) dX10_init_660 (by decide) ?_
  refine j_bipush (v := 110) dX10_init_662 (by decide) ?_
  refine j_iconst (v := 0) dX10_init_664 (by decide) ?_
  refine j_iconst (v := 0) dX10_init_665 (by decide) ?_
  refine j_iconst (v := 0) dX10_init_666 (by decide) ?_
  refine j_callS (As := [.int 116, .int 104, .int 101, .int 110, .int 0, .int 0, .int 0]) (st := [.int 12, .ref 1205]) (kc' := kc) (ks' := ks) (tX10_word hm 116 104 101 110 0 0 0 _ h) myX10_word q1533 q1534 rfl (Nat.le_of_ble_eq_true rfl) rfl (by decide) (Nat.le_refl _) (Nat.le_refl _) dX10_init_667 (fun v9 u9 hq => ?_) (fun k9 u9 hq => by obtain ⟨_, e9, _⟩ := hq; cases e9)
  obtain ⟨r15, e9, rfl, h⟩ := hq
  obtain rfl := Sum.inl.inj e9
  show J Γ RX10 cX10_init 1 none "<init>" [] 3 kc ks 670 [(0, .ref 1198)] [.long r15, .int 12, .ref 1205] (n, K, A, Lg, G) P
  refine j_lastJ (j := 12) (m_lt hm (by decide)) (fk_1205 hm) (by unfold vp_in; decide) rfl dX10_init_670 (fun L16 eL16 => ?_)
  replace h := h L16 eL16
  refine j_aload_n 0 rfl dX10_init_671 ?_
  refine j_getfr fl_X10_34_9 rfl h0l h0k (fg_1198_9 hm) dX10_init_672 ?_
  refine j_bipush (v := 13) dX10_init_675 (by decide) ?_
  refine j_bipush (v := 101) dX10_init_677 (by decide) ?_
  refine j_bipush (v := 108) dX10_init_679 (by decide) ?_
  refine j_bipush (v := 115) dX10_init_681 (by decide) ?_
  refine j_bipush (v := 101) dX10_init_683 (by decide) ?_
  refine j_iconst (v := 0) dX10_init_685 (by decide) ?_
  refine j_iconst (v := 0) dX10_init_686 (by decide) ?_
  refine j_iconst (v := 0) dX10_init_687 (by decide) ?_
  refine j_callS (As := [.int 101, .int 108, .int 115, .int 101, .int 0, .int 0, .int 0]) (st := [.int 13, .ref 1205]) (kc' := kc) (ks' := ks) (tX10_word hm 101 108 115 101 0 0 0 _ h) myX10_word q1533 q1534 rfl (Nat.le_of_ble_eq_true rfl) rfl (by decide) (Nat.le_refl _) (Nat.le_refl _) dX10_init_688 (fun v9 u9 hq => ?_) (fun k9 u9 hq => by obtain ⟨_, e9, _⟩ := hq; cases e9)
  obtain ⟨r17, e9, rfl, h⟩ := hq
  obtain rfl := Sum.inl.inj e9
  show J Γ RX10 cX10_init 1 none "<init>" [] 3 kc ks 691 [(0, .ref 1198)] [.long r17, .int 13, .ref 1205] (n, K, A, L16, G) P
  refine j_lastJ (j := 13) (m_lt hm (by decide)) (fk_1205 hm) (by unfold vp_in; decide) rfl dX10_init_691 (fun L18 eL18 => ?_)
  replace h := h L18 eL18
  refine j_aload_n 0 rfl dX10_init_692 ?_
  refine j_getfr fl_X10_34_9 rfl h0l h0k (fg_1198_9 hm) dX10_init_693 ?_
  refine j_bipush (v := 14) dX10_init_696 (by decide) ?_
  refine j_bipush (v := 102) dX10_init_698 (by decide) ?_
  refine j_bipush (v := 101) dX10_init_700 (by decide) ?_
  refine j_bipush (v := 100) dX10_init_702 (by decide) ?_
  refine j_iconst (v := 0) dX10_init_704 (by decide) ?_
  refine j_iconst (v := 0) dX10_init_705 (by decide) ?_
  refine j_iconst (v := 0) dX10_init_706 (by decide) ?_
  refine j_iconst (v := 0) dX10_init_707 (by decide) ?_
  refine j_callS (As := [.int 102, .int 101, .int 100, .int 0, .int 0, .int 0, .int 0]) (st := [.int 14, .ref 1205]) (kc' := kc) (ks' := ks) (tX10_word hm 102 101 100 0 0 0 0 _ h) myX10_word q1533 q1534 rfl (Nat.le_of_ble_eq_true rfl) rfl (by decide) (Nat.le_refl _) (Nat.le_refl _) dX10_init_708 (fun v9 u9 hq => ?_) (fun k9 u9 hq => by obtain ⟨_, e9, _⟩ := hq; cases e9)
  obtain ⟨r19, e9, rfl, h⟩ := hq
  obtain rfl := Sum.inl.inj e9
  show J Γ RX10 cX10_init 1 none "<init>" [] 3 kc ks 711 [(0, .ref 1198)] [.long r19, .int 14, .ref 1205] (n, K, A, L18, G) P
  refine j_lastJ (j := 14) (m_lt hm (by decide)) (fk_1205 hm) (by unfold vp_in; decide) rfl dX10_init_711 (fun L20 eL20 => ?_)
  replace h := h L20 eL20
  refine j_aload_n 0 rfl dX10_init_712 ?_
  refine j_getfr fl_X10_34_9 rfl h0l h0k (fg_1198_9 hm) dX10_init_713 ?_
  refine j_bipush (v := 15) dX10_init_716 (by decide) ?_
  refine j_bipush (v := 107) dX10_init_718 (by decide) ?_
  refine j_bipush (v := 105) dX10_init_720 (by decide) ?_
  refine j_bipush (v := 99) dX10_init_722 (by decide) ?_
  refine j_bipush (v := 107) dX10_init_724 (by decide) ?_
  refine j_bipush (v := 101) dX10_init_726 (by decide) ?_
  refine j_bipush (v := 100) dX10_init_728 (by decide) ?_
  refine j_iconst (v := 0) dX10_init_730 (by decide) ?_
  refine j_callS (As := [.int 107, .int 105, .int 99, .int 107, .int 101, .int 100, .int 0]) (st := [.int 15, .ref 1205]) (kc' := kc) (ks' := ks) (tX10_word hm 107 105 99 107 101 100 0 _ h) myX10_word q1533 q1534 rfl (Nat.le_of_ble_eq_true rfl) rfl (by decide) (Nat.le_refl _) (Nat.le_refl _) dX10_init_731 (fun v9 u9 hq => ?_) (fun k9 u9 hq => by obtain ⟨_, e9, _⟩ := hq; cases e9)
  obtain ⟨r21, e9, rfl, h⟩ := hq
  obtain rfl := Sum.inl.inj e9
  show J Γ RX10 cX10_init 1 none "<init>" [] 3 kc ks 734 [(0, .ref 1198)] [.long r21, .int 15, .ref 1205] (n, K, A, L20, G) P
  refine j_lastJ (j := 15) (m_lt hm (by decide)) (fk_1205 hm) (by unfold vp_in; decide) rfl dX10_init_734 (fun L22 eL22 => ?_)
  replace h := h L22 eL22
  refine j_aload_n 0 rfl dX10_init_735 ?_
  refine j_getfr fl_X10_34_9 rfl h0l h0k (fg_1198_9 hm) dX10_init_736 ?_
  refine j_bipush (v := 16) dX10_init_739 (by decide) ?_
  refine j_bipush (v := 102) dX10_init_741 (by decide) ?_
  refine j_bipush (v := 97) dX10_init_743 (by decide) ?_
  refine j_bipush (v := 114) dX10_init_745 (by decide) ?_
  refine j_iconst (v := 0) dX10_init_747 (by decide) ?_
  refine j_iconst (v := 0) dX10_init_748 (by decide) ?_
  refine j_iconst (v := 0) dX10_init_749 (by decide) ?_
  refine j_iconst (v := 0) dX10_init_750 (by decide) ?_
  refine j_callS (As := [.int 102, .int 97, .int 114, .int 0, .int 0, .int 0, .int 0]) (st := [.int 16, .ref 1205]) (kc' := kc) (ks' := ks) (tX10_word hm 102 97 114 0 0 0 0 _ h) myX10_word q1533 q1534 rfl (Nat.le_of_ble_eq_true rfl) rfl (by decide) (Nat.le_refl _) (Nat.le_refl _) dX10_init_751 (fun v9 u9 hq => ?_) (fun k9 u9 hq => by obtain ⟨_, e9, _⟩ := hq; cases e9)
  obtain ⟨r23, e9, rfl, h⟩ := hq
  obtain rfl := Sum.inl.inj e9
  show J Γ RX10 cX10_init 1 none "<init>" [] 3 kc ks 754 [(0, .ref 1198)] [.long r23, .int 16, .ref 1205] (n, K, A, L22, G) P
  refine j_lastJ (j := 16) (m_lt hm (by decide)) (fk_1205 hm) (by unfold vp_in; decide) rfl dX10_init_754 (fun L24 eL24 => ?_)
  replace h := h L24 eL24
  exact fX10_init_J755_ok  Q P hP   n K A L24 G kc ks h
def fX10_init_J544   (Q : Nat → (Nat → pKd) → pA → pL → pG → Prop) (n : Nat) (K : Nat → pKd) (A : pA) (Lg : pL) (G : pG) (kc : Nat) (ks : Nat) : Prop :=
    (1198 < n) ∧ ((K 1198 = .inl 9) ∧ ((mOK n K G) ∧ (fX10_word A 102 97 100 101 115 0 0 (fun r25 => ∀ L26 : pL, L26 = pup Lg 1205 7 r25 → fX10_word A 100 117 101 115 0 0 0 (fun r27 => ∀ L28 : pL, L28 = pup L26 1205 8 r27 → fX10_word A 104 111 117 114 0 0 0 (fun r29 => ∀ L30 : pL, L30 = pup L28 1205 9 r29 → fX10_word A 98 101 103 105 110 115 0 (fun r31 => ∀ L32 : pL, L32 = pup L30 1205 10 r31 → fX10_word A 105 102 0 0 0 0 0 (fun r33 => ∀ L34 : pL, L34 = pup L32 1205 11 r33 → fX10_init_J650   Q n K A L34 G kc ks))))))))
theorem fX10_init_J544_ok {Γ : jG} (Q : Nat → (Nat → pKd) → pA → pL → pG → Prop) (P : jO → pS → Prop) (hP : P = (fun o u => ∃ (n' : Nat) (K' : Nat → pKd) (A' : pA) (Lg' : pL) (G' : pG), o = .inl none ∧ u = (n', K', A', Lg', G') ∧ Q n' K' A' Lg' G'))   (n : Nat) (K : Nat → pKd) (A : pA) (Lg : pL) (G : pG) (kc : Nat) (ks : Nat) (h : fX10_init_J544   Q n K A Lg G kc ks) : J Γ RX10 cX10_init 1 none "<init>" [] 3 kc ks 544 [(0, .ref 1198)] [] (n, K, A, Lg, G) P := by
  unfold fX10_init_J544 at h
  refine j_aload_n 0 rfl dX10_init_544 ?_
  obtain ⟨h0l, h⟩ := h
  obtain ⟨h0k, h⟩ := h
  obtain ⟨hm, h⟩ := h
  refine j_getfr fl_X10_34_9 rfl h0l h0k (fg_1198_9 hm) dX10_init_545 ?_
  refine j_bipush (v := 7) dX10_init_548 (by decide) ?_
  refine j_bipush (v := 102) dX10_init_550 (by decide) ?_
  refine j_bipush (v := 97) dX10_init_552 (by decide) ?_
  refine j_bipush (v := 100) dX10_init_554 (by decide) ?_
  refine j_bipush (v := 101) dX10_init_556 (by decide) ?_
  refine j_bipush (v := 115) dX10_init_558 (by decide) ?_
  refine j_iconst (v := 0) dX10_init_560 (by decide) ?_
  refine j_iconst (v := 0) dX10_init_561 (by decide) ?_
  refine j_callS (As := [.int 102, .int 97, .int 100, .int 101, .int 115, .int 0, .int 0]) (st := [.int 7, .ref 1205]) (kc' := kc) (ks' := ks) (tX10_word hm 102 97 100 101 115 0 0 _ h) myX10_word q1533 q1534 rfl (Nat.le_of_ble_eq_true rfl) rfl (by decide) (Nat.le_refl _) (Nat.le_refl _) dX10_init_562 (fun v9 u9 hq => ?_) (fun k9 u9 hq => by obtain ⟨_, e9, _⟩ := hq; cases e9)
  obtain ⟨r25, e9, rfl, h⟩ := hq
  obtain rfl := Sum.inl.inj e9
  show J Γ RX10 cX10_init 1 none "<init>" [] 3 kc ks 565 [(0, .ref 1198)] [.long r25, .int 7, .ref 1205] (n, K, A, Lg, G) P
  refine j_lastJ (j := 7) (m_lt hm (by decide)) (fk_1205 hm) (by unfold vp_in; decide) rfl dX10_init_565 (fun L26 eL26 => ?_)
  replace h := h L26 eL26
  refine j_aload_n 0 rfl dX10_init_566 ?_
  refine j_getfr fl_X10_34_9 rfl h0l h0k (fg_1198_9 hm) dX10_init_567 ?_
  refine j_bipush (v := 8) dX10_init_570 (by decide) ?_
  refine j_bipush (v := 100) dX10_init_572 (by decide) ?_
  refine j_bipush (v := 117) dX10_init_574 (by decide) ?_
  refine j_bipush (v := 101) dX10_init_576 (by decide) ?_
  refine j_bipush (v := 115) dX10_init_578 (by decide) ?_
  refine j_iconst (v := 0) dX10_init_580 (by decide) ?_
  refine j_iconst (v := 0) dX10_init_581 (by decide) ?_
  refine j_iconst (v := 0) dX10_init_582 (by decide) ?_
  refine j_callS (As := [.int 100, .int 117, .int 101, .int 115, .int 0, .int 0, .int 0]) (st := [.int 8, .ref 1205]) (kc' := kc) (ks' := ks) (tX10_word hm 100 117 101 115 0 0 0 _ h) myX10_word q1533 q1534 rfl (Nat.le_of_ble_eq_true rfl) rfl (by decide) (Nat.le_refl _) (Nat.le_refl _) dX10_init_583 (fun v9 u9 hq => ?_) (fun k9 u9 hq => by obtain ⟨_, e9, _⟩ := hq; cases e9)
  obtain ⟨r27, e9, rfl, h⟩ := hq
  obtain rfl := Sum.inl.inj e9
  show J Γ RX10 cX10_init 1 none "<init>" [] 3 kc ks 586 [(0, .ref 1198)] [.long r27, .int 8, .ref 1205] (n, K, A, L26, G) P
  refine j_lastJ (j := 8) (m_lt hm (by decide)) (fk_1205 hm) (by unfold vp_in; decide) rfl dX10_init_586 (fun L28 eL28 => ?_)
  replace h := h L28 eL28
  refine j_aload_n 0 rfl dX10_init_587 ?_
  refine j_getfr fl_X10_34_9 rfl h0l h0k (fg_1198_9 hm) dX10_init_588 ?_
  refine j_bipush (v := 9) dX10_init_591 (by decide) ?_
  refine j_bipush (v := 104) dX10_init_593 (by decide) ?_
  refine j_bipush (v := 111) dX10_init_595 (by decide) ?_
  refine j_bipush (v := 117) dX10_init_597 (by decide) ?_
  refine j_bipush (v := 114) dX10_init_599 (by decide) ?_
  refine j_iconst (v := 0) dX10_init_601 (by decide) ?_
  refine j_iconst (v := 0) dX10_init_602 (by decide) ?_
  refine j_iconst (v := 0) dX10_init_603 (by decide) ?_
  refine j_callS (As := [.int 104, .int 111, .int 117, .int 114, .int 0, .int 0, .int 0]) (st := [.int 9, .ref 1205]) (kc' := kc) (ks' := ks) (tX10_word hm 104 111 117 114 0 0 0 _ h) myX10_word q1533 q1534 rfl (Nat.le_of_ble_eq_true rfl) rfl (by decide) (Nat.le_refl _) (Nat.le_refl _) dX10_init_604 (fun v9 u9 hq => ?_) (fun k9 u9 hq => by obtain ⟨_, e9, _⟩ := hq; cases e9)
  obtain ⟨r29, e9, rfl, h⟩ := hq
  obtain rfl := Sum.inl.inj e9
  show J Γ RX10 cX10_init 1 none "<init>" [] 3 kc ks 607 [(0, .ref 1198)] [.long r29, .int 9, .ref 1205] (n, K, A, L28, G) P
  refine j_lastJ (j := 9) (m_lt hm (by decide)) (fk_1205 hm) (by unfold vp_in; decide) rfl dX10_init_607 (fun L30 eL30 => ?_)
  replace h := h L30 eL30
  refine j_aload_n 0 rfl dX10_init_608 ?_
  refine j_getfr fl_X10_34_9 rfl h0l h0k (fg_1198_9 hm) dX10_init_609 ?_
  refine j_bipush (v := 10) dX10_init_612 (by decide) ?_
  refine j_bipush (v := 98) dX10_init_614 (by decide) ?_
  refine j_bipush (v := 101) dX10_init_616 (by decide) ?_
  refine j_bipush (v := 103) dX10_init_618 (by decide) ?_
  refine j_bipush (v := 105) dX10_init_620 (by decide) ?_
  refine j_bipush (v := 110) dX10_init_622 (by decide) ?_
  refine j_bipush (v := 115) dX10_init_624 (by decide) ?_
  refine j_iconst (v := 0) dX10_init_626 (by decide) ?_
  refine j_callS (As := [.int 98, .int 101, .int 103, .int 105, .int 110, .int 115, .int 0]) (st := [.int 10, .ref 1205]) (kc' := kc) (ks' := ks) (tX10_word hm 98 101 103 105 110 115 0 _ h) myX10_word q1533 q1534 rfl (Nat.le_of_ble_eq_true rfl) rfl (by decide) (Nat.le_refl _) (Nat.le_refl _) dX10_init_627 (fun v9 u9 hq => ?_) (fun k9 u9 hq => by obtain ⟨_, e9, _⟩ := hq; cases e9)
  obtain ⟨r31, e9, rfl, h⟩ := hq
  obtain rfl := Sum.inl.inj e9
  show J Γ RX10 cX10_init 1 none "<init>" [] 3 kc ks 630 [(0, .ref 1198)] [.long r31, .int 10, .ref 1205] (n, K, A, L30, G) P
  refine j_lastJ (j := 10) (m_lt hm (by decide)) (fk_1205 hm) (by unfold vp_in; decide) rfl dX10_init_630 (fun L32 eL32 => ?_)
  replace h := h L32 eL32
  refine j_aload_n 0 rfl dX10_init_631 ?_
  refine j_getfr fl_X10_34_9 rfl h0l h0k (fg_1198_9 hm) dX10_init_632 ?_
  refine j_bipush (v := 11) dX10_init_635 (by decide) ?_
  refine j_bipush (v := 105) dX10_init_637 (by decide) ?_
  refine j_bipush (v := 102) dX10_init_639 (by decide) ?_
  refine j_iconst (v := 0) dX10_init_641 (by decide) ?_
  refine j_iconst (v := 0) dX10_init_642 (by decide) ?_
  refine j_iconst (v := 0) dX10_init_643 (by decide) ?_
  refine j_iconst (v := 0) dX10_init_644 (by decide) ?_
  refine j_iconst (v := 0) dX10_init_645 (by decide) ?_
  refine j_callS (As := [.int 105, .int 102, .int 0, .int 0, .int 0, .int 0, .int 0]) (st := [.int 11, .ref 1205]) (kc' := kc) (ks' := ks) (tX10_word hm 105 102 0 0 0 0 0 _ h) myX10_word q1533 q1534 rfl (Nat.le_of_ble_eq_true rfl) rfl (by decide) (Nat.le_refl _) (Nat.le_refl _) dX10_init_646 (fun v9 u9 hq => ?_) (fun k9 u9 hq => by obtain ⟨_, e9, _⟩ := hq; cases e9)
  obtain ⟨r33, e9, rfl, h⟩ := hq
  obtain rfl := Sum.inl.inj e9
  show J Γ RX10 cX10_init 1 none "<init>" [] 3 kc ks 649 [(0, .ref 1198)] [.long r33, .int 11, .ref 1205] (n, K, A, L32, G) P
  refine j_lastJ (j := 11) (m_lt hm (by decide)) (fk_1205 hm) (by unfold vp_in; decide) rfl dX10_init_649 (fun L34 eL34 => ?_)
  replace h := h L34 eL34
  exact fX10_init_J650_ok  Q P hP   n K A L34 G kc ks h
def fX10_init_J438   (Q : Nat → (Nat → pKd) → pA → pL → pG → Prop) (n : Nat) (K : Nat → pKd) (A : pA) (Lg : pL) (G : pG) (kc : Nat) (ks : Nat) : Prop :=
    (1198 < n) ∧ ((K 1198 = .inl 9) ∧ ((mOK n K G) ∧ (fX10_word A 100 111 103 0 0 0 0 (fun r35 => ∀ L36 : pL, L36 = pup Lg 1205 2 r35 → fX10_word A 112 101 114 115 111 110 0 (fun r37 => ∀ L38 : pL, L38 = pup L36 1205 3 r37 → fX10_word A 101 114 114 97 110 100 0 (fun r39 => ∀ L40 : pL, L40 = pup L38 1205 4 r39 → fX10_word A 119 97 110 116 115 0 0 (fun r41 => ∀ L42 : pL, L42 = pup L40 1205 5 r41 → fX10_word A 116 97 107 101 115 0 0 (fun r43 => ∀ L44 : pL, L44 = pup L42 1205 6 r43 → fX10_init_J544   Q n K A L44 G kc ks))))))))
theorem fX10_init_J438_ok {Γ : jG} (Q : Nat → (Nat → pKd) → pA → pL → pG → Prop) (P : jO → pS → Prop) (hP : P = (fun o u => ∃ (n' : Nat) (K' : Nat → pKd) (A' : pA) (Lg' : pL) (G' : pG), o = .inl none ∧ u = (n', K', A', Lg', G') ∧ Q n' K' A' Lg' G'))   (n : Nat) (K : Nat → pKd) (A : pA) (Lg : pL) (G : pG) (kc : Nat) (ks : Nat) (h : fX10_init_J438   Q n K A Lg G kc ks) : J Γ RX10 cX10_init 1 none "<init>" [] 3 kc ks 438 [(0, .ref 1198)] [] (n, K, A, Lg, G) P := by
  unfold fX10_init_J438 at h
  refine j_aload_n 0 rfl dX10_init_438 ?_
  obtain ⟨h0l, h⟩ := h
  obtain ⟨h0k, h⟩ := h
  obtain ⟨hm, h⟩ := h
  refine j_getfr fl_X10_34_9 rfl h0l h0k (fg_1198_9 hm) dX10_init_439 ?_
  refine j_iconst (v := 2) dX10_init_442 (by decide) ?_
  refine j_bipush (v := 100) dX10_init_443 (by decide) ?_
  refine j_bipush (v := 111) dX10_init_445 (by decide) ?_
  refine j_bipush (v := 103) dX10_init_447 (by decide) ?_
  refine j_iconst (v := 0) dX10_init_449 (by decide) ?_
  refine j_iconst (v := 0) dX10_init_450 (by decide) ?_
  refine j_iconst (v := 0) dX10_init_451 (by decide) ?_
  refine j_iconst (v := 0) dX10_init_452 (by decide) ?_
  refine j_callS (As := [.int 100, .int 111, .int 103, .int 0, .int 0, .int 0, .int 0]) (st := [.int 2, .ref 1205]) (kc' := kc) (ks' := ks) (tX10_word hm 100 111 103 0 0 0 0 _ h) myX10_word q1533 q1534 rfl (Nat.le_of_ble_eq_true rfl) rfl (by decide) (Nat.le_refl _) (Nat.le_refl _) dX10_init_453 (fun v9 u9 hq => ?_) (fun k9 u9 hq => by obtain ⟨_, e9, _⟩ := hq; cases e9)
  obtain ⟨r35, e9, rfl, h⟩ := hq
  obtain rfl := Sum.inl.inj e9
  show J Γ RX10 cX10_init 1 none "<init>" [] 3 kc ks 456 [(0, .ref 1198)] [.long r35, .int 2, .ref 1205] (n, K, A, Lg, G) P
  refine j_lastJ (j := 2) (m_lt hm (by decide)) (fk_1205 hm) (by unfold vp_in; decide) rfl dX10_init_456 (fun L36 eL36 => ?_)
  replace h := h L36 eL36
  refine j_aload_n 0 rfl dX10_init_457 ?_
  refine j_getfr fl_X10_34_9 rfl h0l h0k (fg_1198_9 hm) dX10_init_458 ?_
  refine j_iconst (v := 3) dX10_init_461 (by decide) ?_
  refine j_bipush (v := 112) dX10_init_462 (by decide) ?_
  refine j_bipush (v := 101) dX10_init_464 (by decide) ?_
  refine j_bipush (v := 114) dX10_init_466 (by decide) ?_
  refine j_bipush (v := 115) dX10_init_468 (by decide) ?_
  refine j_bipush (v := 111) dX10_init_470 (by decide) ?_
  refine j_bipush (v := 110) dX10_init_472 (by decide) ?_
  refine j_iconst (v := 0) dX10_init_474 (by decide) ?_
  refine j_callS (As := [.int 112, .int 101, .int 114, .int 115, .int 111, .int 110, .int 0]) (st := [.int 3, .ref 1205]) (kc' := kc) (ks' := ks) (tX10_word hm 112 101 114 115 111 110 0 _ h) myX10_word q1533 q1534 rfl (Nat.le_of_ble_eq_true rfl) rfl (by decide) (Nat.le_refl _) (Nat.le_refl _) dX10_init_475 (fun v9 u9 hq => ?_) (fun k9 u9 hq => by obtain ⟨_, e9, _⟩ := hq; cases e9)
  obtain ⟨r37, e9, rfl, h⟩ := hq
  obtain rfl := Sum.inl.inj e9
  show J Γ RX10 cX10_init 1 none "<init>" [] 3 kc ks 478 [(0, .ref 1198)] [.long r37, .int 3, .ref 1205] (n, K, A, L36, G) P
  refine j_lastJ (j := 3) (m_lt hm (by decide)) (fk_1205 hm) (by unfold vp_in; decide) rfl dX10_init_478 (fun L38 eL38 => ?_)
  replace h := h L38 eL38
  refine j_aload_n 0 rfl dX10_init_479 ?_
  refine j_getfr fl_X10_34_9 rfl h0l h0k (fg_1198_9 hm) dX10_init_480 ?_
  refine j_iconst (v := 4) dX10_init_483 (by decide) ?_
  refine j_bipush (v := 101) dX10_init_484 (by decide) ?_
  refine j_bipush (v := 114) dX10_init_486 (by decide) ?_
  refine j_bipush (v := 114) dX10_init_488 (by decide) ?_
  refine j_bipush (v := 97) dX10_init_490 (by decide) ?_
  refine j_bipush (v := 110) dX10_init_492 (by decide) ?_
  refine j_bipush (v := 100) dX10_init_494 (by decide) ?_
  refine j_iconst (v := 0) dX10_init_496 (by decide) ?_
  refine j_callS (As := [.int 101, .int 114, .int 114, .int 97, .int 110, .int 100, .int 0]) (st := [.int 4, .ref 1205]) (kc' := kc) (ks' := ks) (tX10_word hm 101 114 114 97 110 100 0 _ h) myX10_word q1533 q1534 rfl (Nat.le_of_ble_eq_true rfl) rfl (by decide) (Nat.le_refl _) (Nat.le_refl _) dX10_init_497 (fun v9 u9 hq => ?_) (fun k9 u9 hq => by obtain ⟨_, e9, _⟩ := hq; cases e9)
  obtain ⟨r39, e9, rfl, h⟩ := hq
  obtain rfl := Sum.inl.inj e9
  show J Γ RX10 cX10_init 1 none "<init>" [] 3 kc ks 500 [(0, .ref 1198)] [.long r39, .int 4, .ref 1205] (n, K, A, L38, G) P
  refine j_lastJ (j := 4) (m_lt hm (by decide)) (fk_1205 hm) (by unfold vp_in; decide) rfl dX10_init_500 (fun L40 eL40 => ?_)
  replace h := h L40 eL40
  refine j_aload_n 0 rfl dX10_init_501 ?_
  refine j_getfr fl_X10_34_9 rfl h0l h0k (fg_1198_9 hm) dX10_init_502 ?_
  refine j_iconst (v := 5) dX10_init_505 (by decide) ?_
  refine j_bipush (v := 119) dX10_init_506 (by decide) ?_
  refine j_bipush (v := 97) dX10_init_508 (by decide) ?_
  refine j_bipush (v := 110) dX10_init_510 (by decide) ?_
  refine j_bipush (v := 116) dX10_init_512 (by decide) ?_
  refine j_bipush (v := 115) dX10_init_514 (by decide) ?_
  refine j_iconst (v := 0) dX10_init_516 (by decide) ?_
  refine j_iconst (v := 0) dX10_init_517 (by decide) ?_
  refine j_callS (As := [.int 119, .int 97, .int 110, .int 116, .int 115, .int 0, .int 0]) (st := [.int 5, .ref 1205]) (kc' := kc) (ks' := ks) (tX10_word hm 119 97 110 116 115 0 0 _ h) myX10_word q1533 q1534 rfl (Nat.le_of_ble_eq_true rfl) rfl (by decide) (Nat.le_refl _) (Nat.le_refl _) dX10_init_518 (fun v9 u9 hq => ?_) (fun k9 u9 hq => by obtain ⟨_, e9, _⟩ := hq; cases e9)
  obtain ⟨r41, e9, rfl, h⟩ := hq
  obtain rfl := Sum.inl.inj e9
  show J Γ RX10 cX10_init 1 none "<init>" [] 3 kc ks 521 [(0, .ref 1198)] [.long r41, .int 5, .ref 1205] (n, K, A, L40, G) P
  refine j_lastJ (j := 5) (m_lt hm (by decide)) (fk_1205 hm) (by unfold vp_in; decide) rfl dX10_init_521 (fun L42 eL42 => ?_)
  replace h := h L42 eL42
  refine j_aload_n 0 rfl dX10_init_522 ?_
  refine j_getfr fl_X10_34_9 rfl h0l h0k (fg_1198_9 hm) dX10_init_523 ?_
  refine j_bipush (v := 6) dX10_init_526 (by decide) ?_
  refine j_bipush (v := 116) dX10_init_528 (by decide) ?_
  refine j_bipush (v := 97) dX10_init_530 (by decide) ?_
  refine j_bipush (v := 107) dX10_init_532 (by decide) ?_
  refine j_bipush (v := 101) dX10_init_534 (by decide) ?_
  refine j_bipush (v := 115) dX10_init_536 (by decide) ?_
  refine j_iconst (v := 0) dX10_init_538 (by decide) ?_
  refine j_iconst (v := 0) dX10_init_539 (by decide) ?_
  refine j_callS (As := [.int 116, .int 97, .int 107, .int 101, .int 115, .int 0, .int 0]) (st := [.int 6, .ref 1205]) (kc' := kc) (ks' := ks) (tX10_word hm 116 97 107 101 115 0 0 _ h) myX10_word q1533 q1534 rfl (Nat.le_of_ble_eq_true rfl) rfl (by decide) (Nat.le_refl _) (Nat.le_refl _) dX10_init_540 (fun v9 u9 hq => ?_) (fun k9 u9 hq => by obtain ⟨_, e9, _⟩ := hq; cases e9)
  obtain ⟨r43, e9, rfl, h⟩ := hq
  obtain rfl := Sum.inl.inj e9
  show J Γ RX10 cX10_init 1 none "<init>" [] 3 kc ks 543 [(0, .ref 1198)] [.long r43, .int 6, .ref 1205] (n, K, A, L42, G) P
  refine j_lastJ (j := 6) (m_lt hm (by decide)) (fk_1205 hm) (by unfold vp_in; decide) rfl dX10_init_543 (fun L44 eL44 => ?_)
  replace h := h L44 eL44
  exact fX10_init_J544_ok  Q P hP   n K A L44 G kc ks h
def fX10_init_J369   (Q : Nat → (Nat → pKd) → pA → pL → pG → Prop) (n : Nat) (K : Nat → pKd) (A : pA) (Lg : pL) (G : pG) (kc : Nat) (ks : Nat) : Prop :=
    (1 ≤ kc) ∧ ((4 ≤ ks) ∧ (∀ (K47 : Nat → pKd) (A48 : pA) (L49 : pL) (G50 : pG), K47 = pkup K n (.inr (0, 4)) → A48 = prow A n (fun _ => 0) → L49 = prow Lg n (fun _ => 0) → G50 = prow G n (fun _ => .null) → (1198 < (n + 1)) ∧ ((K47 1198 = .inl 9) ∧ (∀ G53 : pG, G53 = pup G50 1198 64 (.ref n) → (1 ≤ kc - 1) ∧ ((3 ≤ ks - 4) ∧ (∀ (K56 : Nat → pKd) (A57 : pA) (L58 : pL) (G59 : pG), K56 = pkup K47 (n + 1) (.inr (3, 3)) → A57 = prow A48 (n + 1) (fun _ => 0) → L58 = prow L49 (n + 1) (fun _ => 0) → G59 = prow G53 (n + 1) (fun _ => .null) → (1198 < (n + 1 + 1)) ∧ ((K56 1198 = .inl 9) ∧ (∀ G62 : pG, G62 = pup G59 1198 65 (.ref (n + 1)) → (1 ≤ kc - 1 - 1) ∧ ((231 ≤ ks - 4 - 3) ∧ (∀ (K65 : Nat → pKd) (A66 : pA) (L67 : pL) (G68 : pG), K65 = pkup K56 (n + 1 + 1) (.inr (0, 231)) → A66 = prow A57 (n + 1 + 1) (fun _ => 0) → L67 = prow L58 (n + 1 + 1) (fun _ => 0) → G68 = prow G62 (n + 1 + 1) (fun _ => .null) → (1198 < (n + 1 + 1 + 1)) ∧ ((K65 1198 = .inl 9) ∧ (∀ G71 : pG, G71 = pup G68 1198 66 (.ref (n + 1 + 1)) → (mOK (n + 1 + 1 + 1) K65 G71) ∧ (fX10_plain A66 0 (fun A72 => fX10_word A72 112 108 97 99 101 0 0 (fun r73 => ∀ L74 : pL, L74 = pup L67 1205 0 r73 → fX10_word A72 112 97 116 104 0 0 0 (fun r75 => ∀ L76 : pL, L76 = pup L74 1205 1 r75 → fX10_init_J438   Q (n + 1 + 1 + 1) K65 A72 L76 G71 (kc - 1 - 1 - 1) (ks - 4 - 3 - 231)))))))))))))))))
theorem fX10_init_J369_ok {Γ : jG} (Q : Nat → (Nat → pKd) → pA → pL → pG → Prop) (P : jO → pS → Prop) (hP : P = (fun o u => ∃ (n' : Nat) (K' : Nat → pKd) (A' : pA) (Lg' : pL) (G' : pG), o = .inl none ∧ u = (n', K', A', Lg', G') ∧ Q n' K' A' Lg' G'))   (n : Nat) (K : Nat → pKd) (A : pA) (Lg : pL) (G : pG) (kc : Nat) (ks : Nat) (h : fX10_init_J369   Q n K A Lg G kc ks) : J Γ RX10 cX10_init 1 none "<init>" [] 3 kc ks 369 [(0, .ref 1198)] [] (n, K, A, Lg, G) P := by
  unfold fX10_init_J369 at h
  refine j_aload_n 0 rfl dX10_init_369 ?_
  refine j_iconst (v := 4) dX10_init_370 (by decide) ?_
  obtain ⟨b45, h⟩ := h
  obtain ⟨b46, h⟩ := h
  refine j_newaE (t := 0) (N := 4) rfl rfl q431 (fun _ _ h9 => h9) rfl (by decide) (by decide) (by decide) b45 b46 dX10_init_371 (fun K47 A48 L49 G50 eK47 eA48 eL49 eG50 => ?_)
  replace h := h K47 A48 L49 G50 eK47 eA48 eL49 eG50
  have b51 : n < (n + 1) := (by omega)
  have b52 : K47 n = .inr (0, 4) := (by rw [eK47]; exact pkup_self)
  obtain ⟨h0l, h⟩ := h
  obtain ⟨h0k, h⟩ := h
  refine j_putfrE (fp_i_X10_152_9 _ rfl) rfl (Or.inr ⟨_, rfl⟩) (Or.inr ⟨_, rfl⟩) h0l h0k dX10_init_373 (fun G53 eG53 => ?_)
  replace h := h G53 eG53
  refine j_aload_n 0 rfl dX10_init_376 ?_
  refine j_iconst (v := 3) dX10_init_377 (by decide) ?_
  obtain ⟨b54, h⟩ := h
  obtain ⟨b55, h⟩ := h
  refine j_newaE (t := 3) (N := 3) rfl rfl q610 (fun _ _ h9 => h9) rfl (by decide) (by decide) (by decide) b54 b55 dX10_init_378 (fun K56 A57 L58 G59 eK56 eA57 eL58 eG59 => ?_)
  replace h := h K56 A57 L58 G59 eK56 eA57 eL58 eG59
  have b60 : (n + 1) < (n + 1 + 1) := (by omega)
  have b61 : K56 (n + 1) = .inr (3, 3) := (by rw [eK56]; exact pkup_self)
  obtain ⟨h0l, h⟩ := h
  obtain ⟨h0k, h⟩ := h
  refine j_putfrE (fp_i_X10_155_9 _ rfl) rfl (Or.inr ⟨_, rfl⟩) (Or.inr ⟨_, rfl⟩) h0l h0k dX10_init_380 (fun G62 eG62 => ?_)
  replace h := h G62 eG62
  refine j_aload_n 0 rfl dX10_init_383 ?_
  refine j_sipush (v := 231) dX10_init_384 (by decide) ?_
  obtain ⟨b63, h⟩ := h
  obtain ⟨b64, h⟩ := h
  refine j_newaE (t := 0) (N := 231) rfl rfl q431 (fun _ _ h9 => h9) rfl (by decide) (by decide) (by decide) b63 b64 dX10_init_387 (fun K65 A66 L67 G68 eK65 eA66 eL67 eG68 => ?_)
  replace h := h K65 A66 L67 G68 eK65 eA66 eL67 eG68
  have b69 : (n + 1 + 1) < (n + 1 + 1 + 1) := (by omega)
  have b70 : K65 (n + 1 + 1) = .inr (0, 231) := (by rw [eK65]; exact pkup_self)
  obtain ⟨h0l, h⟩ := h
  obtain ⟨h0k, h⟩ := h
  refine j_putfrE (fp_i_X10_158_9 _ rfl) rfl (Or.inr ⟨_, rfl⟩) (Or.inr ⟨_, rfl⟩) h0l h0k dX10_init_389 (fun G71 eG71 => ?_)
  replace h := h G71 eG71
  refine j_aload_n 0 rfl dX10_init_392 ?_
  refine j_iconst (v := 0) dX10_init_393 (by decide) ?_
  obtain ⟨hm, h⟩ := h
  refine j_callV (b := 1198) (As := [.int 0]) (st := []) (C := RX10) (kc' := kc - 1 - 1 - 1) (ks' := ks - 4 - 3 - 231) (tX10_plain hm 0 _ h) myX10_plain rfl q1529 q1531 qs54 (by decide) (fun s9 H9 hK9 hR9 h69 => jIs_in hK9 hR9 h69 h0l h0k rfl) rfl (Nat.le_of_ble_eq_true rfl) rfl (by decide) (Nat.le_refl _) (Nat.le_refl _) dX10_init_394 (fun v9 u9 hq => ?_) (fun k9 u9 hq => by obtain ⟨_, e9, _⟩ := hq; cases e9)
  obtain ⟨A72, e9, rfl, h⟩ := hq
  obtain rfl := Sum.inl.inj e9
  show J Γ RX10 cX10_init 1 none "<init>" [] 3 (kc - 1 - 1 - 1) (ks - 4 - 3 - 231) 397 [(0, .ref 1198)] [] (n + 1 + 1 + 1, K65, A72, L67, G71) P
  refine j_aload_n 0 rfl dX10_init_397 ?_
  refine j_getfr fl_X10_34_9 rfl h0l h0k (fg_1198_9 hm) dX10_init_398 ?_
  refine j_iconst (v := 0) dX10_init_401 (by decide) ?_
  refine j_bipush (v := 112) dX10_init_402 (by decide) ?_
  refine j_bipush (v := 108) dX10_init_404 (by decide) ?_
  refine j_bipush (v := 97) dX10_init_406 (by decide) ?_
  refine j_bipush (v := 99) dX10_init_408 (by decide) ?_
  refine j_bipush (v := 101) dX10_init_410 (by decide) ?_
  refine j_iconst (v := 0) dX10_init_412 (by decide) ?_
  refine j_iconst (v := 0) dX10_init_413 (by decide) ?_
  refine j_callS (As := [.int 112, .int 108, .int 97, .int 99, .int 101, .int 0, .int 0]) (st := [.int 0, .ref 1205]) (kc' := kc - 1 - 1 - 1) (ks' := ks - 4 - 3 - 231) (tX10_word hm 112 108 97 99 101 0 0 _ h) myX10_word q1533 q1534 rfl (Nat.le_of_ble_eq_true rfl) rfl (by decide) (Nat.le_refl _) (Nat.le_refl _) dX10_init_414 (fun v9 u9 hq => ?_) (fun k9 u9 hq => by obtain ⟨_, e9, _⟩ := hq; cases e9)
  obtain ⟨r73, e9, rfl, h⟩ := hq
  obtain rfl := Sum.inl.inj e9
  show J Γ RX10 cX10_init 1 none "<init>" [] 3 (kc - 1 - 1 - 1) (ks - 4 - 3 - 231) 417 [(0, .ref 1198)] [.long r73, .int 0, .ref 1205] (n + 1 + 1 + 1, K65, A72, L67, G71) P
  refine j_lastJ (j := 0) (m_lt hm (by decide)) (fk_1205 hm) (by unfold vp_in; decide) rfl dX10_init_417 (fun L74 eL74 => ?_)
  replace h := h L74 eL74
  refine j_aload_n 0 rfl dX10_init_418 ?_
  refine j_getfr fl_X10_34_9 rfl h0l h0k (fg_1198_9 hm) dX10_init_419 ?_
  refine j_iconst (v := 1) dX10_init_422 (by decide) ?_
  refine j_bipush (v := 112) dX10_init_423 (by decide) ?_
  refine j_bipush (v := 97) dX10_init_425 (by decide) ?_
  refine j_bipush (v := 116) dX10_init_427 (by decide) ?_
  refine j_bipush (v := 104) dX10_init_429 (by decide) ?_
  refine j_iconst (v := 0) dX10_init_431 (by decide) ?_
  refine j_iconst (v := 0) dX10_init_432 (by decide) ?_
  refine j_iconst (v := 0) dX10_init_433 (by decide) ?_
  refine j_callS (As := [.int 112, .int 97, .int 116, .int 104, .int 0, .int 0, .int 0]) (st := [.int 1, .ref 1205]) (kc' := kc - 1 - 1 - 1) (ks' := ks - 4 - 3 - 231) (tX10_word hm 112 97 116 104 0 0 0 _ h) myX10_word q1533 q1534 rfl (Nat.le_of_ble_eq_true rfl) rfl (by decide) (Nat.le_refl _) (Nat.le_refl _) dX10_init_434 (fun v9 u9 hq => ?_) (fun k9 u9 hq => by obtain ⟨_, e9, _⟩ := hq; cases e9)
  obtain ⟨r75, e9, rfl, h⟩ := hq
  obtain rfl := Sum.inl.inj e9
  show J Γ RX10 cX10_init 1 none "<init>" [] 3 (kc - 1 - 1 - 1) (ks - 4 - 3 - 231) 437 [(0, .ref 1198)] [.long r75, .int 1, .ref 1205] (n + 1 + 1 + 1, K65, A72, L74, G71) P
  refine j_lastJ (j := 1) (m_lt hm (by decide)) (fk_1205 hm) (by unfold vp_in; decide) rfl dX10_init_437 (fun L76 eL76 => ?_)
  replace h := h L76 eL76
  exact fX10_init_J438_ok  Q P hP   (n + 1 + 1 + 1) K65 A72 L76 G71 (kc - 1 - 1 - 1) (ks - 4 - 3 - 231) h
def fX10_init_J327   (Q : Nat → (Nat → pKd) → pA → pL → pG → Prop) (n : Nat) (K : Nat → pKd) (A : pA) (Lg : pL) (G : pG) (kc : Nat) (ks : Nat) : Prop :=
    (1 ≤ kc) ∧ ((77 ≤ ks) ∧ (∀ (K79 : Nat → pKd) (A80 : pA) (L81 : pL) (G82 : pG), K79 = pkup K n (.inr (0, 77)) → A80 = prow A n (fun _ => 0) → L81 = prow Lg n (fun _ => 0) → G82 = prow G n (fun _ => .null) → (1198 < (n + 1)) ∧ ((K79 1198 = .inl 9) ∧ (∀ G85 : pG, G85 = pup G82 1198 57 (.ref n) → (1 ≤ kc - 1) ∧ ((3080 ≤ ks - 77) ∧ (∀ (K88 : Nat → pKd) (A89 : pA) (L90 : pL) (G91 : pG), K88 = pkup K79 (n + 1) (.inr (0, 3080)) → A89 = prow A80 (n + 1) (fun _ => 0) → L90 = prow L81 (n + 1) (fun _ => 0) → G91 = prow G85 (n + 1) (fun _ => .null) → (1198 < (n + 1 + 1)) ∧ ((K88 1198 = .inl 9) ∧ (∀ G94 : pG, G94 = pup G91 1198 59 (.ref (n + 1)) → (1 ≤ kc - 1 - 1) ∧ ((896 ≤ ks - 77 - 3080) ∧ (∀ (K97 : Nat → pKd) (A98 : pA) (L99 : pL) (G100 : pG), K97 = pkup K88 (n + 1 + 1) (.inr (0, 896)) → A98 = prow A89 (n + 1 + 1) (fun _ => 0) → L99 = prow L90 (n + 1 + 1) (fun _ => 0) → G100 = prow G94 (n + 1 + 1) (fun _ => .null) → (1198 < (n + 1 + 1 + 1)) ∧ ((K97 1198 = .inl 9) ∧ (∀ G103 : pG, G103 = pup G100 1198 60 (.ref (n + 1 + 1)) → (1 ≤ kc - 1 - 1 - 1) ∧ ((20 ≤ ks - 77 - 3080 - 896) ∧ (∀ (K106 : Nat → pKd) (A107 : pA) (L108 : pL) (G109 : pG), K106 = pkup K97 (n + 1 + 1 + 1) (.inr (0, 20)) → A107 = prow A98 (n + 1 + 1 + 1) (fun _ => 0) → L108 = prow L99 (n + 1 + 1 + 1) (fun _ => 0) → G109 = prow G103 (n + 1 + 1 + 1) (fun _ => .null) → (1198 < (n + 1 + 1 + 1 + 1)) ∧ ((K106 1198 = .inl 9) ∧ (∀ G112 : pG, G112 = pup G109 1198 62 (.ref (n + 1 + 1 + 1)) → (1 ≤ kc - 1 - 1 - 1 - 1) ∧ ((20 ≤ ks - 77 - 3080 - 896 - 20) ∧ (∀ (K115 : Nat → pKd) (A116 : pA) (L117 : pL) (G118 : pG), K115 = pkup K106 (n + 1 + 1 + 1 + 1) (.inr (3, 20)) → A116 = prow A107 (n + 1 + 1 + 1 + 1) (fun _ => 0) → L117 = prow L108 (n + 1 + 1 + 1 + 1) (fun _ => 0) → G118 = prow G112 (n + 1 + 1 + 1 + 1) (fun _ => .null) → (1198 < (n + 1 + 1 + 1 + 1 + 1)) ∧ ((K115 1198 = .inl 9) ∧ (∀ G121 : pG, G121 = pup G118 1198 63 (.ref (n + 1 + 1 + 1 + 1)) → fX10_init_J369   Q (n + 1 + 1 + 1 + 1 + 1) K115 A116 L117 G121 (kc - 1 - 1 - 1 - 1 - 1) (ks - 77 - 3080 - 896 - 20 - 20)))))))))))))))))))))
theorem fX10_init_J327_ok {Γ : jG} (Q : Nat → (Nat → pKd) → pA → pL → pG → Prop) (P : jO → pS → Prop) (hP : P = (fun o u => ∃ (n' : Nat) (K' : Nat → pKd) (A' : pA) (Lg' : pL) (G' : pG), o = .inl none ∧ u = (n', K', A', Lg', G') ∧ Q n' K' A' Lg' G'))   (n : Nat) (K : Nat → pKd) (A : pA) (Lg : pL) (G : pG) (kc : Nat) (ks : Nat) (h : fX10_init_J327   Q n K A Lg G kc ks) : J Γ RX10 cX10_init 1 none "<init>" [] 3 kc ks 327 [(0, .ref 1198)] [] (n, K, A, Lg, G) P := by
  unfold fX10_init_J327 at h
  refine j_aload_n 0 rfl dX10_init_327 ?_
  refine j_bipush (v := 77) dX10_init_328 (by decide) ?_
  obtain ⟨b77, h⟩ := h
  obtain ⟨b78, h⟩ := h
  refine j_newaE (t := 0) (N := 77) rfl rfl q431 (fun _ _ h9 => h9) rfl (by decide) (by decide) (by decide) b77 b78 dX10_init_330 (fun K79 A80 L81 G82 eK79 eA80 eL81 eG82 => ?_)
  replace h := h K79 A80 L81 G82 eK79 eA80 eL81 eG82
  have b83 : n < (n + 1) := (by omega)
  have b84 : K79 n = .inr (0, 77) := (by rw [eK79]; exact pkup_self)
  obtain ⟨h0l, h⟩ := h
  obtain ⟨h0k, h⟩ := h
  refine j_putfrE (fp_i_X10_137_9 _ rfl) rfl (Or.inr ⟨_, rfl⟩) (Or.inr ⟨_, rfl⟩) h0l h0k dX10_init_332 (fun G85 eG85 => ?_)
  replace h := h G85 eG85
  refine j_aload_n 0 rfl dX10_init_335 ?_
  refine j_sipush (v := 3080) dX10_init_336 (by decide) ?_
  obtain ⟨b86, h⟩ := h
  obtain ⟨b87, h⟩ := h
  refine j_newaE (t := 0) (N := 3080) rfl rfl q431 (fun _ _ h9 => h9) rfl (by decide) (by decide) (by decide) b86 b87 dX10_init_339 (fun K88 A89 L90 G91 eK88 eA89 eL90 eG91 => ?_)
  replace h := h K88 A89 L90 G91 eK88 eA89 eL90 eG91
  have b92 : (n + 1) < (n + 1 + 1) := (by omega)
  have b93 : K88 (n + 1) = .inr (0, 3080) := (by rw [eK88]; exact pkup_self)
  obtain ⟨h0l, h⟩ := h
  obtain ⟨h0k, h⟩ := h
  refine j_putfrE (fp_i_X10_140_9 _ rfl) rfl (Or.inr ⟨_, rfl⟩) (Or.inr ⟨_, rfl⟩) h0l h0k dX10_init_341 (fun G94 eG94 => ?_)
  replace h := h G94 eG94
  refine j_aload_n 0 rfl dX10_init_344 ?_
  refine j_sipush (v := 896) dX10_init_345 (by decide) ?_
  obtain ⟨b95, h⟩ := h
  obtain ⟨b96, h⟩ := h
  refine j_newaE (t := 0) (N := 896) rfl rfl q431 (fun _ _ h9 => h9) rfl (by decide) (by decide) (by decide) b95 b96 dX10_init_348 (fun K97 A98 L99 G100 eK97 eA98 eL99 eG100 => ?_)
  replace h := h K97 A98 L99 G100 eK97 eA98 eL99 eG100
  have b101 : (n + 1 + 1) < (n + 1 + 1 + 1) := (by omega)
  have b102 : K97 (n + 1 + 1) = .inr (0, 896) := (by rw [eK97]; exact pkup_self)
  obtain ⟨h0l, h⟩ := h
  obtain ⟨h0k, h⟩ := h
  refine j_putfrE (fp_i_X10_143_9 _ rfl) rfl (Or.inr ⟨_, rfl⟩) (Or.inr ⟨_, rfl⟩) h0l h0k dX10_init_350 (fun G103 eG103 => ?_)
  replace h := h G103 eG103
  refine j_aload_n 0 rfl dX10_init_353 ?_
  refine j_bipush (v := 20) dX10_init_354 (by decide) ?_
  obtain ⟨b104, h⟩ := h
  obtain ⟨b105, h⟩ := h
  refine j_newaE (t := 0) (N := 20) rfl rfl q431 (fun _ _ h9 => h9) rfl (by decide) (by decide) (by decide) b104 b105 dX10_init_356 (fun K106 A107 L108 G109 eK106 eA107 eL108 eG109 => ?_)
  replace h := h K106 A107 L108 G109 eK106 eA107 eL108 eG109
  have b110 : (n + 1 + 1 + 1) < (n + 1 + 1 + 1 + 1) := (by omega)
  have b111 : K106 (n + 1 + 1 + 1) = .inr (0, 20) := (by rw [eK106]; exact pkup_self)
  obtain ⟨h0l, h⟩ := h
  obtain ⟨h0k, h⟩ := h
  refine j_putfrE (fp_i_X10_146_9 _ rfl) rfl (Or.inr ⟨_, rfl⟩) (Or.inr ⟨_, rfl⟩) h0l h0k dX10_init_358 (fun G112 eG112 => ?_)
  replace h := h G112 eG112
  refine j_aload_n 0 rfl dX10_init_361 ?_
  refine j_bipush (v := 20) dX10_init_362 (by decide) ?_
  obtain ⟨b113, h⟩ := h
  obtain ⟨b114, h⟩ := h
  refine j_newaE (t := 3) (N := 20) rfl rfl q610 (fun _ _ h9 => h9) rfl (by decide) (by decide) (by decide) b113 b114 dX10_init_364 (fun K115 A116 L117 G118 eK115 eA116 eL117 eG118 => ?_)
  replace h := h K115 A116 L117 G118 eK115 eA116 eL117 eG118
  have b119 : (n + 1 + 1 + 1 + 1) < (n + 1 + 1 + 1 + 1 + 1) := (by omega)
  have b120 : K115 (n + 1 + 1 + 1 + 1) = .inr (3, 20) := (by rw [eK115]; exact pkup_self)
  obtain ⟨h0l, h⟩ := h
  obtain ⟨h0k, h⟩ := h
  refine j_putfrE (fp_i_X10_149_9 _ rfl) rfl (Or.inr ⟨_, rfl⟩) (Or.inr ⟨_, rfl⟩) h0l h0k dX10_init_366 (fun G121 eG121 => ?_)
  replace h := h G121 eG121
  exact fX10_init_J369_ok  Q P hP   (n + 1 + 1 + 1 + 1 + 1) K115 A116 L117 G121 (kc - 1 - 1 - 1 - 1 - 1) (ks - 77 - 3080 - 896 - 20 - 20) h
def fX10_init_J286   (Q : Nat → (Nat → pKd) → pA → pL → pG → Prop) (n : Nat) (K : Nat → pKd) (A : pA) (Lg : pL) (G : pG) (kc : Nat) (ks : Nat) : Prop :=
    (1 ≤ kc) ∧ ((64 ≤ ks) ∧ (∀ (K124 : Nat → pKd) (A125 : pA) (L126 : pL) (G127 : pG), K124 = pkup K n (.inr (0, 64)) → A125 = prow A n (fun _ => 0) → L126 = prow Lg n (fun _ => 0) → G127 = prow G n (fun _ => .null) → (1198 < (n + 1)) ∧ ((K124 1198 = .inl 9) ∧ (∀ G130 : pG, G130 = pup G127 1198 50 (.ref n) → (1 ≤ kc - 1) ∧ ((9 ≤ ks - 64) ∧ (∀ (K133 : Nat → pKd) (A134 : pA) (L135 : pL) (G136 : pG), K133 = pkup K124 (n + 1) (.inr (0, 9)) → A134 = prow A125 (n + 1) (fun _ => 0) → L135 = prow L126 (n + 1) (fun _ => 0) → G136 = prow G130 (n + 1) (fun _ => .null) → (1198 < (n + 1 + 1)) ∧ ((K133 1198 = .inl 9) ∧ (∀ G139 : pG, G139 = pup G136 1198 52 (.ref (n + 1)) → (1 ≤ kc - 1 - 1) ∧ ((400 ≤ ks - 64 - 9) ∧ (∀ (K142 : Nat → pKd) (A143 : pA) (L144 : pL) (G145 : pG), K142 = pkup K133 (n + 1 + 1) (.inr (0, 400)) → A143 = prow A134 (n + 1 + 1) (fun _ => 0) → L144 = prow L135 (n + 1 + 1) (fun _ => 0) → G145 = prow G139 (n + 1 + 1) (fun _ => .null) → (1198 < (n + 1 + 1 + 1)) ∧ ((K142 1198 = .inl 9) ∧ (∀ G148 : pG, G148 = pup G145 1198 53 (.ref (n + 1 + 1)) → (1 ≤ kc - 1 - 1 - 1) ∧ ((49 ≤ ks - 64 - 9 - 400) ∧ (∀ (K151 : Nat → pKd) (A152 : pA) (L153 : pL) (G154 : pG), K151 = pkup K142 (n + 1 + 1 + 1) (.inr (0, 49)) → A152 = prow A143 (n + 1 + 1 + 1) (fun _ => 0) → L153 = prow L144 (n + 1 + 1 + 1) (fun _ => 0) → G154 = prow G148 (n + 1 + 1 + 1) (fun _ => .null) → (1198 < (n + 1 + 1 + 1 + 1)) ∧ ((K151 1198 = .inl 9) ∧ (∀ G157 : pG, G157 = pup G154 1198 55 (.ref (n + 1 + 1 + 1)) → (1 ≤ kc - 1 - 1 - 1 - 1) ∧ ((77 ≤ ks - 64 - 9 - 400 - 49) ∧ (∀ (K160 : Nat → pKd) (A161 : pA) (L162 : pL) (G163 : pG), K160 = pkup K151 (n + 1 + 1 + 1 + 1) (.inr (0, 77)) → A161 = prow A152 (n + 1 + 1 + 1 + 1) (fun _ => 0) → L162 = prow L153 (n + 1 + 1 + 1 + 1) (fun _ => 0) → G163 = prow G157 (n + 1 + 1 + 1 + 1) (fun _ => .null) → (1198 < (n + 1 + 1 + 1 + 1 + 1)) ∧ ((K160 1198 = .inl 9) ∧ (∀ G166 : pG, G166 = pup G163 1198 56 (.ref (n + 1 + 1 + 1 + 1)) → fX10_init_J327   Q (n + 1 + 1 + 1 + 1 + 1) K160 A161 L162 G166 (kc - 1 - 1 - 1 - 1 - 1) (ks - 64 - 9 - 400 - 49 - 77)))))))))))))))))))))
theorem fX10_init_J286_ok {Γ : jG} (Q : Nat → (Nat → pKd) → pA → pL → pG → Prop) (P : jO → pS → Prop) (hP : P = (fun o u => ∃ (n' : Nat) (K' : Nat → pKd) (A' : pA) (Lg' : pL) (G' : pG), o = .inl none ∧ u = (n', K', A', Lg', G') ∧ Q n' K' A' Lg' G'))   (n : Nat) (K : Nat → pKd) (A : pA) (Lg : pL) (G : pG) (kc : Nat) (ks : Nat) (h : fX10_init_J286   Q n K A Lg G kc ks) : J Γ RX10 cX10_init 1 none "<init>" [] 3 kc ks 286 [(0, .ref 1198)] [] (n, K, A, Lg, G) P := by
  unfold fX10_init_J286 at h
  refine j_aload_n 0 rfl dX10_init_286 ?_
  refine j_bipush (v := 64) dX10_init_287 (by decide) ?_
  obtain ⟨b122, h⟩ := h
  obtain ⟨b123, h⟩ := h
  refine j_newaE (t := 0) (N := 64) rfl rfl q431 (fun _ _ h9 => h9) rfl (by decide) (by decide) (by decide) b122 b123 dX10_init_289 (fun K124 A125 L126 G127 eK124 eA125 eL126 eG127 => ?_)
  replace h := h K124 A125 L126 G127 eK124 eA125 eL126 eG127
  have b128 : n < (n + 1) := (by omega)
  have b129 : K124 n = .inr (0, 64) := (by rw [eK124]; exact pkup_self)
  obtain ⟨h0l, h⟩ := h
  obtain ⟨h0k, h⟩ := h
  refine j_putfrE (fp_i_X10_122_9 _ rfl) rfl (Or.inr ⟨_, rfl⟩) (Or.inr ⟨_, rfl⟩) h0l h0k dX10_init_291 (fun G130 eG130 => ?_)
  replace h := h G130 eG130
  refine j_aload_n 0 rfl dX10_init_294 ?_
  refine j_bipush (v := 9) dX10_init_295 (by decide) ?_
  obtain ⟨b131, h⟩ := h
  obtain ⟨b132, h⟩ := h
  refine j_newaE (t := 0) (N := 9) rfl rfl q431 (fun _ _ h9 => h9) rfl (by decide) (by decide) (by decide) b131 b132 dX10_init_297 (fun K133 A134 L135 G136 eK133 eA134 eL135 eG136 => ?_)
  replace h := h K133 A134 L135 G136 eK133 eA134 eL135 eG136
  have b137 : (n + 1) < (n + 1 + 1) := (by omega)
  have b138 : K133 (n + 1) = .inr (0, 9) := (by rw [eK133]; exact pkup_self)
  obtain ⟨h0l, h⟩ := h
  obtain ⟨h0k, h⟩ := h
  refine j_putfrE (fp_i_X10_125_9 _ rfl) rfl (Or.inr ⟨_, rfl⟩) (Or.inr ⟨_, rfl⟩) h0l h0k dX10_init_299 (fun G139 eG139 => ?_)
  replace h := h G139 eG139
  refine j_aload_n 0 rfl dX10_init_302 ?_
  refine j_sipush (v := 400) dX10_init_303 (by decide) ?_
  obtain ⟨b140, h⟩ := h
  obtain ⟨b141, h⟩ := h
  refine j_newaE (t := 0) (N := 400) rfl rfl q431 (fun _ _ h9 => h9) rfl (by decide) (by decide) (by decide) b140 b141 dX10_init_306 (fun K142 A143 L144 G145 eK142 eA143 eL144 eG145 => ?_)
  replace h := h K142 A143 L144 G145 eK142 eA143 eL144 eG145
  have b146 : (n + 1 + 1) < (n + 1 + 1 + 1) := (by omega)
  have b147 : K142 (n + 1 + 1) = .inr (0, 400) := (by rw [eK142]; exact pkup_self)
  obtain ⟨h0l, h⟩ := h
  obtain ⟨h0k, h⟩ := h
  refine j_putfrE (fp_i_X10_128_9 _ rfl) rfl (Or.inr ⟨_, rfl⟩) (Or.inr ⟨_, rfl⟩) h0l h0k dX10_init_308 (fun G148 eG148 => ?_)
  replace h := h G148 eG148
  refine j_aload_n 0 rfl dX10_init_311 ?_
  refine j_bipush (v := 49) dX10_init_312 (by decide) ?_
  obtain ⟨b149, h⟩ := h
  obtain ⟨b150, h⟩ := h
  refine j_newaE (t := 0) (N := 49) rfl rfl q431 (fun _ _ h9 => h9) rfl (by decide) (by decide) (by decide) b149 b150 dX10_init_314 (fun K151 A152 L153 G154 eK151 eA152 eL153 eG154 => ?_)
  replace h := h K151 A152 L153 G154 eK151 eA152 eL153 eG154
  have b155 : (n + 1 + 1 + 1) < (n + 1 + 1 + 1 + 1) := (by omega)
  have b156 : K151 (n + 1 + 1 + 1) = .inr (0, 49) := (by rw [eK151]; exact pkup_self)
  obtain ⟨h0l, h⟩ := h
  obtain ⟨h0k, h⟩ := h
  refine j_putfrE (fp_i_X10_131_9 _ rfl) rfl (Or.inr ⟨_, rfl⟩) (Or.inr ⟨_, rfl⟩) h0l h0k dX10_init_316 (fun G157 eG157 => ?_)
  replace h := h G157 eG157
  refine j_aload_n 0 rfl dX10_init_319 ?_
  refine j_bipush (v := 77) dX10_init_320 (by decide) ?_
  obtain ⟨b158, h⟩ := h
  obtain ⟨b159, h⟩ := h
  refine j_newaE (t := 0) (N := 77) rfl rfl q431 (fun _ _ h9 => h9) rfl (by decide) (by decide) (by decide) b158 b159 dX10_init_322 (fun K160 A161 L162 G163 eK160 eA161 eL162 eG163 => ?_)
  replace h := h K160 A161 L162 G163 eK160 eA161 eL162 eG163
  have b164 : (n + 1 + 1 + 1 + 1) < (n + 1 + 1 + 1 + 1 + 1) := (by omega)
  have b165 : K160 (n + 1 + 1 + 1 + 1) = .inr (0, 77) := (by rw [eK160]; exact pkup_self)
  obtain ⟨h0l, h⟩ := h
  obtain ⟨h0k, h⟩ := h
  refine j_putfrE (fp_i_X10_134_9 _ rfl) rfl (Or.inr ⟨_, rfl⟩) (Or.inr ⟨_, rfl⟩) h0l h0k dX10_init_324 (fun G166 eG166 => ?_)
  replace h := h G166 eG166
  exact fX10_init_J327_ok  Q P hP   (n + 1 + 1 + 1 + 1 + 1) K160 A161 L162 G166 (kc - 1 - 1 - 1 - 1 - 1) (ks - 64 - 9 - 400 - 49 - 77) h
def fX10_init_J241   (Q : Nat → (Nat → pKd) → pA → pL → pG → Prop) (n : Nat) (K : Nat → pKd) (A : pA) (Lg : pL) (G : pG) (kc : Nat) (ks : Nat) : Prop :=
    (1 ≤ kc) ∧ ((260 ≤ ks) ∧ (∀ (K169 : Nat → pKd) (A170 : pA) (L171 : pL) (G172 : pG), K169 = pkup K n (.inr (0, 260)) → A170 = prow A n (fun _ => 0) → L171 = prow Lg n (fun _ => 0) → G172 = prow G n (fun _ => .null) → (1198 < (n + 1)) ∧ ((K169 1198 = .inl 9) ∧ (∀ G175 : pG, G175 = pup G172 1198 44 (.ref n) → (1 ≤ kc - 1) ∧ ((260 ≤ ks - 260) ∧ (∀ (K178 : Nat → pKd) (A179 : pA) (L180 : pL) (G181 : pG), K178 = pkup K169 (n + 1) (.inr (0, 260)) → A179 = prow A170 (n + 1) (fun _ => 0) → L180 = prow L171 (n + 1) (fun _ => 0) → G181 = prow G175 (n + 1) (fun _ => .null) → (1198 < (n + 1 + 1)) ∧ ((K178 1198 = .inl 9) ∧ (∀ G184 : pG, G184 = pup G181 1198 45 (.ref (n + 1)) → (1 ≤ kc - 1 - 1) ∧ ((260 ≤ ks - 260 - 260) ∧ (∀ (K187 : Nat → pKd) (A188 : pA) (L189 : pL) (G190 : pG), K187 = pkup K178 (n + 1 + 1) (.inr (0, 260)) → A188 = prow A179 (n + 1 + 1) (fun _ => 0) → L189 = prow L180 (n + 1 + 1) (fun _ => 0) → G190 = prow G184 (n + 1 + 1) (fun _ => .null) → (1198 < (n + 1 + 1 + 1)) ∧ ((K187 1198 = .inl 9) ∧ (∀ G193 : pG, G193 = pup G190 1198 46 (.ref (n + 1 + 1)) → (1 ≤ kc - 1 - 1 - 1) ∧ ((840 ≤ ks - 260 - 260 - 260) ∧ (∀ (K196 : Nat → pKd) (A197 : pA) (L198 : pL) (G199 : pG), K196 = pkup K187 (n + 1 + 1 + 1) (.inr (0, 840)) → A197 = prow A188 (n + 1 + 1 + 1) (fun _ => 0) → L198 = prow L189 (n + 1 + 1 + 1) (fun _ => 0) → G199 = prow G193 (n + 1 + 1 + 1) (fun _ => .null) → (1198 < (n + 1 + 1 + 1 + 1)) ∧ ((K196 1198 = .inl 9) ∧ (∀ G202 : pG, G202 = pup G199 1198 48 (.ref (n + 1 + 1 + 1)) → (1 ≤ kc - 1 - 1 - 1 - 1) ∧ ((840 ≤ ks - 260 - 260 - 260 - 840) ∧ (∀ (K205 : Nat → pKd) (A206 : pA) (L207 : pL) (G208 : pG), K205 = pkup K196 (n + 1 + 1 + 1 + 1) (.inr (0, 840)) → A206 = prow A197 (n + 1 + 1 + 1 + 1) (fun _ => 0) → L207 = prow L198 (n + 1 + 1 + 1 + 1) (fun _ => 0) → G208 = prow G202 (n + 1 + 1 + 1 + 1) (fun _ => .null) → (1198 < (n + 1 + 1 + 1 + 1 + 1)) ∧ ((K205 1198 = .inl 9) ∧ (∀ G211 : pG, G211 = pup G208 1198 49 (.ref (n + 1 + 1 + 1 + 1)) → fX10_init_J286   Q (n + 1 + 1 + 1 + 1 + 1) K205 A206 L207 G211 (kc - 1 - 1 - 1 - 1 - 1) (ks - 260 - 260 - 260 - 840 - 840)))))))))))))))))))))
theorem fX10_init_J241_ok {Γ : jG} (Q : Nat → (Nat → pKd) → pA → pL → pG → Prop) (P : jO → pS → Prop) (hP : P = (fun o u => ∃ (n' : Nat) (K' : Nat → pKd) (A' : pA) (Lg' : pL) (G' : pG), o = .inl none ∧ u = (n', K', A', Lg', G') ∧ Q n' K' A' Lg' G'))   (n : Nat) (K : Nat → pKd) (A : pA) (Lg : pL) (G : pG) (kc : Nat) (ks : Nat) (h : fX10_init_J241   Q n K A Lg G kc ks) : J Γ RX10 cX10_init 1 none "<init>" [] 3 kc ks 241 [(0, .ref 1198)] [] (n, K, A, Lg, G) P := by
  unfold fX10_init_J241 at h
  refine j_aload_n 0 rfl dX10_init_241 ?_
  refine j_sipush (v := 260) dX10_init_242 (by decide) ?_
  obtain ⟨b167, h⟩ := h
  obtain ⟨b168, h⟩ := h
  refine j_newaE (t := 0) (N := 260) rfl rfl q431 (fun _ _ h9 => h9) rfl (by decide) (by decide) (by decide) b167 b168 dX10_init_245 (fun K169 A170 L171 G172 eK169 eA170 eL171 eG172 => ?_)
  replace h := h K169 A170 L171 G172 eK169 eA170 eL171 eG172
  have b173 : n < (n + 1) := (by omega)
  have b174 : K169 n = .inr (0, 260) := (by rw [eK169]; exact pkup_self)
  obtain ⟨h0l, h⟩ := h
  obtain ⟨h0k, h⟩ := h
  refine j_putfrE (fp_i_X10_107_9 _ rfl) rfl (Or.inr ⟨_, rfl⟩) (Or.inr ⟨_, rfl⟩) h0l h0k dX10_init_247 (fun G175 eG175 => ?_)
  replace h := h G175 eG175
  refine j_aload_n 0 rfl dX10_init_250 ?_
  refine j_sipush (v := 260) dX10_init_251 (by decide) ?_
  obtain ⟨b176, h⟩ := h
  obtain ⟨b177, h⟩ := h
  refine j_newaE (t := 0) (N := 260) rfl rfl q431 (fun _ _ h9 => h9) rfl (by decide) (by decide) (by decide) b176 b177 dX10_init_254 (fun K178 A179 L180 G181 eK178 eA179 eL180 eG181 => ?_)
  replace h := h K178 A179 L180 G181 eK178 eA179 eL180 eG181
  have b182 : (n + 1) < (n + 1 + 1) := (by omega)
  have b183 : K178 (n + 1) = .inr (0, 260) := (by rw [eK178]; exact pkup_self)
  obtain ⟨h0l, h⟩ := h
  obtain ⟨h0k, h⟩ := h
  refine j_putfrE (fp_i_X10_110_9 _ rfl) rfl (Or.inr ⟨_, rfl⟩) (Or.inr ⟨_, rfl⟩) h0l h0k dX10_init_256 (fun G184 eG184 => ?_)
  replace h := h G184 eG184
  refine j_aload_n 0 rfl dX10_init_259 ?_
  refine j_sipush (v := 260) dX10_init_260 (by decide) ?_
  obtain ⟨b185, h⟩ := h
  obtain ⟨b186, h⟩ := h
  refine j_newaE (t := 0) (N := 260) rfl rfl q431 (fun _ _ h9 => h9) rfl (by decide) (by decide) (by decide) b185 b186 dX10_init_263 (fun K187 A188 L189 G190 eK187 eA188 eL189 eG190 => ?_)
  replace h := h K187 A188 L189 G190 eK187 eA188 eL189 eG190
  have b191 : (n + 1 + 1) < (n + 1 + 1 + 1) := (by omega)
  have b192 : K187 (n + 1 + 1) = .inr (0, 260) := (by rw [eK187]; exact pkup_self)
  obtain ⟨h0l, h⟩ := h
  obtain ⟨h0k, h⟩ := h
  refine j_putfrE (fp_i_X10_113_9 _ rfl) rfl (Or.inr ⟨_, rfl⟩) (Or.inr ⟨_, rfl⟩) h0l h0k dX10_init_265 (fun G193 eG193 => ?_)
  replace h := h G193 eG193
  refine j_aload_n 0 rfl dX10_init_268 ?_
  refine j_sipush (v := 840) dX10_init_269 (by decide) ?_
  obtain ⟨b194, h⟩ := h
  obtain ⟨b195, h⟩ := h
  refine j_newaE (t := 0) (N := 840) rfl rfl q431 (fun _ _ h9 => h9) rfl (by decide) (by decide) (by decide) b194 b195 dX10_init_272 (fun K196 A197 L198 G199 eK196 eA197 eL198 eG199 => ?_)
  replace h := h K196 A197 L198 G199 eK196 eA197 eL198 eG199
  have b200 : (n + 1 + 1 + 1) < (n + 1 + 1 + 1 + 1) := (by omega)
  have b201 : K196 (n + 1 + 1 + 1) = .inr (0, 840) := (by rw [eK196]; exact pkup_self)
  obtain ⟨h0l, h⟩ := h
  obtain ⟨h0k, h⟩ := h
  refine j_putfrE (fp_i_X10_116_9 _ rfl) rfl (Or.inr ⟨_, rfl⟩) (Or.inr ⟨_, rfl⟩) h0l h0k dX10_init_274 (fun G202 eG202 => ?_)
  replace h := h G202 eG202
  refine j_aload_n 0 rfl dX10_init_277 ?_
  refine j_sipush (v := 840) dX10_init_278 (by decide) ?_
  obtain ⟨b203, h⟩ := h
  obtain ⟨b204, h⟩ := h
  refine j_newaE (t := 0) (N := 840) rfl rfl q431 (fun _ _ h9 => h9) rfl (by decide) (by decide) (by decide) b203 b204 dX10_init_281 (fun K205 A206 L207 G208 eK205 eA206 eL207 eG208 => ?_)
  replace h := h K205 A206 L207 G208 eK205 eA206 eL207 eG208
  have b209 : (n + 1 + 1 + 1 + 1) < (n + 1 + 1 + 1 + 1 + 1) := (by omega)
  have b210 : K205 (n + 1 + 1 + 1 + 1) = .inr (0, 840) := (by rw [eK205]; exact pkup_self)
  obtain ⟨h0l, h⟩ := h
  obtain ⟨h0k, h⟩ := h
  refine j_putfrE (fp_i_X10_119_9 _ rfl) rfl (Or.inr ⟨_, rfl⟩) (Or.inr ⟨_, rfl⟩) h0l h0k dX10_init_283 (fun G211 eG211 => ?_)
  replace h := h G211 eG211
  exact fX10_init_J286_ok  Q P hP   (n + 1 + 1 + 1 + 1 + 1) K205 A206 L207 G211 (kc - 1 - 1 - 1 - 1 - 1) (ks - 260 - 260 - 260 - 840 - 840) h
def fX10_init_J200   (Q : Nat → (Nat → pKd) → pA → pL → pG → Prop) (n : Nat) (K : Nat → pKd) (A : pA) (Lg : pL) (G : pG) (kc : Nat) (ks : Nat) : Prop :=
    (1 ≤ kc) ∧ ((2 ≤ ks) ∧ (∀ (K214 : Nat → pKd) (A215 : pA) (L216 : pL) (G217 : pG), K214 = pkup K n (.inr (0, 2)) → A215 = prow A n (fun _ => 0) → L216 = prow Lg n (fun _ => 0) → G217 = prow G n (fun _ => .null) → (1198 < (n + 1)) ∧ ((K214 1198 = .inl 9) ∧ (∀ G220 : pG, G220 = pup G217 1198 38 (.ref n) → (1 ≤ kc - 1) ∧ ((8 ≤ ks - 2) ∧ (∀ (K223 : Nat → pKd) (A224 : pA) (L225 : pL) (G226 : pG), K223 = pkup K214 (n + 1) (.inr (0, 8)) → A224 = prow A215 (n + 1) (fun _ => 0) → L225 = prow L216 (n + 1) (fun _ => 0) → G226 = prow G220 (n + 1) (fun _ => .null) → (1198 < (n + 1 + 1)) ∧ ((K223 1198 = .inl 9) ∧ (∀ G229 : pG, G229 = pup G226 1198 39 (.ref (n + 1)) → (1 ≤ kc - 1 - 1) ∧ ((8 ≤ ks - 2 - 8) ∧ (∀ (K232 : Nat → pKd) (A233 : pA) (L234 : pL) (G235 : pG), K232 = pkup K223 (n + 1 + 1) (.inr (0, 8)) → A233 = prow A224 (n + 1 + 1) (fun _ => 0) → L234 = prow L225 (n + 1 + 1) (fun _ => 0) → G235 = prow G229 (n + 1 + 1) (fun _ => .null) → (1198 < (n + 1 + 1 + 1)) ∧ ((K232 1198 = .inl 9) ∧ (∀ G238 : pG, G238 = pup G235 1198 40 (.ref (n + 1 + 1)) → (1 ≤ kc - 1 - 1 - 1) ∧ ((260 ≤ ks - 2 - 8 - 8) ∧ (∀ (K241 : Nat → pKd) (A242 : pA) (L243 : pL) (G244 : pG), K241 = pkup K232 (n + 1 + 1 + 1) (.inr (3, 260)) → A242 = prow A233 (n + 1 + 1 + 1) (fun _ => 0) → L243 = prow L234 (n + 1 + 1 + 1) (fun _ => 0) → G244 = prow G238 (n + 1 + 1 + 1) (fun _ => .null) → (1198 < (n + 1 + 1 + 1 + 1)) ∧ ((K241 1198 = .inl 9) ∧ (∀ G247 : pG, G247 = pup G244 1198 42 (.ref (n + 1 + 1 + 1)) → (1 ≤ kc - 1 - 1 - 1 - 1) ∧ ((260 ≤ ks - 2 - 8 - 8 - 260) ∧ (∀ (K250 : Nat → pKd) (A251 : pA) (L252 : pL) (G253 : pG), K250 = pkup K241 (n + 1 + 1 + 1 + 1) (.inr (0, 260)) → A251 = prow A242 (n + 1 + 1 + 1 + 1) (fun _ => 0) → L252 = prow L243 (n + 1 + 1 + 1 + 1) (fun _ => 0) → G253 = prow G247 (n + 1 + 1 + 1 + 1) (fun _ => .null) → (1198 < (n + 1 + 1 + 1 + 1 + 1)) ∧ ((K250 1198 = .inl 9) ∧ (∀ G256 : pG, G256 = pup G253 1198 43 (.ref (n + 1 + 1 + 1 + 1)) → fX10_init_J241   Q (n + 1 + 1 + 1 + 1 + 1) K250 A251 L252 G256 (kc - 1 - 1 - 1 - 1 - 1) (ks - 2 - 8 - 8 - 260 - 260)))))))))))))))))))))
theorem fX10_init_J200_ok {Γ : jG} (Q : Nat → (Nat → pKd) → pA → pL → pG → Prop) (P : jO → pS → Prop) (hP : P = (fun o u => ∃ (n' : Nat) (K' : Nat → pKd) (A' : pA) (Lg' : pL) (G' : pG), o = .inl none ∧ u = (n', K', A', Lg', G') ∧ Q n' K' A' Lg' G'))   (n : Nat) (K : Nat → pKd) (A : pA) (Lg : pL) (G : pG) (kc : Nat) (ks : Nat) (h : fX10_init_J200   Q n K A Lg G kc ks) : J Γ RX10 cX10_init 1 none "<init>" [] 3 kc ks 200 [(0, .ref 1198)] [] (n, K, A, Lg, G) P := by
  unfold fX10_init_J200 at h
  refine j_aload_n 0 rfl dX10_init_200 ?_
  refine j_iconst (v := 2) dX10_init_201 (by decide) ?_
  obtain ⟨b212, h⟩ := h
  obtain ⟨b213, h⟩ := h
  refine j_newaE (t := 0) (N := 2) rfl rfl q431 (fun _ _ h9 => h9) rfl (by decide) (by decide) (by decide) b212 b213 dX10_init_202 (fun K214 A215 L216 G217 eK214 eA215 eL216 eG217 => ?_)
  replace h := h K214 A215 L216 G217 eK214 eA215 eL216 eG217
  have b218 : n < (n + 1) := (by omega)
  have b219 : K214 n = .inr (0, 2) := (by rw [eK214]; exact pkup_self)
  obtain ⟨h0l, h⟩ := h
  obtain ⟨h0k, h⟩ := h
  refine j_putfrE (fp_i_X10_91_9 _ rfl) rfl (Or.inr ⟨_, rfl⟩) (Or.inr ⟨_, rfl⟩) h0l h0k dX10_init_204 (fun G220 eG220 => ?_)
  replace h := h G220 eG220
  refine j_aload_n 0 rfl dX10_init_207 ?_
  refine j_bipush (v := 8) dX10_init_208 (by decide) ?_
  obtain ⟨b221, h⟩ := h
  obtain ⟨b222, h⟩ := h
  refine j_newaE (t := 0) (N := 8) rfl rfl q431 (fun _ _ h9 => h9) rfl (by decide) (by decide) (by decide) b221 b222 dX10_init_210 (fun K223 A224 L225 G226 eK223 eA224 eL225 eG226 => ?_)
  replace h := h K223 A224 L225 G226 eK223 eA224 eL225 eG226
  have b227 : (n + 1) < (n + 1 + 1) := (by omega)
  have b228 : K223 (n + 1) = .inr (0, 8) := (by rw [eK223]; exact pkup_self)
  obtain ⟨h0l, h⟩ := h
  obtain ⟨h0k, h⟩ := h
  refine j_putfrE (fp_i_X10_94_9 _ rfl) rfl (Or.inr ⟨_, rfl⟩) (Or.inr ⟨_, rfl⟩) h0l h0k dX10_init_212 (fun G229 eG229 => ?_)
  replace h := h G229 eG229
  refine j_aload_n 0 rfl dX10_init_215 ?_
  refine j_bipush (v := 8) dX10_init_216 (by decide) ?_
  obtain ⟨b230, h⟩ := h
  obtain ⟨b231, h⟩ := h
  refine j_newaE (t := 0) (N := 8) rfl rfl q431 (fun _ _ h9 => h9) rfl (by decide) (by decide) (by decide) b230 b231 dX10_init_218 (fun K232 A233 L234 G235 eK232 eA233 eL234 eG235 => ?_)
  replace h := h K232 A233 L234 G235 eK232 eA233 eL234 eG235
  have b236 : (n + 1 + 1) < (n + 1 + 1 + 1) := (by omega)
  have b237 : K232 (n + 1 + 1) = .inr (0, 8) := (by rw [eK232]; exact pkup_self)
  obtain ⟨h0l, h⟩ := h
  obtain ⟨h0k, h⟩ := h
  refine j_putfrE (fp_i_X10_97_9 _ rfl) rfl (Or.inr ⟨_, rfl⟩) (Or.inr ⟨_, rfl⟩) h0l h0k dX10_init_220 (fun G238 eG238 => ?_)
  replace h := h G238 eG238
  refine j_aload_n 0 rfl dX10_init_223 ?_
  refine j_sipush (v := 260) dX10_init_224 (by decide) ?_
  obtain ⟨b239, h⟩ := h
  obtain ⟨b240, h⟩ := h
  refine j_newaE (t := 3) (N := 260) rfl rfl q610 (fun _ _ h9 => h9) rfl (by decide) (by decide) (by decide) b239 b240 dX10_init_227 (fun K241 A242 L243 G244 eK241 eA242 eL243 eG244 => ?_)
  replace h := h K241 A242 L243 G244 eK241 eA242 eL243 eG244
  have b245 : (n + 1 + 1 + 1) < (n + 1 + 1 + 1 + 1) := (by omega)
  have b246 : K241 (n + 1 + 1 + 1) = .inr (3, 260) := (by rw [eK241]; exact pkup_self)
  obtain ⟨h0l, h⟩ := h
  obtain ⟨h0k, h⟩ := h
  refine j_putfrE (fp_i_X10_100_9 _ rfl) rfl (Or.inr ⟨_, rfl⟩) (Or.inr ⟨_, rfl⟩) h0l h0k dX10_init_229 (fun G247 eG247 => ?_)
  replace h := h G247 eG247
  refine j_aload_n 0 rfl dX10_init_232 ?_
  refine j_sipush (v := 260) dX10_init_233 (by decide) ?_
  obtain ⟨b248, h⟩ := h
  obtain ⟨b249, h⟩ := h
  refine j_newaE (t := 0) (N := 260) rfl rfl q431 (fun _ _ h9 => h9) rfl (by decide) (by decide) (by decide) b248 b249 dX10_init_236 (fun K250 A251 L252 G253 eK250 eA251 eL252 eG253 => ?_)
  replace h := h K250 A251 L252 G253 eK250 eA251 eL252 eG253
  have b254 : (n + 1 + 1 + 1 + 1) < (n + 1 + 1 + 1 + 1 + 1) := (by omega)
  have b255 : K250 (n + 1 + 1 + 1 + 1) = .inr (0, 260) := (by rw [eK250]; exact pkup_self)
  obtain ⟨h0l, h⟩ := h
  obtain ⟨h0k, h⟩ := h
  refine j_putfrE (fp_i_X10_104_9 _ rfl) rfl (Or.inr ⟨_, rfl⟩) (Or.inr ⟨_, rfl⟩) h0l h0k dX10_init_238 (fun G256 eG256 => ?_)
  replace h := h G256 eG256
  exact fX10_init_J241_ok  Q P hP   (n + 1 + 1 + 1 + 1 + 1) K250 A251 L252 G256 (kc - 1 - 1 - 1 - 1 - 1) (ks - 2 - 8 - 8 - 260 - 260) h
def fX10_init_J163   (Q : Nat → (Nat → pKd) → pA → pL → pG → Prop) (n : Nat) (K : Nat → pKd) (A : pA) (Lg : pL) (G : pG) (kc : Nat) (ks : Nat) : Prop :=
    (1 ≤ kc) ∧ ((2 ≤ ks) ∧ (∀ (K259 : Nat → pKd) (A260 : pA) (L261 : pL) (G262 : pG), K259 = pkup K n (.inr (0, 2)) → A260 = prow A n (fun _ => 0) → L261 = prow Lg n (fun _ => 0) → G262 = prow G n (fun _ => .null) → (1198 < (n + 1)) ∧ ((K259 1198 = .inl 9) ∧ (∀ G265 : pG, G265 = pup G262 1198 33 (.ref n) → (1 ≤ kc - 1) ∧ ((16 ≤ ks - 2) ∧ (∀ (K268 : Nat → pKd) (A269 : pA) (L270 : pL) (G271 : pG), K268 = pkup K259 (n + 1) (.inr (0, 16)) → A269 = prow A260 (n + 1) (fun _ => 0) → L270 = prow L261 (n + 1) (fun _ => 0) → G271 = prow G265 (n + 1) (fun _ => .null) → (1198 < (n + 1 + 1)) ∧ ((K268 1198 = .inl 9) ∧ (∀ G274 : pG, G274 = pup G271 1198 34 (.ref (n + 1)) → (1 ≤ kc - 1 - 1) ∧ ((16 ≤ ks - 2 - 16) ∧ (∀ (K277 : Nat → pKd) (A278 : pA) (L279 : pL) (G280 : pG), K277 = pkup K268 (n + 1 + 1) (.inr (0, 16)) → A278 = prow A269 (n + 1 + 1) (fun _ => 0) → L279 = prow L270 (n + 1 + 1) (fun _ => 0) → G280 = prow G274 (n + 1 + 1) (fun _ => .null) → (1198 < (n + 1 + 1 + 1)) ∧ ((K277 1198 = .inl 9) ∧ (∀ G283 : pG, G283 = pup G280 1198 35 (.ref (n + 1 + 1)) → (1 ≤ kc - 1 - 1 - 1) ∧ ((2 ≤ ks - 2 - 16 - 16) ∧ (∀ (K286 : Nat → pKd) (A287 : pA) (L288 : pL) (G289 : pG), K286 = pkup K277 (n + 1 + 1 + 1) (.inr (0, 2)) → A287 = prow A278 (n + 1 + 1 + 1) (fun _ => 0) → L288 = prow L279 (n + 1 + 1 + 1) (fun _ => 0) → G289 = prow G283 (n + 1 + 1 + 1) (fun _ => .null) → (1198 < (n + 1 + 1 + 1 + 1)) ∧ ((K286 1198 = .inl 9) ∧ (∀ G292 : pG, G292 = pup G289 1198 36 (.ref (n + 1 + 1 + 1)) → (1 ≤ kc - 1 - 1 - 1 - 1) ∧ ((2 ≤ ks - 2 - 16 - 16 - 2) ∧ (∀ (K295 : Nat → pKd) (A296 : pA) (L297 : pL) (G298 : pG), K295 = pkup K286 (n + 1 + 1 + 1 + 1) (.inr (0, 2)) → A296 = prow A287 (n + 1 + 1 + 1 + 1) (fun _ => 0) → L297 = prow L288 (n + 1 + 1 + 1 + 1) (fun _ => 0) → G298 = prow G292 (n + 1 + 1 + 1 + 1) (fun _ => .null) → (1198 < (n + 1 + 1 + 1 + 1 + 1)) ∧ ((K295 1198 = .inl 9) ∧ (∀ G301 : pG, G301 = pup G298 1198 37 (.ref (n + 1 + 1 + 1 + 1)) → fX10_init_J200   Q (n + 1 + 1 + 1 + 1 + 1) K295 A296 L297 G301 (kc - 1 - 1 - 1 - 1 - 1) (ks - 2 - 16 - 16 - 2 - 2)))))))))))))))))))))
theorem fX10_init_J163_ok {Γ : jG} (Q : Nat → (Nat → pKd) → pA → pL → pG → Prop) (P : jO → pS → Prop) (hP : P = (fun o u => ∃ (n' : Nat) (K' : Nat → pKd) (A' : pA) (Lg' : pL) (G' : pG), o = .inl none ∧ u = (n', K', A', Lg', G') ∧ Q n' K' A' Lg' G'))   (n : Nat) (K : Nat → pKd) (A : pA) (Lg : pL) (G : pG) (kc : Nat) (ks : Nat) (h : fX10_init_J163   Q n K A Lg G kc ks) : J Γ RX10 cX10_init 1 none "<init>" [] 3 kc ks 163 [(0, .ref 1198)] [] (n, K, A, Lg, G) P := by
  unfold fX10_init_J163 at h
  refine j_aload_n 0 rfl dX10_init_163 ?_
  refine j_iconst (v := 2) dX10_init_164 (by decide) ?_
  obtain ⟨b257, h⟩ := h
  obtain ⟨b258, h⟩ := h
  refine j_newaE (t := 0) (N := 2) rfl rfl q431 (fun _ _ h9 => h9) rfl (by decide) (by decide) (by decide) b257 b258 dX10_init_165 (fun K259 A260 L261 G262 eK259 eA260 eL261 eG262 => ?_)
  replace h := h K259 A260 L261 G262 eK259 eA260 eL261 eG262
  have b263 : n < (n + 1) := (by omega)
  have b264 : K259 n = .inr (0, 2) := (by rw [eK259]; exact pkup_self)
  obtain ⟨h0l, h⟩ := h
  obtain ⟨h0k, h⟩ := h
  refine j_putfrE (fp_i_X10_76_9 _ rfl) rfl (Or.inr ⟨_, rfl⟩) (Or.inr ⟨_, rfl⟩) h0l h0k dX10_init_167 (fun G265 eG265 => ?_)
  replace h := h G265 eG265
  refine j_aload_n 0 rfl dX10_init_170 ?_
  refine j_bipush (v := 16) dX10_init_171 (by decide) ?_
  obtain ⟨b266, h⟩ := h
  obtain ⟨b267, h⟩ := h
  refine j_newaE (t := 0) (N := 16) rfl rfl q431 (fun _ _ h9 => h9) rfl (by decide) (by decide) (by decide) b266 b267 dX10_init_173 (fun K268 A269 L270 G271 eK268 eA269 eL270 eG271 => ?_)
  replace h := h K268 A269 L270 G271 eK268 eA269 eL270 eG271
  have b272 : (n + 1) < (n + 1 + 1) := (by omega)
  have b273 : K268 (n + 1) = .inr (0, 16) := (by rw [eK268]; exact pkup_self)
  obtain ⟨h0l, h⟩ := h
  obtain ⟨h0k, h⟩ := h
  refine j_putfrE (fp_i_X10_79_9 _ rfl) rfl (Or.inr ⟨_, rfl⟩) (Or.inr ⟨_, rfl⟩) h0l h0k dX10_init_175 (fun G274 eG274 => ?_)
  replace h := h G274 eG274
  refine j_aload_n 0 rfl dX10_init_178 ?_
  refine j_bipush (v := 16) dX10_init_179 (by decide) ?_
  obtain ⟨b275, h⟩ := h
  obtain ⟨b276, h⟩ := h
  refine j_newaE (t := 0) (N := 16) rfl rfl q431 (fun _ _ h9 => h9) rfl (by decide) (by decide) (by decide) b275 b276 dX10_init_181 (fun K277 A278 L279 G280 eK277 eA278 eL279 eG280 => ?_)
  replace h := h K277 A278 L279 G280 eK277 eA278 eL279 eG280
  have b281 : (n + 1 + 1) < (n + 1 + 1 + 1) := (by omega)
  have b282 : K277 (n + 1 + 1) = .inr (0, 16) := (by rw [eK277]; exact pkup_self)
  obtain ⟨h0l, h⟩ := h
  obtain ⟨h0k, h⟩ := h
  refine j_putfrE (fp_i_X10_82_9 _ rfl) rfl (Or.inr ⟨_, rfl⟩) (Or.inr ⟨_, rfl⟩) h0l h0k dX10_init_183 (fun G283 eG283 => ?_)
  replace h := h G283 eG283
  refine j_aload_n 0 rfl dX10_init_186 ?_
  refine j_iconst (v := 2) dX10_init_187 (by decide) ?_
  obtain ⟨b284, h⟩ := h
  obtain ⟨b285, h⟩ := h
  refine j_newaE (t := 0) (N := 2) rfl rfl q431 (fun _ _ h9 => h9) rfl (by decide) (by decide) (by decide) b284 b285 dX10_init_188 (fun K286 A287 L288 G289 eK286 eA287 eL288 eG289 => ?_)
  replace h := h K286 A287 L288 G289 eK286 eA287 eL288 eG289
  have b290 : (n + 1 + 1 + 1) < (n + 1 + 1 + 1 + 1) := (by omega)
  have b291 : K286 (n + 1 + 1 + 1) = .inr (0, 2) := (by rw [eK286]; exact pkup_self)
  obtain ⟨h0l, h⟩ := h
  obtain ⟨h0k, h⟩ := h
  refine j_putfrE (fp_i_X10_85_9 _ rfl) rfl (Or.inr ⟨_, rfl⟩) (Or.inr ⟨_, rfl⟩) h0l h0k dX10_init_190 (fun G292 eG292 => ?_)
  replace h := h G292 eG292
  refine j_aload_n 0 rfl dX10_init_193 ?_
  refine j_iconst (v := 2) dX10_init_194 (by decide) ?_
  obtain ⟨b293, h⟩ := h
  obtain ⟨b294, h⟩ := h
  refine j_newaE (t := 0) (N := 2) rfl rfl q431 (fun _ _ h9 => h9) rfl (by decide) (by decide) (by decide) b293 b294 dX10_init_195 (fun K295 A296 L297 G298 eK295 eA296 eL297 eG298 => ?_)
  replace h := h K295 A296 L297 G298 eK295 eA296 eL297 eG298
  have b299 : (n + 1 + 1 + 1 + 1) < (n + 1 + 1 + 1 + 1 + 1) := (by omega)
  have b300 : K295 (n + 1 + 1 + 1 + 1) = .inr (0, 2) := (by rw [eK295]; exact pkup_self)
  obtain ⟨h0l, h⟩ := h
  obtain ⟨h0k, h⟩ := h
  refine j_putfrE (fp_i_X10_88_9 _ rfl) rfl (Or.inr ⟨_, rfl⟩) (Or.inr ⟨_, rfl⟩) h0l h0k dX10_init_197 (fun G301 eG301 => ?_)
  replace h := h G301 eG301
  exact fX10_init_J200_ok  Q P hP   (n + 1 + 1 + 1 + 1 + 1) K295 A296 L297 G301 (kc - 1 - 1 - 1 - 1 - 1) (ks - 2 - 16 - 16 - 2 - 2) h
def fX10_init_J124   (Q : Nat → (Nat → pKd) → pA → pL → pG → Prop) (n : Nat) (K : Nat → pKd) (A : pA) (Lg : pL) (G : pG) (kc : Nat) (ks : Nat) : Prop :=
    (1 ≤ kc) ∧ ((10 ≤ ks) ∧ (∀ (K304 : Nat → pKd) (A305 : pA) (L306 : pL) (G307 : pG), K304 = pkup K n (.inr (0, 10)) → A305 = prow A n (fun _ => 0) → L306 = prow Lg n (fun _ => 0) → G307 = prow G n (fun _ => .null) → (1198 < (n + 1)) ∧ ((K304 1198 = .inl 9) ∧ (∀ G310 : pG, G310 = pup G307 1198 28 (.ref n) → (1 ≤ kc - 1) ∧ ((10 ≤ ks - 10) ∧ (∀ (K313 : Nat → pKd) (A314 : pA) (L315 : pL) (G316 : pG), K313 = pkup K304 (n + 1) (.inr (0, 10)) → A314 = prow A305 (n + 1) (fun _ => 0) → L315 = prow L306 (n + 1) (fun _ => 0) → G316 = prow G310 (n + 1) (fun _ => .null) → (1198 < (n + 1 + 1)) ∧ ((K313 1198 = .inl 9) ∧ (∀ G319 : pG, G319 = pup G316 1198 29 (.ref (n + 1)) → (1 ≤ kc - 1 - 1) ∧ ((2 ≤ ks - 10 - 10) ∧ (∀ (K322 : Nat → pKd) (A323 : pA) (L324 : pL) (G325 : pG), K322 = pkup K313 (n + 1 + 1) (.inr (0, 2)) → A323 = prow A314 (n + 1 + 1) (fun _ => 0) → L324 = prow L315 (n + 1 + 1) (fun _ => 0) → G325 = prow G319 (n + 1 + 1) (fun _ => .null) → (1198 < (n + 1 + 1 + 1)) ∧ ((K322 1198 = .inl 9) ∧ (∀ G328 : pG, G328 = pup G325 1198 30 (.ref (n + 1 + 1)) → (1 ≤ kc - 1 - 1 - 1) ∧ ((8 ≤ ks - 10 - 10 - 2) ∧ (∀ (K331 : Nat → pKd) (A332 : pA) (L333 : pL) (G334 : pG), K331 = pkup K322 (n + 1 + 1 + 1) (.inr (0, 8)) → A332 = prow A323 (n + 1 + 1 + 1) (fun _ => 0) → L333 = prow L324 (n + 1 + 1 + 1) (fun _ => 0) → G334 = prow G328 (n + 1 + 1 + 1) (fun _ => .null) → (1198 < (n + 1 + 1 + 1 + 1)) ∧ ((K331 1198 = .inl 9) ∧ (∀ G337 : pG, G337 = pup G334 1198 31 (.ref (n + 1 + 1 + 1)) → (1 ≤ kc - 1 - 1 - 1 - 1) ∧ ((8 ≤ ks - 10 - 10 - 2 - 8) ∧ (∀ (K340 : Nat → pKd) (A341 : pA) (L342 : pL) (G343 : pG), K340 = pkup K331 (n + 1 + 1 + 1 + 1) (.inr (0, 8)) → A341 = prow A332 (n + 1 + 1 + 1 + 1) (fun _ => 0) → L342 = prow L333 (n + 1 + 1 + 1 + 1) (fun _ => 0) → G343 = prow G337 (n + 1 + 1 + 1 + 1) (fun _ => .null) → (1198 < (n + 1 + 1 + 1 + 1 + 1)) ∧ ((K340 1198 = .inl 9) ∧ (∀ G346 : pG, G346 = pup G343 1198 32 (.ref (n + 1 + 1 + 1 + 1)) → fX10_init_J163   Q (n + 1 + 1 + 1 + 1 + 1) K340 A341 L342 G346 (kc - 1 - 1 - 1 - 1 - 1) (ks - 10 - 10 - 2 - 8 - 8)))))))))))))))))))))
theorem fX10_init_J124_ok {Γ : jG} (Q : Nat → (Nat → pKd) → pA → pL → pG → Prop) (P : jO → pS → Prop) (hP : P = (fun o u => ∃ (n' : Nat) (K' : Nat → pKd) (A' : pA) (Lg' : pL) (G' : pG), o = .inl none ∧ u = (n', K', A', Lg', G') ∧ Q n' K' A' Lg' G'))   (n : Nat) (K : Nat → pKd) (A : pA) (Lg : pL) (G : pG) (kc : Nat) (ks : Nat) (h : fX10_init_J124   Q n K A Lg G kc ks) : J Γ RX10 cX10_init 1 none "<init>" [] 3 kc ks 124 [(0, .ref 1198)] [] (n, K, A, Lg, G) P := by
  unfold fX10_init_J124 at h
  refine j_aload_n 0 rfl dX10_init_124 ?_
  refine j_bipush (v := 10) dX10_init_125 (by decide) ?_
  obtain ⟨b302, h⟩ := h
  obtain ⟨b303, h⟩ := h
  refine j_newaE (t := 0) (N := 10) rfl rfl q431 (fun _ _ h9 => h9) rfl (by decide) (by decide) (by decide) b302 b303 dX10_init_127 (fun K304 A305 L306 G307 eK304 eA305 eL306 eG307 => ?_)
  replace h := h K304 A305 L306 G307 eK304 eA305 eL306 eG307
  have b308 : n < (n + 1) := (by omega)
  have b309 : K304 n = .inr (0, 10) := (by rw [eK304]; exact pkup_self)
  obtain ⟨h0l, h⟩ := h
  obtain ⟨h0k, h⟩ := h
  refine j_putfrE (fp_i_X10_61_9 _ rfl) rfl (Or.inr ⟨_, rfl⟩) (Or.inr ⟨_, rfl⟩) h0l h0k dX10_init_129 (fun G310 eG310 => ?_)
  replace h := h G310 eG310
  refine j_aload_n 0 rfl dX10_init_132 ?_
  refine j_bipush (v := 10) dX10_init_133 (by decide) ?_
  obtain ⟨b311, h⟩ := h
  obtain ⟨b312, h⟩ := h
  refine j_newaE (t := 0) (N := 10) rfl rfl q431 (fun _ _ h9 => h9) rfl (by decide) (by decide) (by decide) b311 b312 dX10_init_135 (fun K313 A314 L315 G316 eK313 eA314 eL315 eG316 => ?_)
  replace h := h K313 A314 L315 G316 eK313 eA314 eL315 eG316
  have b317 : (n + 1) < (n + 1 + 1) := (by omega)
  have b318 : K313 (n + 1) = .inr (0, 10) := (by rw [eK313]; exact pkup_self)
  obtain ⟨h0l, h⟩ := h
  obtain ⟨h0k, h⟩ := h
  refine j_putfrE (fp_i_X10_64_9 _ rfl) rfl (Or.inr ⟨_, rfl⟩) (Or.inr ⟨_, rfl⟩) h0l h0k dX10_init_137 (fun G319 eG319 => ?_)
  replace h := h G319 eG319
  refine j_aload_n 0 rfl dX10_init_140 ?_
  refine j_iconst (v := 2) dX10_init_141 (by decide) ?_
  obtain ⟨b320, h⟩ := h
  obtain ⟨b321, h⟩ := h
  refine j_newaE (t := 0) (N := 2) rfl rfl q431 (fun _ _ h9 => h9) rfl (by decide) (by decide) (by decide) b320 b321 dX10_init_142 (fun K322 A323 L324 G325 eK322 eA323 eL324 eG325 => ?_)
  replace h := h K322 A323 L324 G325 eK322 eA323 eL324 eG325
  have b326 : (n + 1 + 1) < (n + 1 + 1 + 1) := (by omega)
  have b327 : K322 (n + 1 + 1) = .inr (0, 2) := (by rw [eK322]; exact pkup_self)
  obtain ⟨h0l, h⟩ := h
  obtain ⟨h0k, h⟩ := h
  refine j_putfrE (fp_i_X10_67_9 _ rfl) rfl (Or.inr ⟨_, rfl⟩) (Or.inr ⟨_, rfl⟩) h0l h0k dX10_init_144 (fun G328 eG328 => ?_)
  replace h := h G328 eG328
  refine j_aload_n 0 rfl dX10_init_147 ?_
  refine j_bipush (v := 8) dX10_init_148 (by decide) ?_
  obtain ⟨b329, h⟩ := h
  obtain ⟨b330, h⟩ := h
  refine j_newaE (t := 0) (N := 8) rfl rfl q431 (fun _ _ h9 => h9) rfl (by decide) (by decide) (by decide) b329 b330 dX10_init_150 (fun K331 A332 L333 G334 eK331 eA332 eL333 eG334 => ?_)
  replace h := h K331 A332 L333 G334 eK331 eA332 eL333 eG334
  have b335 : (n + 1 + 1 + 1) < (n + 1 + 1 + 1 + 1) := (by omega)
  have b336 : K331 (n + 1 + 1 + 1) = .inr (0, 8) := (by rw [eK331]; exact pkup_self)
  obtain ⟨h0l, h⟩ := h
  obtain ⟨h0k, h⟩ := h
  refine j_putfrE (fp_i_X10_70_9 _ rfl) rfl (Or.inr ⟨_, rfl⟩) (Or.inr ⟨_, rfl⟩) h0l h0k dX10_init_152 (fun G337 eG337 => ?_)
  replace h := h G337 eG337
  refine j_aload_n 0 rfl dX10_init_155 ?_
  refine j_bipush (v := 8) dX10_init_156 (by decide) ?_
  obtain ⟨b338, h⟩ := h
  obtain ⟨b339, h⟩ := h
  refine j_newaE (t := 0) (N := 8) rfl rfl q431 (fun _ _ h9 => h9) rfl (by decide) (by decide) (by decide) b338 b339 dX10_init_158 (fun K340 A341 L342 G343 eK340 eA341 eL342 eG343 => ?_)
  replace h := h K340 A341 L342 G343 eK340 eA341 eL342 eG343
  have b344 : (n + 1 + 1 + 1 + 1) < (n + 1 + 1 + 1 + 1 + 1) := (by omega)
  have b345 : K340 (n + 1 + 1 + 1 + 1) = .inr (0, 8) := (by rw [eK340]; exact pkup_self)
  obtain ⟨h0l, h⟩ := h
  obtain ⟨h0k, h⟩ := h
  refine j_putfrE (fp_i_X10_73_9 _ rfl) rfl (Or.inr ⟨_, rfl⟩) (Or.inr ⟨_, rfl⟩) h0l h0k dX10_init_160 (fun G346 eG346 => ?_)
  replace h := h G346 eG346
  exact fX10_init_J163_ok  Q P hP   (n + 1 + 1 + 1 + 1 + 1) K340 A341 L342 G346 (kc - 1 - 1 - 1 - 1 - 1) (ks - 10 - 10 - 2 - 8 - 8) h
def fX10_init_J87   (Q : Nat → (Nat → pKd) → pA → pL → pG → Prop) (n : Nat) (K : Nat → pKd) (A : pA) (Lg : pL) (G : pG) (kc : Nat) (ks : Nat) : Prop :=
    (1 ≤ kc) ∧ ((2 ≤ ks) ∧ (∀ (K349 : Nat → pKd) (A350 : pA) (L351 : pL) (G352 : pG), K349 = pkup K n (.inr (0, 2)) → A350 = prow A n (fun _ => 0) → L351 = prow Lg n (fun _ => 0) → G352 = prow G n (fun _ => .null) → (1198 < (n + 1)) ∧ ((K349 1198 = .inl 9) ∧ (∀ G355 : pG, G355 = pup G352 1198 23 (.ref n) → (1 ≤ kc - 1) ∧ ((14 ≤ ks - 2) ∧ (∀ (K358 : Nat → pKd) (A359 : pA) (L360 : pL) (G361 : pG), K358 = pkup K349 (n + 1) (.inr (0, 14)) → A359 = prow A350 (n + 1) (fun _ => 0) → L360 = prow L351 (n + 1) (fun _ => 0) → G361 = prow G355 (n + 1) (fun _ => .null) → (1198 < (n + 1 + 1)) ∧ ((K358 1198 = .inl 9) ∧ (∀ G364 : pG, G364 = pup G361 1198 24 (.ref (n + 1)) → (1 ≤ kc - 1 - 1) ∧ ((2 ≤ ks - 2 - 14) ∧ (∀ (K367 : Nat → pKd) (A368 : pA) (L369 : pL) (G370 : pG), K367 = pkup K358 (n + 1 + 1) (.inr (0, 2)) → A368 = prow A359 (n + 1 + 1) (fun _ => 0) → L369 = prow L360 (n + 1 + 1) (fun _ => 0) → G370 = prow G364 (n + 1 + 1) (fun _ => .null) → (1198 < (n + 1 + 1 + 1)) ∧ ((K367 1198 = .inl 9) ∧ (∀ G373 : pG, G373 = pup G370 1198 25 (.ref (n + 1 + 1)) → (1 ≤ kc - 1 - 1 - 1) ∧ ((2 ≤ ks - 2 - 14 - 2) ∧ (∀ (K376 : Nat → pKd) (A377 : pA) (L378 : pL) (G379 : pG), K376 = pkup K367 (n + 1 + 1 + 1) (.inr (0, 2)) → A377 = prow A368 (n + 1 + 1 + 1) (fun _ => 0) → L378 = prow L369 (n + 1 + 1 + 1) (fun _ => 0) → G379 = prow G373 (n + 1 + 1 + 1) (fun _ => .null) → (1198 < (n + 1 + 1 + 1 + 1)) ∧ ((K376 1198 = .inl 9) ∧ (∀ G382 : pG, G382 = pup G379 1198 26 (.ref (n + 1 + 1 + 1)) → (1 ≤ kc - 1 - 1 - 1 - 1) ∧ ((10 ≤ ks - 2 - 14 - 2 - 2) ∧ (∀ (K385 : Nat → pKd) (A386 : pA) (L387 : pL) (G388 : pG), K385 = pkup K376 (n + 1 + 1 + 1 + 1) (.inr (0, 10)) → A386 = prow A377 (n + 1 + 1 + 1 + 1) (fun _ => 0) → L387 = prow L378 (n + 1 + 1 + 1 + 1) (fun _ => 0) → G388 = prow G382 (n + 1 + 1 + 1 + 1) (fun _ => .null) → (1198 < (n + 1 + 1 + 1 + 1 + 1)) ∧ ((K385 1198 = .inl 9) ∧ (∀ G391 : pG, G391 = pup G388 1198 27 (.ref (n + 1 + 1 + 1 + 1)) → fX10_init_J124   Q (n + 1 + 1 + 1 + 1 + 1) K385 A386 L387 G391 (kc - 1 - 1 - 1 - 1 - 1) (ks - 2 - 14 - 2 - 2 - 10)))))))))))))))))))))
theorem fX10_init_J87_ok {Γ : jG} (Q : Nat → (Nat → pKd) → pA → pL → pG → Prop) (P : jO → pS → Prop) (hP : P = (fun o u => ∃ (n' : Nat) (K' : Nat → pKd) (A' : pA) (Lg' : pL) (G' : pG), o = .inl none ∧ u = (n', K', A', Lg', G') ∧ Q n' K' A' Lg' G'))   (n : Nat) (K : Nat → pKd) (A : pA) (Lg : pL) (G : pG) (kc : Nat) (ks : Nat) (h : fX10_init_J87   Q n K A Lg G kc ks) : J Γ RX10 cX10_init 1 none "<init>" [] 3 kc ks 87 [(0, .ref 1198)] [] (n, K, A, Lg, G) P := by
  unfold fX10_init_J87 at h
  refine j_aload_n 0 rfl dX10_init_87 ?_
  refine j_iconst (v := 2) dX10_init_88 (by decide) ?_
  obtain ⟨b347, h⟩ := h
  obtain ⟨b348, h⟩ := h
  refine j_newaE (t := 0) (N := 2) rfl rfl q431 (fun _ _ h9 => h9) rfl (by decide) (by decide) (by decide) b347 b348 dX10_init_89 (fun K349 A350 L351 G352 eK349 eA350 eL351 eG352 => ?_)
  replace h := h K349 A350 L351 G352 eK349 eA350 eL351 eG352
  have b353 : n < (n + 1) := (by omega)
  have b354 : K349 n = .inr (0, 2) := (by rw [eK349]; exact pkup_self)
  obtain ⟨h0l, h⟩ := h
  obtain ⟨h0k, h⟩ := h
  refine j_putfrE (fp_i_X10_46_9 _ rfl) rfl (Or.inr ⟨_, rfl⟩) (Or.inr ⟨_, rfl⟩) h0l h0k dX10_init_91 (fun G355 eG355 => ?_)
  replace h := h G355 eG355
  refine j_aload_n 0 rfl dX10_init_94 ?_
  refine j_bipush (v := 14) dX10_init_95 (by decide) ?_
  obtain ⟨b356, h⟩ := h
  obtain ⟨b357, h⟩ := h
  refine j_newaE (t := 0) (N := 14) rfl rfl q431 (fun _ _ h9 => h9) rfl (by decide) (by decide) (by decide) b356 b357 dX10_init_97 (fun K358 A359 L360 G361 eK358 eA359 eL360 eG361 => ?_)
  replace h := h K358 A359 L360 G361 eK358 eA359 eL360 eG361
  have b362 : (n + 1) < (n + 1 + 1) := (by omega)
  have b363 : K358 (n + 1) = .inr (0, 14) := (by rw [eK358]; exact pkup_self)
  obtain ⟨h0l, h⟩ := h
  obtain ⟨h0k, h⟩ := h
  refine j_putfrE (fp_i_X10_49_9 _ rfl) rfl (Or.inr ⟨_, rfl⟩) (Or.inr ⟨_, rfl⟩) h0l h0k dX10_init_99 (fun G364 eG364 => ?_)
  replace h := h G364 eG364
  refine j_aload_n 0 rfl dX10_init_102 ?_
  refine j_iconst (v := 2) dX10_init_103 (by decide) ?_
  obtain ⟨b365, h⟩ := h
  obtain ⟨b366, h⟩ := h
  refine j_newaE (t := 0) (N := 2) rfl rfl q431 (fun _ _ h9 => h9) rfl (by decide) (by decide) (by decide) b365 b366 dX10_init_104 (fun K367 A368 L369 G370 eK367 eA368 eL369 eG370 => ?_)
  replace h := h K367 A368 L369 G370 eK367 eA368 eL369 eG370
  have b371 : (n + 1 + 1) < (n + 1 + 1 + 1) := (by omega)
  have b372 : K367 (n + 1 + 1) = .inr (0, 2) := (by rw [eK367]; exact pkup_self)
  obtain ⟨h0l, h⟩ := h
  obtain ⟨h0k, h⟩ := h
  refine j_putfrE (fp_i_X10_52_9 _ rfl) rfl (Or.inr ⟨_, rfl⟩) (Or.inr ⟨_, rfl⟩) h0l h0k dX10_init_106 (fun G373 eG373 => ?_)
  replace h := h G373 eG373
  refine j_aload_n 0 rfl dX10_init_109 ?_
  refine j_iconst (v := 2) dX10_init_110 (by decide) ?_
  obtain ⟨b374, h⟩ := h
  obtain ⟨b375, h⟩ := h
  refine j_newaE (t := 0) (N := 2) rfl rfl q431 (fun _ _ h9 => h9) rfl (by decide) (by decide) (by decide) b374 b375 dX10_init_111 (fun K376 A377 L378 G379 eK376 eA377 eL378 eG379 => ?_)
  replace h := h K376 A377 L378 G379 eK376 eA377 eL378 eG379
  have b380 : (n + 1 + 1 + 1) < (n + 1 + 1 + 1 + 1) := (by omega)
  have b381 : K376 (n + 1 + 1 + 1) = .inr (0, 2) := (by rw [eK376]; exact pkup_self)
  obtain ⟨h0l, h⟩ := h
  obtain ⟨h0k, h⟩ := h
  refine j_putfrE (fp_i_X10_55_9 _ rfl) rfl (Or.inr ⟨_, rfl⟩) (Or.inr ⟨_, rfl⟩) h0l h0k dX10_init_113 (fun G382 eG382 => ?_)
  replace h := h G382 eG382
  refine j_aload_n 0 rfl dX10_init_116 ?_
  refine j_bipush (v := 10) dX10_init_117 (by decide) ?_
  obtain ⟨b383, h⟩ := h
  obtain ⟨b384, h⟩ := h
  refine j_newaE (t := 0) (N := 10) rfl rfl q431 (fun _ _ h9 => h9) rfl (by decide) (by decide) (by decide) b383 b384 dX10_init_119 (fun K385 A386 L387 G388 eK385 eA386 eL387 eG388 => ?_)
  replace h := h K385 A386 L387 G388 eK385 eA386 eL387 eG388
  have b389 : (n + 1 + 1 + 1 + 1) < (n + 1 + 1 + 1 + 1 + 1) := (by omega)
  have b390 : K385 (n + 1 + 1 + 1 + 1) = .inr (0, 10) := (by rw [eK385]; exact pkup_self)
  obtain ⟨h0l, h⟩ := h
  obtain ⟨h0k, h⟩ := h
  refine j_putfrE (fp_i_X10_58_9 _ rfl) rfl (Or.inr ⟨_, rfl⟩) (Or.inr ⟨_, rfl⟩) h0l h0k dX10_init_121 (fun G391 eG391 => ?_)
  replace h := h G391 eG391
  exact fX10_init_J124_ok  Q P hP   (n + 1 + 1 + 1 + 1 + 1) K385 A386 L387 G391 (kc - 1 - 1 - 1 - 1 - 1) (ks - 2 - 14 - 2 - 2 - 10) h
def fX10_init_J49   (Q : Nat → (Nat → pKd) → pA → pL → pG → Prop) (n : Nat) (K : Nat → pKd) (A : pA) (Lg : pL) (G : pG) (kc : Nat) (ks : Nat) : Prop :=
    (1 ≤ kc) ∧ ((403 ≤ ks) ∧ (∀ (K394 : Nat → pKd) (A395 : pA) (L396 : pL) (G397 : pG), K394 = pkup K n (.inr (4, 403)) → A395 = prow A n (fun _ => 0) → L396 = prow Lg n (fun _ => 0) → G397 = prow G n (fun _ => .null) → (1198 < (n + 1)) ∧ ((K394 1198 = .inl 9) ∧ (∀ G400 : pG, G400 = pup G397 1198 8 (.ref n) → (1 ≤ kc - 1) ∧ ((23 ≤ ks - 403) ∧ (∀ (K403 : Nat → pKd) (A404 : pA) (L405 : pL) (G406 : pG), K403 = pkup K394 (n + 1) (.inr (4, 23)) → A404 = prow A395 (n + 1) (fun _ => 0) → L405 = prow L396 (n + 1) (fun _ => 0) → G406 = prow G400 (n + 1) (fun _ => .null) → (1198 < (n + 1 + 1)) ∧ ((K403 1198 = .inl 9) ∧ (∀ G409 : pG, G409 = pup G406 1198 9 (.ref (n + 1)) → ∀ A410 : pA, A410 = pup A404 1198 17 (-1) → (1 ≤ kc - 1 - 1) ∧ ((16 ≤ ks - 403 - 23) ∧ (∀ (K413 : Nat → pKd) (A414 : pA) (L415 : pL) (G416 : pG), K413 = pkup K403 (n + 1 + 1) (.inr (4, 16)) → A414 = prow A410 (n + 1 + 1) (fun _ => 0) → L415 = prow L405 (n + 1 + 1) (fun _ => 0) → G416 = prow G409 (n + 1 + 1) (fun _ => .null) → (1198 < (n + 1 + 1 + 1)) ∧ ((K413 1198 = .inl 9) ∧ (∀ G419 : pG, G419 = pup G416 1198 21 (.ref (n + 1 + 1)) → (1 ≤ kc - 1 - 1 - 1) ∧ ((16 ≤ ks - 403 - 23 - 16) ∧ (∀ (K422 : Nat → pKd) (A423 : pA) (L424 : pL) (G425 : pG), K422 = pkup K413 (n + 1 + 1 + 1) (.inr (0, 16)) → A423 = prow A414 (n + 1 + 1 + 1) (fun _ => 0) → L424 = prow L415 (n + 1 + 1 + 1) (fun _ => 0) → G425 = prow G419 (n + 1 + 1 + 1) (fun _ => .null) → (1198 < (n + 1 + 1 + 1 + 1)) ∧ ((K422 1198 = .inl 9) ∧ (∀ G428 : pG, G428 = pup G425 1198 22 (.ref (n + 1 + 1 + 1)) → fX10_init_J87   Q (n + 1 + 1 + 1 + 1) K422 A423 L424 G428 (kc - 1 - 1 - 1 - 1) (ks - 403 - 23 - 16 - 16)))))))))))))))))
theorem fX10_init_J49_ok {Γ : jG} (Q : Nat → (Nat → pKd) → pA → pL → pG → Prop) (P : jO → pS → Prop) (hP : P = (fun o u => ∃ (n' : Nat) (K' : Nat → pKd) (A' : pA) (Lg' : pL) (G' : pG), o = .inl none ∧ u = (n', K', A', Lg', G') ∧ Q n' K' A' Lg' G'))   (n : Nat) (K : Nat → pKd) (A : pA) (Lg : pL) (G : pG) (kc : Nat) (ks : Nat) (h : fX10_init_J49   Q n K A Lg G kc ks) : J Γ RX10 cX10_init 1 none "<init>" [] 3 kc ks 49 [(0, .ref 1198)] [] (n, K, A, Lg, G) P := by
  unfold fX10_init_J49 at h
  refine j_aload_n 0 rfl dX10_init_49 ?_
  refine j_sipush (v := 403) dX10_init_50 (by decide) ?_
  obtain ⟨b392, h⟩ := h
  obtain ⟨b393, h⟩ := h
  refine j_newaE (t := 4) (N := 403) rfl rfl q1749 (fun _ _ h9 => h9) rfl (by decide) (by decide) (by decide) b392 b393 dX10_init_53 (fun K394 A395 L396 G397 eK394 eA395 eL396 eG397 => ?_)
  replace h := h K394 A395 L396 G397 eK394 eA395 eL396 eG397
  have b398 : n < (n + 1) := (by omega)
  have b399 : K394 n = .inr (4, 403) := (by rw [eK394]; exact pkup_self)
  obtain ⟨h0l, h⟩ := h
  obtain ⟨h0k, h⟩ := h
  refine j_putfrE (fp_i_X10_30_9 _ rfl) rfl (Or.inr ⟨_, rfl⟩) (Or.inr ⟨_, rfl⟩) h0l h0k dX10_init_55 (fun G400 eG400 => ?_)
  replace h := h G400 eG400
  refine j_aload_n 0 rfl dX10_init_58 ?_
  refine j_bipush (v := 23) dX10_init_59 (by decide) ?_
  obtain ⟨b401, h⟩ := h
  obtain ⟨b402, h⟩ := h
  refine j_newaE (t := 4) (N := 23) rfl rfl q1749 (fun _ _ h9 => h9) rfl (by decide) (by decide) (by decide) b401 b402 dX10_init_61 (fun K403 A404 L405 G406 eK403 eA404 eL405 eG406 => ?_)
  replace h := h K403 A404 L405 G406 eK403 eA404 eL405 eG406
  have b407 : (n + 1) < (n + 1 + 1) := (by omega)
  have b408 : K403 (n + 1) = .inr (4, 23) := (by rw [eK403]; exact pkup_self)
  obtain ⟨h0l, h⟩ := h
  obtain ⟨h0k, h⟩ := h
  refine j_putfrE (fp_i_X10_34_9 _ rfl) rfl (Or.inr ⟨_, rfl⟩) (Or.inr ⟨_, rfl⟩) h0l h0k dX10_init_63 (fun G409 eG409 => ?_)
  replace h := h G409 eG409
  refine j_aload_n 0 rfl dX10_init_66 ?_
  refine j_iconst (v := (-1)) dX10_init_67 (by decide) ?_
  refine j_putfiE (fp_i_X10_37_9 _) rfl rfl rfl h0l h0k dX10_init_68 (fun A410 eA410 => ?_)
  replace h := h A410 eA410
  refine j_aload_n 0 rfl dX10_init_71 ?_
  refine j_bipush (v := 16) dX10_init_72 (by decide) ?_
  obtain ⟨b411, h⟩ := h
  obtain ⟨b412, h⟩ := h
  refine j_newaE (t := 4) (N := 16) rfl rfl q1749 (fun _ _ h9 => h9) rfl (by decide) (by decide) (by decide) b411 b412 dX10_init_74 (fun K413 A414 L415 G416 eK413 eA414 eL415 eG416 => ?_)
  replace h := h K413 A414 L415 G416 eK413 eA414 eL415 eG416
  have b417 : (n + 1 + 1) < (n + 1 + 1 + 1) := (by omega)
  have b418 : K413 (n + 1 + 1) = .inr (4, 16) := (by rw [eK413]; exact pkup_self)
  obtain ⟨h0l, h⟩ := h
  obtain ⟨h0k, h⟩ := h
  refine j_putfrE (fp_i_X10_40_9 _ rfl) rfl (Or.inr ⟨_, rfl⟩) (Or.inr ⟨_, rfl⟩) h0l h0k dX10_init_76 (fun G419 eG419 => ?_)
  replace h := h G419 eG419
  refine j_aload_n 0 rfl dX10_init_79 ?_
  refine j_bipush (v := 16) dX10_init_80 (by decide) ?_
  obtain ⟨b420, h⟩ := h
  obtain ⟨b421, h⟩ := h
  refine j_newaE (t := 0) (N := 16) rfl rfl q431 (fun _ _ h9 => h9) rfl (by decide) (by decide) (by decide) b420 b421 dX10_init_82 (fun K422 A423 L424 G425 eK422 eA423 eL424 eG425 => ?_)
  replace h := h K422 A423 L424 G425 eK422 eA423 eL424 eG425
  have b426 : (n + 1 + 1 + 1) < (n + 1 + 1 + 1 + 1) := (by omega)
  have b427 : K422 (n + 1 + 1 + 1) = .inr (0, 16) := (by rw [eK422]; exact pkup_self)
  obtain ⟨h0l, h⟩ := h
  obtain ⟨h0k, h⟩ := h
  refine j_putfrE (fp_i_X10_43_9 _ rfl) rfl (Or.inr ⟨_, rfl⟩) (Or.inr ⟨_, rfl⟩) h0l h0k dX10_init_84 (fun G428 eG428 => ?_)
  replace h := h G428 eG428
  exact fX10_init_J87_ok  Q P hP   (n + 1 + 1 + 1 + 1) K422 A423 L424 G428 (kc - 1 - 1 - 1 - 1) (ks - 403 - 23 - 16 - 16) h
def fX10_init (n : Nat) (K : Nat → pKd) (A : pA) (Lg : pL) (G : pG) (kc : Nat) (ks : Nat) (Q : Nat → (Nat → pKd) → pA → pL → pG → Prop) : Prop :=
    (1 ≤ kc) ∧ ((2000 ≤ ks) ∧ (∀ (K431 : Nat → pKd) (A432 : pA) (L433 : pL) (G434 : pG), K431 = pkup K n (.inr (1, 2000)) → A432 = prow A n (fun _ => 0) → L433 = prow Lg n (fun _ => 0) → G434 = prow G n (fun _ => .null) → (1198 < (n + 1)) ∧ ((K431 1198 = .inl 9) ∧ (∀ G437 : pG, G437 = pup G434 1198 1 (.ref n) → (1 ≤ kc - 1) ∧ ((2000 ≤ ks - 2000) ∧ (∀ (K440 : Nat → pKd) (A441 : pA) (L442 : pL) (G443 : pG), K440 = pkup K431 (n + 1) (.inr (1, 2000)) → A441 = prow A432 (n + 1) (fun _ => 0) → L442 = prow L433 (n + 1) (fun _ => 0) → G443 = prow G437 (n + 1) (fun _ => .null) → (1198 < (n + 1 + 1)) ∧ ((K440 1198 = .inl 9) ∧ (∀ G446 : pG, G446 = pup G443 1198 3 (.ref (n + 1)) → (1 ≤ kc - 1 - 1) ∧ ((403 ≤ ks - 2000 - 2000) ∧ (∀ (K449 : Nat → pKd) (A450 : pA) (L451 : pL) (G452 : pG), K449 = pkup K440 (n + 1 + 1) (.inr (0, 403)) → A450 = prow A441 (n + 1 + 1) (fun _ => 0) → L451 = prow L442 (n + 1 + 1) (fun _ => 0) → G452 = prow G446 (n + 1 + 1) (fun _ => .null) → (1198 < (n + 1 + 1 + 1)) ∧ ((K449 1198 = .inl 9) ∧ (∀ G455 : pG, G455 = pup G452 1198 5 (.ref (n + 1 + 1)) → (1 ≤ kc - 1 - 1 - 1) ∧ ((403 ≤ ks - 2000 - 2000 - 403) ∧ (∀ (K458 : Nat → pKd) (A459 : pA) (L460 : pL) (G461 : pG), K458 = pkup K449 (n + 1 + 1 + 1) (.inr (0, 403)) → A459 = prow A450 (n + 1 + 1 + 1) (fun _ => 0) → L460 = prow L451 (n + 1 + 1 + 1) (fun _ => 0) → G461 = prow G455 (n + 1 + 1 + 1) (fun _ => .null) → (1198 < (n + 1 + 1 + 1 + 1)) ∧ ((K458 1198 = .inl 9) ∧ (∀ G464 : pG, G464 = pup G461 1198 6 (.ref (n + 1 + 1 + 1)) → (1 ≤ kc - 1 - 1 - 1 - 1) ∧ ((403 ≤ ks - 2000 - 2000 - 403 - 403) ∧ (∀ (K467 : Nat → pKd) (A468 : pA) (L469 : pL) (G470 : pG), K467 = pkup K458 (n + 1 + 1 + 1 + 1) (.inr (0, 403)) → A468 = prow A459 (n + 1 + 1 + 1 + 1) (fun _ => 0) → L469 = prow L460 (n + 1 + 1 + 1 + 1) (fun _ => 0) → G470 = prow G464 (n + 1 + 1 + 1 + 1) (fun _ => .null) → (1198 < (n + 1 + 1 + 1 + 1 + 1)) ∧ ((K467 1198 = .inl 9) ∧ (∀ G473 : pG, G473 = pup G470 1198 7 (.ref (n + 1 + 1 + 1 + 1)) → fX10_init_J49   Q (n + 1 + 1 + 1 + 1 + 1) K467 A468 L469 G473 (kc - 1 - 1 - 1 - 1 - 1) (ks - 2000 - 2000 - 403 - 403 - 403)))))))))))))))))))))
theorem tX10_init {Γ : jG} {n : Nat} {K : Nat → pKd} {G : pG} {A : pA} {Lg : pL} {kc ks : Nat}  (Q : Nat → (Nat → pKd) → pA → pL → pG → Prop) (h : fX10_init n K A Lg G kc ks Q) : jMet Γ yX10_init cX10_init 1 none [] 3 kc ks [.ref 1198] (n, K, A, Lg, G) (fun o u => ∃ (n' : Nat) (K' : Nat → pKd) (A' : pA) (Lg' : pL) (G' : pG), o = .inl none ∧ u = (n', K', A', Lg', G') ∧ Q n' K' A' Lg' G') := by
  unfold fX10_init at h
  obtain ⟨P, hP⟩ : ∃ P : jO → pS → Prop, P = (fun o u => ∃ (n' : Nat) (K' : Nat → pKd) (A' : pA) (Lg' : pL) (G' : pG), o = .inl none ∧ u = (n', K', A', Lg', G') ∧ Q n' K' A' Lg' G') := ⟨_, rfl⟩
  rw [← hP]
  refine jMet_of rfl rfl rfl (Nat.le_of_ble_eq_true rfl) ?_
  show J Γ RX10 cX10_init 1 none "<init>" [] 3 kc ks 0 [(0, .ref 1198)] [] (n, K, A, Lg, G) P
  refine j_aload_n 0 rfl dX10_init_0 ?_
  refine j_objInit (b := 1198) (st := []) q1528 q165 q166 (by decide) (Nat.le_of_ble_eq_true rfl) (by decide) dX10_init_1 ?_
  refine j_aload_n 0 rfl dX10_init_4 ?_
  refine j_sipush (v := 2000) dX10_init_5 (by decide) ?_
  obtain ⟨b429, h⟩ := h
  obtain ⟨b430, h⟩ := h
  refine j_newaE (t := 1) (N := 2000) rfl rfl q240 (fun _ _ h9 => h9) rfl (by decide) (by decide) (by decide) b429 b430 dX10_init_8 (fun K431 A432 L433 G434 eK431 eA432 eL433 eG434 => ?_)
  replace h := h K431 A432 L433 G434 eK431 eA432 eL433 eG434
  have b435 : n < (n + 1) := (by omega)
  have b436 : K431 n = .inr (1, 2000) := (by rw [eK431]; exact pkup_self)
  obtain ⟨h0l, h⟩ := h
  obtain ⟨h0k, h⟩ := h
  refine j_putfrE (fp_i_X10_13_9 _ rfl) rfl (Or.inr ⟨_, rfl⟩) (Or.inr ⟨_, rfl⟩) h0l h0k dX10_init_10 (fun G437 eG437 => ?_)
  replace h := h G437 eG437
  refine j_aload_n 0 rfl dX10_init_13 ?_
  refine j_sipush (v := 2000) dX10_init_14 (by decide) ?_
  obtain ⟨b438, h⟩ := h
  obtain ⟨b439, h⟩ := h
  refine j_newaE (t := 1) (N := 2000) rfl rfl q240 (fun _ _ h9 => h9) rfl (by decide) (by decide) (by decide) b438 b439 dX10_init_17 (fun K440 A441 L442 G443 eK440 eA441 eL442 eG443 => ?_)
  replace h := h K440 A441 L442 G443 eK440 eA441 eL442 eG443
  have b444 : (n + 1) < (n + 1 + 1) := (by omega)
  have b445 : K440 (n + 1) = .inr (1, 2000) := (by rw [eK440]; exact pkup_self)
  obtain ⟨h0l, h⟩ := h
  obtain ⟨h0k, h⟩ := h
  refine j_putfrE (fp_i_X10_17_9 _ rfl) rfl (Or.inr ⟨_, rfl⟩) (Or.inr ⟨_, rfl⟩) h0l h0k dX10_init_19 (fun G446 eG446 => ?_)
  replace h := h G446 eG446
  refine j_aload_n 0 rfl dX10_init_22 ?_
  refine j_sipush (v := 403) dX10_init_23 (by decide) ?_
  obtain ⟨b447, h⟩ := h
  obtain ⟨b448, h⟩ := h
  refine j_newaE (t := 0) (N := 403) rfl rfl q431 (fun _ _ h9 => h9) rfl (by decide) (by decide) (by decide) b447 b448 dX10_init_26 (fun K449 A450 L451 G452 eK449 eA450 eL451 eG452 => ?_)
  replace h := h K449 A450 L451 G452 eK449 eA450 eL451 eG452
  have b453 : (n + 1 + 1) < (n + 1 + 1 + 1) := (by omega)
  have b454 : K449 (n + 1 + 1) = .inr (0, 403) := (by rw [eK449]; exact pkup_self)
  obtain ⟨h0l, h⟩ := h
  obtain ⟨h0k, h⟩ := h
  refine j_putfrE (fp_i_X10_20_9 _ rfl) rfl (Or.inr ⟨_, rfl⟩) (Or.inr ⟨_, rfl⟩) h0l h0k dX10_init_28 (fun G455 eG455 => ?_)
  replace h := h G455 eG455
  refine j_aload_n 0 rfl dX10_init_31 ?_
  refine j_sipush (v := 403) dX10_init_32 (by decide) ?_
  obtain ⟨b456, h⟩ := h
  obtain ⟨b457, h⟩ := h
  refine j_newaE (t := 0) (N := 403) rfl rfl q431 (fun _ _ h9 => h9) rfl (by decide) (by decide) (by decide) b456 b457 dX10_init_35 (fun K458 A459 L460 G461 eK458 eA459 eL460 eG461 => ?_)
  replace h := h K458 A459 L460 G461 eK458 eA459 eL460 eG461
  have b462 : (n + 1 + 1 + 1) < (n + 1 + 1 + 1 + 1) := (by omega)
  have b463 : K458 (n + 1 + 1 + 1) = .inr (0, 403) := (by rw [eK458]; exact pkup_self)
  obtain ⟨h0l, h⟩ := h
  obtain ⟨h0k, h⟩ := h
  refine j_putfrE (fp_i_X10_24_9 _ rfl) rfl (Or.inr ⟨_, rfl⟩) (Or.inr ⟨_, rfl⟩) h0l h0k dX10_init_37 (fun G464 eG464 => ?_)
  replace h := h G464 eG464
  refine j_aload_n 0 rfl dX10_init_40 ?_
  refine j_sipush (v := 403) dX10_init_41 (by decide) ?_
  obtain ⟨b465, h⟩ := h
  obtain ⟨b466, h⟩ := h
  refine j_newaE (t := 0) (N := 403) rfl rfl q431 (fun _ _ h9 => h9) rfl (by decide) (by decide) (by decide) b465 b466 dX10_init_44 (fun K467 A468 L469 G470 eK467 eA468 eL469 eG470 => ?_)
  replace h := h K467 A468 L469 G470 eK467 eA468 eL469 eG470
  have b471 : (n + 1 + 1 + 1 + 1) < (n + 1 + 1 + 1 + 1 + 1) := (by omega)
  have b472 : K467 (n + 1 + 1 + 1 + 1) = .inr (0, 403) := (by rw [eK467]; exact pkup_self)
  obtain ⟨h0l, h⟩ := h
  obtain ⟨h0k, h⟩ := h
  refine j_putfrE (fp_i_X10_27_9 _ rfl) rfl (Or.inr ⟨_, rfl⟩) (Or.inr ⟨_, rfl⟩) h0l h0k dX10_init_46 (fun G473 eG473 => ?_)
  replace h := h G473 eG473
  exact fX10_init_J49_ok  Q P hP   (n + 1 + 1 + 1 + 1 + 1) K467 A468 L469 G473 (kc - 1 - 1 - 1 - 1 - 1) (ks - 2000 - 2000 - 403 - 403 - 403) h
