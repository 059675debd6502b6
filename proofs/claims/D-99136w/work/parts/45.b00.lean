set_option maxRecDepth 100000
set_option maxHeartbeats 4000000
theorem myX3_law : jY yX3_law cX3_law 2 (some (.object "DogsHour$Law"))  0 := ⟨q734, q127, by decide +kernel, by decide +kernel, by decide⟩
def fX3_law_L14   (X : Nat → (Nat → pKd) → pA → pL → pG → Prop) (Q : Nat → Nat → (Nat → pKd) → pA → pL → pG → Prop) : Nat → Nat → Nat → (Nat → pKd) → pA → pL → pG → Nat → Nat → Prop
  | 0, _, _, _, _, _, _, _, _ => False
  | n9 + 1, l1, n, K, A, Lg, G, kc, ks =>
    (fOK n K G) ∧ (fX3_isWord A 11 (fun r1 => (if r1 = 0 then ∃ e4 : Nat, G l1 2 = .ref e4 ∧ ((l1 < n) ∧ ((K l1 = .inl 10) ∧ (∃ kY5 sY6 : Nat, kY5 ≤ kc ∧ sY6 ≤ ks ∧ (fX3_sumC n K A Lg G kY5 sY6 X (fun r7 n8 K9 A10 Lg11 G12 => ∃ z14 : Nat, K9 e4 = .inr (8, z14) ∧ ((vp_in (A l1 3) z14) ∧ ((r7 < n8) ∧ ((K9 r7 = .inl 11 ∨ K9 r7 = .inl 12 ∨ K9 r7 = .inl 13) ∧ ((n8 ≤ 1000000) ∧ ((e4 < n8) ∧ (∀ G17 : pG, G17 = pup G12 e4 (A l1 3).toNatClampNeg (.ref r7) → Q l1 n8 K9 A10 Lg11 G17))))))))))) else (l1 < n) ∧ ((K l1 = .inl 10) ∧ (∃ kY22 sY23 : Nat, kY22 ≤ kc ∧ sY23 ≤ ks ∧ (fX3_begins n K A Lg G kY22 sY23 (A l1 3) 4 X (fun n24 K25 A26 Lg27 G28 => ∃ e29 : Nat, G28 l1 0 = .ref e29 ∧ ((l1 < n24) ∧ ((K25 l1 = .inl 10) ∧ (∃ kY30 sY31 : Nat, kY30 ≤ kc - kY22 ∧ sY31 ≤ ks - sY23 ∧ ((fOK n24 K25 G28) ∧ (fX3_sumC n24 K25 A26 Lg27 G28 kY30 sY31 X (fun r32 n33 K34 A35 Lg36 G37 => ∃ z39 : Nat, K34 e29 = .inr (8, z39) ∧ ((vp_in (A26 l1 3) z39) ∧ ((r32 < n33) ∧ ((K34 r32 = .inl 11 ∨ K34 r32 = .inl 12 ∨ K34 r32 = .inl 13) ∧ ((n33 ≤ 1000000) ∧ ((e29 < n33) ∧ (∀ G42 : pG, G42 = pup G37 e29 (A26 l1 3).toNatClampNeg (.ref r32) → ∃ kY45 sY46 : Nat, kY45 ≤ kc - kY22 - kY30 ∧ sY46 ≤ ks - sY23 - sY31 ∧ ((fOK n33 K34 G42) ∧ (fX3_sign n33 K34 A35 Lg36 G42 kY45 sY46 60 X (fun n47 K48 A49 Lg50 G51 => ∃ e52 : Nat, G51 l1 1 = .ref e52 ∧ ((l1 < n47) ∧ ((K48 l1 = .inl 10) ∧ (∃ kY53 sY54 : Nat, kY53 ≤ kc - kY22 - kY30 - kY45 ∧ sY54 ≤ ks - sY23 - sY31 - sY46 ∧ ((fOK n47 K48 G51) ∧ (fX3_sumC n47 K48 A49 Lg50 G51 kY53 sY54 X (fun r55 n56 K57 A58 Lg59 G60 => ∃ z62 : Nat, K57 e52 = .inr (8, z62) ∧ ((vp_in (A49 l1 3) z62) ∧ ((r55 < n56) ∧ ((K57 r55 = .inl 11 ∨ K57 r55 = .inl 12 ∨ K57 r55 = .inl 13) ∧ ((n56 ≤ 1000000) ∧ ((e52 < n56) ∧ (∀ G65 : pG, G65 = pup G60 e52 (A49 l1 3).toNatClampNeg (.ref r55) → ∃ kY68 sY69 : Nat, kY68 ≤ kc - kY22 - kY30 - kY45 - kY53 ∧ sY69 ≤ ks - sY23 - sY31 - sY46 - sY54 ∧ ((fOK n56 K57 G65) ∧ (fX3_word n56 K57 A58 Lg59 G65 kY68 sY69 12 X (fun n70 K71 A72 Lg73 G74 => ∃ e75 : Nat, G74 l1 2 = .ref e75 ∧ ((l1 < n70) ∧ ((K71 l1 = .inl 10) ∧ (∃ kY76 sY77 : Nat, kY76 ≤ kc - kY22 - kY30 - kY45 - kY53 - kY68 ∧ sY77 ≤ ks - sY23 - sY31 - sY46 - sY54 - sY69 ∧ ((fOK n70 K71 G74) ∧ (fX3_sumC n70 K71 A72 Lg73 G74 kY76 sY77 X (fun r78 n79 K80 A81 Lg82 G83 => ∃ z85 : Nat, K80 e75 = .inr (8, z85) ∧ ((vp_in (A72 l1 3) z85) ∧ ((r78 < n79) ∧ ((K80 r78 = .inl 11 ∨ K80 r78 = .inl 12 ∨ K80 r78 = .inl 13) ∧ ((n79 ≤ 1000000) ∧ ((e75 < n79) ∧ (∀ G88 : pG, G88 = pup G83 e75 (A72 l1 3).toNatClampNeg (.ref r78) → ∃ kY91 sY92 : Nat, kY91 ≤ kc - kY22 - kY30 - kY45 - kY53 - kY68 - kY76 ∧ sY92 ≤ ks - sY23 - sY31 - sY46 - sY54 - sY69 - sY77 ∧ ((fOK n79 K80 G88) ∧ (fX3_word n79 K80 A81 Lg82 G88 kY91 sY92 13 X (fun n93 K94 A95 Lg96 G97 => (l1 < n93) ∧ ((K94 l1 = .inl 10) ∧ (∀ A98 : pA, A98 = pup A95 l1 3 ((A95 l1 3) + 1) → fX3_law_L14   X Q n9 l1 n93 K94 A98 Lg96 G97 (kc - kY22 - kY30 - kY45 - kY53 - kY68 - kY76 - kY91) (ks - sY23 - sY31 - sY46 - sY54 - sY69 - sY77 - sY92)))))))))))))))))))))))))))))))))))))))))))))))))))))))
theorem fX3_law_L14_ok {Γ : jG} (X : Nat → (Nat → pKd) → pA → pL → pG → Prop) (Q : Nat → Nat → (Nat → pKd) → pA → pL → pG → Prop) (P : jO → pS → Prop) (hP : P = (fun o u => (∃ (r : Nat) (n' : Nat) (K' : Nat → pKd) (A' : pA) (Lg' : pL) (G' : pG), o = .inl (some (.ref r)) ∧ u = (n', K', A', Lg', G') ∧ Q r n' K' A' Lg' G') ∨ (∃ (n' : Nat) (K' : Nat → pKd) (A' : pA) (Lg' : pL) (G' : pG), o = .inr 1 ∧ u = (n', K', A', Lg', G') ∧ X n' K' A' Lg' G')))    : ∀ (n9 : Nat) (l1 : Nat) (n : Nat) (K : Nat → pKd) (A : pA) (Lg : pL) (G : pG) (kc : Nat) (ks : Nat), fX3_law_L14   X Q n9 l1 n K A Lg G kc ks → J Γ RX3 cX3_law 2 (some (.object "DogsHour$Law")) "law" [] 141 kc ks 14 [(0, .ref 9), (1, .ref l1)] [] (n, K, A, Lg, G) P := by
  intro n9
  induction n9 with
  | zero => intro l1 n K A Lg G kc ks h; exact h.elim
  | succ n9 ih =>
    intro l1 n K A Lg G kc ks h
    unfold fX3_law_L14 at h
    refine j_aload_n 0 rfl dX3_law_14 ?_
    refine j_bipush (v := 11) dX3_law_15 (by decide) ?_
    obtain ⟨hf, h⟩ := h
    refine j_callV (b := 9) (As := [.int 11]) (st := []) (C := RX3) (kc' := kc) (ks' := ks) (tX3_isWord hf 11 _ h) myX3_isWord rfl q768 q770 qs16 (by decide) (fun s9 H9 hK9 hR9 h69 => jIs_in hK9 hR9 h69 (f_lt hf (by decide)) (fk_9 hf) rfl) rfl (Nat.le_of_ble_eq_true rfl) rfl (by decide) (Nat.le_refl _) (Nat.le_refl _) dX3_law_17 (fun v9 u9 hq => ?_) (fun k9 u9 hq => by obtain ⟨_, e9, _⟩ := hq; cases e9)
    obtain ⟨r1, e9, rfl, h⟩ := hq
    obtain rfl := Sum.inl.inj e9
    show J Γ RX3 cX3_law 2 (some (.object "DogsHour$Law")) "law" [] 141 kc ks 20 [(0, .ref 9), (1, .ref l1)] [.int r1] (n, K, A, Lg, G) P
    refine j_if_eq (tgt := 102) dX3_law_20 (by decide) (fun c => ?_) (fun c => ?_)
    · rw [if_pos c] at h
      refine j_aload_n 1 rfl dX3_law_102 ?_
      obtain ⟨e4, e4h, h⟩ := h
      obtain ⟨b2, h⟩ := h
      obtain ⟨b3, h⟩ := h
      refine j_getfr fl_X3_243_10 rfl b2 b3 e4h dX3_law_103 ?_
      refine j_aload_n 1 rfl dX3_law_106 ?_
      refine j_getfi fl_X3_226_10 rfl b2 b3 dX3_law_107 ?_
      refine j_aload_n 0 rfl dX3_law_110 ?_
      obtain ⟨kY5, sY6, kY5h, sY6h, h⟩ := h
      refine j_callV (b := 9) (As := []) (st := [.int (A l1 3), .ref e4]) (C := RX3) (kc' := kc - kY5) (ks' := ks - sY6) (tX3_sumC   X _ h) myX3_sum rfl q776 q778 qs18 (by decide) (fun s9 H9 hK9 hR9 h69 => jIs_in hK9 hR9 h69 (f_lt hf (by decide)) (fk_9 hf) rfl) rfl (Nat.le_of_ble_eq_true rfl) rfl (by decide) (by omega) (by omega) dX3_law_111 (fun v9 u9 hq => ?_) (fun k9 u9 hq => by rcases hq with ⟨_, _, _, _, _, _, e9, _⟩ | ⟨n9, K9, A9, L9, G9, e9, e8, hX⟩; exact nomatch e9; rw [hP]; exact Or.inr ⟨n9, K9, A9, L9, G9, e9, e8, hX⟩)
      rcases hq with hq | ⟨n9, K9, A9, L9, G9, e9, e8, hX⟩
      rotate_left
      · exact nomatch e9
      obtain ⟨r7, n8, K9, A10, Lg11, G12, e9, rfl, h⟩ := hq
      obtain rfl := Sum.inl.inj e9
      show J Γ RX3 cX3_law 2 (some (.object "DogsHour$Law")) "law" [] 141 (kc - kY5) (ks - sY6) 114 [(0, .ref 9), (1, .ref l1)] [.ref r7, .int (A l1 3), .ref e4] (n8, K9, A10, Lg11, G12) P
      obtain ⟨z14, b15, h⟩ := h
      obtain ⟨b16, h⟩ := h
      obtain ⟨b18, h⟩ := h
      obtain ⟨b19, h⟩ := h
      obtain ⟨hn6, h⟩ := h
      obtain ⟨b13, h⟩ := h
      refine j_aastS (j := (A l1 3).toNatClampNeg) b13 b15 b16 rfl hn6 b18 b19 dX3_law_114 (fun G17 eG17 => ?_)
      replace h := h G17 eG17
      refine j_aload_n 1 rfl dX3_law_115 ?_
      refine j_aret rfl (by first | exact Or.inl ⟨_, rfl⟩ | exact Or.inr ⟨_, rfl⟩) (Or.inr ⟨_, rfl⟩) ?_ dX3_law_116
      rw [hP]
      exact Or.inl ⟨l1, n8, K9, A10, Lg11, G17, rfl, rfl, h⟩
    · rw [if_neg c] at h
      refine j_aload_n 0 rfl dX3_law_23 ?_
      refine j_aload_n 1 rfl dX3_law_24 ?_
      obtain ⟨b20, h⟩ := h
      obtain ⟨b21, h⟩ := h
      refine j_getfi fl_X3_226_10 rfl b20 b21 dX3_law_25 ?_
      refine j_iconst (v := 4) dX3_law_28 (by decide) ?_
      obtain ⟨kY22, sY23, kY22h, sY23h, h⟩ := h
      refine j_callV (b := 9) (As := [.int (A l1 3), .int 4]) (st := []) (C := RX3) (kc' := kc - kY22) (ks' := ks - sY23) (tX3_begins  (A l1 3) 4 X _ h) myX3_begins rfl q772 q774 qs17 (by decide) (fun s9 H9 hK9 hR9 h69 => jIs_in hK9 hR9 h69 (f_lt hf (by decide)) (fk_9 hf) rfl) rfl (Nat.le_of_ble_eq_true rfl) rfl (by decide) (by omega) (by omega) dX3_law_29 (fun v9 u9 hq => ?_) (fun k9 u9 hq => by rcases hq with ⟨_, _, _, _, _, e9, _⟩ | ⟨n9, K9, A9, L9, G9, e9, e8, hX⟩; exact nomatch e9; rw [hP]; exact Or.inr ⟨n9, K9, A9, L9, G9, e9, e8, hX⟩)
      rcases hq with hq | ⟨n9, K9, A9, L9, G9, e9, e8, hX⟩
      rotate_left
      · exact nomatch e9
      obtain ⟨n24, K25, A26, Lg27, G28, e9, rfl, h⟩ := hq
      obtain rfl := Sum.inl.inj e9
      show J Γ RX3 cX3_law 2 (some (.object "DogsHour$Law")) "law" [] 141 (kc - kY22) (ks - sY23) 32 [(0, .ref 9), (1, .ref l1)] [] (n24, K25, A26, Lg27, G28) P
      refine j_aload_n 1 rfl dX3_law_32 ?_
      obtain ⟨e29, e29h, h⟩ := h
      obtain ⟨b20, h⟩ := h
      obtain ⟨b21, h⟩ := h
      refine j_getfr fl_X3_229_10 rfl b20 b21 e29h dX3_law_33 ?_
      refine j_aload_n 1 rfl dX3_law_36 ?_
      refine j_getfi fl_X3_226_10 rfl b20 b21 dX3_law_37 ?_
      refine j_aload_n 0 rfl dX3_law_40 ?_
      obtain ⟨kY30, sY31, kY30h, sY31h, h⟩ := h
      obtain ⟨hf, h⟩ := h
      refine j_callV (b := 9) (As := []) (st := [.int (A26 l1 3), .ref e29]) (C := RX3) (kc' := kc - kY22 - kY30) (ks' := ks - sY23 - sY31) (tX3_sumC   X _ h) myX3_sum rfl q776 q778 qs18 (by decide) (fun s9 H9 hK9 hR9 h69 => jIs_in hK9 hR9 h69 (f_lt hf (by decide)) (fk_9 hf) rfl) rfl (Nat.le_of_ble_eq_true rfl) rfl (by decide) (by omega) (by omega) dX3_law_41 (fun v9 u9 hq => ?_) (fun k9 u9 hq => by rcases hq with ⟨_, _, _, _, _, _, e9, _⟩ | ⟨n9, K9, A9, L9, G9, e9, e8, hX⟩; exact nomatch e9; rw [hP]; exact Or.inr ⟨n9, K9, A9, L9, G9, e9, e8, hX⟩)
      rcases hq with hq | ⟨n9, K9, A9, L9, G9, e9, e8, hX⟩
      rotate_left
      · exact nomatch e9
      obtain ⟨r32, n33, K34, A35, Lg36, G37, e9, rfl, h⟩ := hq
      obtain rfl := Sum.inl.inj e9
      show J Γ RX3 cX3_law 2 (some (.object "DogsHour$Law")) "law" [] 141 (kc - kY22 - kY30) (ks - sY23 - sY31) 44 [(0, .ref 9), (1, .ref l1)] [.ref r32, .int (A26 l1 3), .ref e29] (n33, K34, A35, Lg36, G37) P
      obtain ⟨z39, b40, h⟩ := h
      obtain ⟨b41, h⟩ := h
      obtain ⟨b43, h⟩ := h
      obtain ⟨b44, h⟩ := h
      obtain ⟨hn6, h⟩ := h
      obtain ⟨b38, h⟩ := h
      refine j_aastS (j := (A26 l1 3).toNatClampNeg) b38 b40 b41 rfl hn6 b43 b44 dX3_law_44 (fun G42 eG42 => ?_)
      replace h := h G42 eG42
      refine j_aload_n 0 rfl dX3_law_45 ?_
      refine j_bipush (v := 60) dX3_law_46 (by decide) ?_
      obtain ⟨kY45, sY46, kY45h, sY46h, h⟩ := h
      obtain ⟨hf, h⟩ := h
      refine j_callV (b := 9) (As := [.int 60]) (st := []) (C := RX3) (kc' := kc - kY22 - kY30 - kY45) (ks' := ks - sY23 - sY31 - sY46) (tX3_sign  60 X _ h) myX3_sign rfl q760 q762 qs14 (by decide) (fun s9 H9 hK9 hR9 h69 => jIs_in hK9 hR9 h69 (f_lt hf (by decide)) (fk_9 hf) rfl) rfl (Nat.le_of_ble_eq_true rfl) rfl (by decide) (by omega) (by omega) dX3_law_48 (fun v9 u9 hq => ?_) (fun k9 u9 hq => by rcases hq with ⟨_, _, _, _, _, e9, _⟩ | ⟨n9, K9, A9, L9, G9, e9, e8, hX⟩; exact nomatch e9; rw [hP]; exact Or.inr ⟨n9, K9, A9, L9, G9, e9, e8, hX⟩)
      rcases hq with hq | ⟨n9, K9, A9, L9, G9, e9, e8, hX⟩
      rotate_left
      · exact nomatch e9
      obtain ⟨n47, K48, A49, Lg50, G51, e9, rfl, h⟩ := hq
      obtain rfl := Sum.inl.inj e9
      show J Γ RX3 cX3_law 2 (some (.object "DogsHour$Law")) "law" [] 141 (kc - kY22 - kY30 - kY45) (ks - sY23 - sY31 - sY46) 51 [(0, .ref 9), (1, .ref l1)] [] (n47, K48, A49, Lg50, G51) P
      refine j_aload_n 1 rfl dX3_law_51 ?_
      obtain ⟨e52, e52h, h⟩ := h
      obtain ⟨b20, h⟩ := h
      obtain ⟨b21, h⟩ := h
      refine j_getfr fl_X3_237_10 rfl b20 b21 e52h dX3_law_52 ?_
      refine j_aload_n 1 rfl dX3_law_55 ?_
      refine j_getfi fl_X3_226_10 rfl b20 b21 dX3_law_56 ?_
      refine j_aload_n 0 rfl dX3_law_59 ?_
      obtain ⟨kY53, sY54, kY53h, sY54h, h⟩ := h
      obtain ⟨hf, h⟩ := h
      refine j_callV (b := 9) (As := []) (st := [.int (A49 l1 3), .ref e52]) (C := RX3) (kc' := kc - kY22 - kY30 - kY45 - kY53) (ks' := ks - sY23 - sY31 - sY46 - sY54) (tX3_sumC   X _ h) myX3_sum rfl q776 q778 qs18 (by decide) (fun s9 H9 hK9 hR9 h69 => jIs_in hK9 hR9 h69 (f_lt hf (by decide)) (fk_9 hf) rfl) rfl (Nat.le_of_ble_eq_true rfl) rfl (by decide) (by omega) (by omega) dX3_law_60 (fun v9 u9 hq => ?_) (fun k9 u9 hq => by rcases hq with ⟨_, _, _, _, _, _, e9, _⟩ | ⟨n9, K9, A9, L9, G9, e9, e8, hX⟩; exact nomatch e9; rw [hP]; exact Or.inr ⟨n9, K9, A9, L9, G9, e9, e8, hX⟩)
      rcases hq with hq | ⟨n9, K9, A9, L9, G9, e9, e8, hX⟩
      rotate_left
      · exact nomatch e9
      obtain ⟨r55, n56, K57, A58, Lg59, G60, e9, rfl, h⟩ := hq
      obtain rfl := Sum.inl.inj e9
      show J Γ RX3 cX3_law 2 (some (.object "DogsHour$Law")) "law" [] 141 (kc - kY22 - kY30 - kY45 - kY53) (ks - sY23 - sY31 - sY46 - sY54) 63 [(0, .ref 9), (1, .ref l1)] [.ref r55, .int (A49 l1 3), .ref e52] (n56, K57, A58, Lg59, G60) P
      obtain ⟨z62, b63, h⟩ := h
      obtain ⟨b64, h⟩ := h
      obtain ⟨b66, h⟩ := h
      obtain ⟨b67, h⟩ := h
      obtain ⟨hn6, h⟩ := h
      obtain ⟨b61, h⟩ := h
      refine j_aastS (j := (A49 l1 3).toNatClampNeg) b61 b63 b64 rfl hn6 b66 b67 dX3_law_63 (fun G65 eG65 => ?_)
      replace h := h G65 eG65
      refine j_aload_n 0 rfl dX3_law_64 ?_
      refine j_bipush (v := 12) dX3_law_65 (by decide) ?_
      obtain ⟨kY68, sY69, kY68h, sY69h, h⟩ := h
      obtain ⟨hf, h⟩ := h
      refine j_callV (b := 9) (As := [.int 12]) (st := []) (C := RX3) (kc' := kc - kY22 - kY30 - kY45 - kY53 - kY68) (ks' := ks - sY23 - sY31 - sY46 - sY54 - sY69) (tX3_word  12 X _ h) myX3_word rfl q831 q833 qs21 (by decide) (fun s9 H9 hK9 hR9 h69 => jIs_in hK9 hR9 h69 (f_lt hf (by decide)) (fk_9 hf) rfl) rfl (Nat.le_of_ble_eq_true rfl) rfl (by decide) (by omega) (by omega) dX3_law_67 (fun v9 u9 hq => ?_) (fun k9 u9 hq => by rcases hq with ⟨_, _, _, _, _, e9, _⟩ | ⟨n9, K9, A9, L9, G9, e9, e8, hX⟩; exact nomatch e9; rw [hP]; exact Or.inr ⟨n9, K9, A9, L9, G9, e9, e8, hX⟩)
      rcases hq with hq | ⟨n9, K9, A9, L9, G9, e9, e8, hX⟩
      rotate_left
      · exact nomatch e9
      obtain ⟨n70, K71, A72, Lg73, G74, e9, rfl, h⟩ := hq
      obtain rfl := Sum.inl.inj e9
      show J Γ RX3 cX3_law 2 (some (.object "DogsHour$Law")) "law" [] 141 (kc - kY22 - kY30 - kY45 - kY53 - kY68) (ks - sY23 - sY31 - sY46 - sY54 - sY69) 70 [(0, .ref 9), (1, .ref l1)] [] (n70, K71, A72, Lg73, G74) P
      refine j_aload_n 1 rfl dX3_law_70 ?_
      obtain ⟨e75, e75h, h⟩ := h
      obtain ⟨b20, h⟩ := h
      obtain ⟨b21, h⟩ := h
      refine j_getfr fl_X3_243_10 rfl b20 b21 e75h dX3_law_71 ?_
      refine j_aload_n 1 rfl dX3_law_74 ?_
      refine j_getfi fl_X3_226_10 rfl b20 b21 dX3_law_75 ?_
      refine j_aload_n 0 rfl dX3_law_78 ?_
      obtain ⟨kY76, sY77, kY76h, sY77h, h⟩ := h
      obtain ⟨hf, h⟩ := h
      refine j_callV (b := 9) (As := []) (st := [.int (A72 l1 3), .ref e75]) (C := RX3) (kc' := kc - kY22 - kY30 - kY45 - kY53 - kY68 - kY76) (ks' := ks - sY23 - sY31 - sY46 - sY54 - sY69 - sY77) (tX3_sumC   X _ h) myX3_sum rfl q776 q778 qs18 (by decide) (fun s9 H9 hK9 hR9 h69 => jIs_in hK9 hR9 h69 (f_lt hf (by decide)) (fk_9 hf) rfl) rfl (Nat.le_of_ble_eq_true rfl) rfl (by decide) (by omega) (by omega) dX3_law_79 (fun v9 u9 hq => ?_) (fun k9 u9 hq => by rcases hq with ⟨_, _, _, _, _, _, e9, _⟩ | ⟨n9, K9, A9, L9, G9, e9, e8, hX⟩; exact nomatch e9; rw [hP]; exact Or.inr ⟨n9, K9, A9, L9, G9, e9, e8, hX⟩)
      rcases hq with hq | ⟨n9, K9, A9, L9, G9, e9, e8, hX⟩
      rotate_left
      · exact nomatch e9
      obtain ⟨r78, n79, K80, A81, Lg82, G83, e9, rfl, h⟩ := hq
      obtain rfl := Sum.inl.inj e9
      show J Γ RX3 cX3_law 2 (some (.object "DogsHour$Law")) "law" [] 141 (kc - kY22 - kY30 - kY45 - kY53 - kY68 - kY76) (ks - sY23 - sY31 - sY46 - sY54 - sY69 - sY77) 82 [(0, .ref 9), (1, .ref l1)] [.ref r78, .int (A72 l1 3), .ref e75] (n79, K80, A81, Lg82, G83) P
      obtain ⟨z85, b86, h⟩ := h
      obtain ⟨b87, h⟩ := h
      obtain ⟨b89, h⟩ := h
      obtain ⟨b90, h⟩ := h
      obtain ⟨hn6, h⟩ := h
      obtain ⟨b84, h⟩ := h
      refine j_aastS (j := (A72 l1 3).toNatClampNeg) b84 b86 b87 rfl hn6 b89 b90 dX3_law_82 (fun G88 eG88 => ?_)
      replace h := h G88 eG88
      refine j_aload_n 0 rfl dX3_law_83 ?_
      refine j_bipush (v := 13) dX3_law_84 (by decide) ?_
      obtain ⟨kY91, sY92, kY91h, sY92h, h⟩ := h
      obtain ⟨hf, h⟩ := h
      refine j_callV (b := 9) (As := [.int 13]) (st := []) (C := RX3) (kc' := kc - kY22 - kY30 - kY45 - kY53 - kY68 - kY76 - kY91) (ks' := ks - sY23 - sY31 - sY46 - sY54 - sY69 - sY77 - sY92) (tX3_word  13 X _ h) myX3_word rfl q831 q833 qs21 (by decide) (fun s9 H9 hK9 hR9 h69 => jIs_in hK9 hR9 h69 (f_lt hf (by decide)) (fk_9 hf) rfl) rfl (Nat.le_of_ble_eq_true rfl) rfl (by decide) (by omega) (by omega) dX3_law_86 (fun v9 u9 hq => ?_) (fun k9 u9 hq => by rcases hq with ⟨_, _, _, _, _, e9, _⟩ | ⟨n9, K9, A9, L9, G9, e9, e8, hX⟩; exact nomatch e9; rw [hP]; exact Or.inr ⟨n9, K9, A9, L9, G9, e9, e8, hX⟩)
      rcases hq with hq | ⟨n9, K9, A9, L9, G9, e9, e8, hX⟩
      rotate_left
      · exact nomatch e9
      obtain ⟨n93, K94, A95, Lg96, G97, e9, rfl, h⟩ := hq
      obtain rfl := Sum.inl.inj e9
      show J Γ RX3 cX3_law 2 (some (.object "DogsHour$Law")) "law" [] 141 (kc - kY22 - kY30 - kY45 - kY53 - kY68 - kY76 - kY91) (ks - sY23 - sY31 - sY46 - sY54 - sY69 - sY77 - sY92) 89 [(0, .ref 9), (1, .ref l1)] [] (n93, K94, A95, Lg96, G97) P
      refine j_aload_n 1 rfl dX3_law_89 ?_
      refine j_dup rfl dX3_law_90 ?_
      obtain ⟨b20, h⟩ := h
      obtain ⟨b21, h⟩ := h
      refine j_getfi fl_X3_226_10 rfl b20 b21 dX3_law_91 ?_
      refine j_iconst (v := 1) dX3_law_94 (by decide) ?_
      refine j_iadd dX3_law_95 ?_
      refine j_putfiE (fp_X3_226_10 _) rfl rfl rfl b20 b21 dX3_law_96 (fun A98 eA98 => ?_)
      replace h := h A98 eA98
      refine j_goto (tgt := 14) dX3_law_99 (by decide) ?_
      exact ih l1 n93 K94 A98 Lg96 G97 (kc - kY22 - kY30 - kY45 - kY53 - kY68 - kY76 - kY91) (ks - sY23 - sY31 - sY46 - sY54 - sY69 - sY77 - sY92) h
def fX3_law (n : Nat) (K : Nat → pKd) (A : pA) (Lg : pL) (G : pG) (kc : Nat) (ks : Nat) (X : Nat → (Nat → pKd) → pA → pL → pG → Prop) (Q : Nat → Nat → (Nat → pKd) → pA → pL → pG → Prop) : Prop :=
    (1 ≤ kc) ∧ ((4 ≤ ks) ∧ (∀ (K99 : Nat → pKd) (A100 : pA) (L101 : pL) (G102 : pG), K99 = pkup K n (.inl 10) → A100 = prow A n (fun _ => 0) → L101 = prow Lg n (fun _ => 0) → G102 = prow G n (fun _ => .null) → ∃ kY107 sY108 : Nat, kY107 ≤ kc - 1 ∧ sY108 ≤ ks - 4 ∧ (((n + 1) ≤ 1000000) ∧ (fX11_init n (n + 1) K99 A100 L101 G102 kY107 sY108 (fun n109 K110 A111 Lg112 G113 => ∃ kY114 sY115 : Nat, kY114 ≤ kc - 1 - kY107 ∧ sY115 ≤ ks - 4 - sY108 ∧ ((fOK n109 K110 G113) ∧ (fX3_sign n109 K110 A111 Lg112 G113 kY114 sY115 61 X (fun n116 K117 A118 Lg119 G120 => ∃ m121, fX3_law_L14   X Q m121 n n116 K117 A118 Lg119 G120 (kc - 1 - kY107 - kY114) (ks - 4 - sY108 - sY115)))))))))
theorem tX3_law {Γ : jG} {n : Nat} {K : Nat → pKd} {G : pG} {A : pA} {Lg : pL} {kc ks : Nat}  (X : Nat → (Nat → pKd) → pA → pL → pG → Prop) (Q : Nat → Nat → (Nat → pKd) → pA → pL → pG → Prop) (h : fX3_law n K A Lg G kc ks X Q) : jMet Γ yX3_law cX3_law 2 (some (.object "DogsHour$Law")) [] 141 kc ks [.ref 9] (n, K, A, Lg, G) (fun o u => (∃ (r : Nat) (n' : Nat) (K' : Nat → pKd) (A' : pA) (Lg' : pL) (G' : pG), o = .inl (some (.ref r)) ∧ u = (n', K', A', Lg', G') ∧ Q r n' K' A' Lg' G') ∨ (∃ (n' : Nat) (K' : Nat → pKd) (A' : pA) (Lg' : pL) (G' : pG), o = .inr 1 ∧ u = (n', K', A', Lg', G') ∧ X n' K' A' Lg' G')) := by
  unfold fX3_law at h
  obtain ⟨P, hP⟩ : ∃ P : jO → pS → Prop, P = (fun o u => (∃ (r : Nat) (n' : Nat) (K' : Nat → pKd) (A' : pA) (Lg' : pL) (G' : pG), o = .inl (some (.ref r)) ∧ u = (n', K', A', Lg', G') ∧ Q r n' K' A' Lg' G') ∨ (∃ (n' : Nat) (K' : Nat → pKd) (A' : pA) (Lg' : pL) (G' : pG), o = .inr 1 ∧ u = (n', K', A', Lg', G') ∧ X n' K' A' Lg' G')) := ⟨_, rfl⟩
  rw [← hP]
  refine jMet_of rfl rfl rfl (Nat.le_of_ble_eq_true rfl) ?_
  show J Γ RX3 cX3_law 2 (some (.object "DogsHour$Law")) "law" [] 141 kc ks 0 [(0, .ref 9)] [] (n, K, A, Lg, G) P
  obtain ⟨b103, h⟩ := h
  obtain ⟨b104, h⟩ := h
  refine j_newE cn_X3_223 b103 b104 dX3_law_0 (fun K99 A100 L101 G102 eK99 eA100 eL101 eG102 => ?_)
  replace h := h K99 A100 L101 G102 eK99 eA100 eL101 eG102
  have b105 : n < (n + 1) := (by omega)
  have b106 : K99 n = .inl 10 := (by rw [eK99]; exact pkup_self)
  refine j_dup rfl dX3_law_3 ?_
  obtain ⟨kY107, sY108, kY107h, sY108h, h⟩ := h
  obtain ⟨hn6, h⟩ := h
  refine j_callIN (b := n) (As := []) (st := [.ref n]) (kc' := kc - 1 - kY107) (ks' := ks - 4 - sY108) (host := "DogsHour") (tX11_init  n _ h) myX11_init rfl (by decide) q738 (j_l2 hn6 b105) rfl (Nat.le_of_ble_eq_true rfl) rfl (by decide) (by omega) (by omega) dX3_law_4 (fun v9 u9 hq => ?_) (fun k9 u9 hq => by obtain ⟨_, _, _, _, _, e9, _⟩ := hq; cases e9)
  obtain ⟨n109, K110, A111, Lg112, G113, e9, rfl, h⟩ := hq
  obtain rfl := Sum.inl.inj e9
  show J Γ RX3 cX3_law 2 (some (.object "DogsHour$Law")) "law" [] 141 (kc - 1 - kY107) (ks - 4 - sY108) 7 [(0, .ref 9)] [.ref n] (n109, K110, A111, Lg112, G113) P
  refine j_astore_n (by decide) rfl dX3_law_7 ?_
  refine j_aload_n 1 rfl dX3_law_8 ?_
  refine j_bipush (v := 61) dX3_law_9 (by decide) ?_
  obtain ⟨kY114, sY115, kY114h, sY115h, h⟩ := h
  obtain ⟨hf, h⟩ := h
  refine j_callV (b := 9) (As := [.int 61]) (st := []) (C := RX3) (kc' := kc - 1 - kY107 - kY114) (ks' := ks - 4 - sY108 - sY115) (tX3_sign  61 X _ h) myX3_sign rfl q760 q762 qs14 (by decide) (fun s9 H9 hK9 hR9 h69 => jIs_in hK9 hR9 h69 (f_lt hf (by decide)) (fk_9 hf) rfl) rfl (Nat.le_of_ble_eq_true rfl) rfl (by decide) (by omega) (by omega) dX3_law_11 (fun v9 u9 hq => ?_) (fun k9 u9 hq => by rcases hq with ⟨_, _, _, _, _, e9, _⟩ | ⟨n9, K9, A9, L9, G9, e9, e8, hX⟩; exact nomatch e9; rw [hP]; exact Or.inr ⟨n9, K9, A9, L9, G9, e9, e8, hX⟩)
  rcases hq with hq | ⟨n9, K9, A9, L9, G9, e9, e8, hX⟩
  rotate_left
  · exact nomatch e9
  obtain ⟨n116, K117, A118, Lg119, G120, e9, rfl, h⟩ := hq
  obtain rfl := Sum.inl.inj e9
  show J Γ RX3 cX3_law 2 (some (.object "DogsHour$Law")) "law" [] 141 (kc - 1 - kY107 - kY114) (ks - 4 - sY108 - sY115) 14 [(1, .ref n), (0, .ref 9)] [] (n116, K117, A118, Lg119, G120) P
  refine j_ls [1, 0] rfl ?_
  obtain ⟨m121, h⟩ := h
  exact fX3_law_L14_ok  X Q P hP   m121 n n116 K117 A118 Lg119 G120 (kc - 1 - kY107 - kY114) (ks - 4 - sY108 - sY115) h
theorem myX3_told : jY yX3_told cX3_told 5 none  0 := ⟨q726, q127, by decide +kernel, by decide +kernel, by decide⟩
def fX3_told_J217 (tx : Nat)  (X : Nat → (Nat → pKd) → pA → pL → pG → Prop) (Q : Nat → (Nat → pKd) → pA → pL → pG → Prop) (n : Nat) (K : Nat → pKd) (A : pA) (Lg : pL) (G : pG) (kc : Nat) (ks : Nat) : Prop :=
    (fOK n K G) ∧ ((G 9 2 = .ref tx) ∧ ((xOK n K G tx) ∧ (∀ A1 : pA, A1 = pup A tx 7 ((A tx 7) + 1) → Q n K A1 Lg G)))
theorem fX3_told_J217_ok {Γ : jG} (tx : Nat) (X : Nat → (Nat → pKd) → pA → pL → pG → Prop) (Q : Nat → (Nat → pKd) → pA → pL → pG → Prop) (P : jO → pS → Prop) (hP : P = (fun o u => (∃ (n' : Nat) (K' : Nat → pKd) (A' : pA) (Lg' : pL) (G' : pG), o = .inl none ∧ u = (n', K', A', Lg', G') ∧ Q n' K' A' Lg' G') ∨ (∃ (n' : Nat) (K' : Nat → pKd) (A' : pA) (Lg' : pL) (G' : pG), o = .inr 1 ∧ u = (n', K', A', Lg', G') ∧ X n' K' A' Lg' G')))   (n : Nat) (K : Nat → pKd) (A : pA) (Lg : pL) (G : pG) (kc : Nat) (ks : Nat) (h : fX3_told_J217 tx  X Q n K A Lg G kc ks) : J Γ RX3 cX3_told 5 none "told" [] 142 kc ks 217 [(0, .ref 9)] [] (n, K, A, Lg, G) P := by
  unfold fX3_told_J217 at h
  refine j_aload_n 0 rfl dX3_told_217 ?_
  obtain ⟨hf, h⟩ := h
  obtain ⟨ht, h⟩ := h
  refine j_getfr fl_X3_83_3 rfl (f_lt hf (by decide)) (fk_9 hf) ht dX3_told_218 ?_
  refine j_dup rfl dX3_told_221 ?_
  obtain ⟨hx, h⟩ := h
  refine j_getfi fl_X3_145_4 rfl (x_lt hx (j := 0) (by decide)) (xk_0 hx) dX3_told_222 ?_
  refine j_iconst (v := 1) dX3_told_225 (by decide) ?_
  refine j_iadd dX3_told_226 ?_
  refine j_putfiE (fp_X3_145_4 _) rfl rfl rfl (x_lt hx (j := 0) (by decide)) (xk_0 hx) dX3_told_227 (fun A1 eA1 => ?_)
  replace h := h A1 eA1
  refine j_goto (tgt := 466) dX3_told_230 (by decide) ?_
  refine j_vret rfl ?_ dX3_told_466
  rw [hP]
  exact Or.inl ⟨n, K, A1, Lg, G, rfl, rfl, h⟩
def fX3_told_J56 (tx : Nat)  (X : Nat → (Nat → pKd) → pA → pL → pG → Prop) (Q : Nat → (Nat → pKd) → pA → pL → pG → Prop) (l1 : Int32) (n : Nat) (K : Nat → pKd) (A : pA) (Lg : pL) (G : pG) (kc : Nat) (ks : Nat) : Prop :=
    (if l1 = 0 then (fOK n K G) ∧ ((G 9 2 = .ref tx) ∧ ((xOK n K G tx) ∧ ((n ≤ 1000000) ∧ (fJ5_size (tx + 1) A (fun r10 => ∃ kY11 sY12 : Nat, kY11 ≤ kc ∧ sY12 ≤ ks ∧ (fX3_begins n K A Lg G kY11 sY12 r10 7 X (fun n13 K14 A15 Lg16 G17 => (fOK n13 K14 G17) ∧ ((G17 9 2 = .ref tx) ∧ ((xOK n13 K14 G17 tx) ∧ ((1 ≤ kc - kY11) ∧ ((2 ≤ ks - sY12) ∧ (∀ (K18 : Nat → pKd) (A19 : pA) (L20 : pL) (G21 : pG), K18 = pkup K14 n13 (.inl 14) → A19 = prow A15 n13 (fun _ => 0) → L20 = prow Lg16 n13 (fun _ => 0) → G21 = prow G17 n13 (fun _ => .null) → ∃ kY26 sY27 : Nat, kY26 ≤ kc - kY11 - 1 ∧ sY27 ≤ ks - sY12 - 2 ∧ ((fOK (n13 + 1) K18 G21) ∧ (fX3_name tx (n13 + 1) K18 A19 L20 G21 kY26 sY27 X (fun r28 n29 K30 A31 Lg32 G33 => ∃ kY34 sY35 : Nat, kY34 ≤ kc - kY11 - 1 - kY26 ∧ sY35 ≤ ks - sY12 - 2 - sY27 ∧ ((n29 ≤ 1000000) ∧ ((n13 < n29) ∧ ((K30 n13 = .inl 14) ∧ (fX17_init n13 r28 n29 K30 A31 Lg32 G33 kY34 sY35 (fun n36 K37 A38 Lg39 G40 => ∃ kY41 sY42 : Nat, kY41 ≤ kc - kY11 - 1 - kY26 - kY34 ∧ sY42 ≤ ks - sY12 - 2 - sY27 - sY35 ∧ ((n36 ≤ 1000000) ∧ ((xOK n36 K37 G40 tx) ∧ (fJ5_addC_X17 (tx + 1) n13 n36 K37 A38 Lg39 G40 kY41 sY42 (fun r43 n44 K45 A46 Lg47 G48 => Q n44 K45 A46 Lg47 G48)))))))))))))))))))))))) else (if l1 = 1 then (fOK n K G) ∧ ((G 9 2 = .ref tx) ∧ ((xOK n K G tx) ∧ (∃ kY50 sY51 : Nat, kY50 ≤ kc ∧ sY51 ≤ ks ∧ (fX3_begins n K A Lg G kY50 sY51 (A tx 7) 12 X (fun n52 K53 A54 Lg55 G56 => (fOK n52 K53 G56) ∧ ((G56 9 2 = .ref tx) ∧ ((xOK n52 K53 G56 tx) ∧ (∃ kY57 sY58 : Nat, kY57 ≤ kc - kY50 ∧ sY58 ≤ ks - sY51 ∧ (fX3_known (tx + 1) n52 K53 A54 Lg55 G56 kY57 sY58 X (fun r59 n60 K61 A62 Lg63 G64 => (fOK n60 K61 G64) ∧ ((G64 9 2 = .ref tx) ∧ ((xOK n60 K61 G64 tx) ∧ (∃ kY65 sY66 : Nat, kY65 ≤ kc - kY50 - kY57 ∧ sY66 ≤ ks - sY51 - sY58 ∧ (fX3_known (tx + 1) n60 K61 A62 Lg63 G64 kY65 sY66 X (fun r67 n68 K69 A70 Lg71 G72 => (if r59 < 0 then fX3_told_J217 tx  X Q n68 K69 A70 Lg71 G72 (kc - kY50 - kY57 - kY65) (ks - sY51 - sY58 - sY66) else (if r67 < 0 then fX3_told_J217 tx  X Q n68 K69 A70 Lg71 G72 (kc - kY50 - kY57 - kY65) (ks - sY51 - sY58 - sY66) else ∃ kY73 sY74 : Nat, kY73 ≤ kc - kY50 - kY57 - kY65 ∧ sY74 ≤ ks - sY51 - sY58 - sY66 ∧ ((fOK n68 K69 G72) ∧ (fX3_joins tx n68 K69 A70 Lg71 G72 kY73 sY74 r59 r67 (A62 9 3) (fun n75 K76 A77 Lg78 G79 => fX3_told_J217 tx  X Q n75 K76 A77 Lg78 G79 (kc - kY50 - kY57 - kY65 - kY73) (ks - sY51 - sY58 - sY66 - sY74))))))))))))))))))))) else (if l1 = 2 then (fOK n K G) ∧ ((G 9 2 = .ref tx) ∧ ((xOK n K G tx) ∧ ((n ≤ 1000000) ∧ (fJ5_size (tx + 2) A (fun r81 => ∃ kY82 sY83 : Nat, kY82 ≤ kc ∧ sY83 ≤ ks ∧ (fX3_begins n K A Lg G kY82 sY83 r81 5 X (fun n84 K85 A86 Lg87 G88 => (1 ≤ kc - kY82) ∧ ((4 ≤ ks - sY83) ∧ (∀ (K89 : Nat → pKd) (A90 : pA) (L91 : pL) (G92 : pG), K89 = pkup K85 n84 (.inl 15) → A90 = prow A86 n84 (fun _ => 0) → L91 = prow Lg87 n84 (fun _ => 0) → G92 = prow G88 n84 (fun _ => .null) → ∃ kY97 sY98 : Nat, kY97 ≤ kc - kY82 - 1 ∧ sY98 ≤ ks - sY83 - 4 ∧ ((fOK (n84 + 1) K89 G92) ∧ (fX3_name tx (n84 + 1) K89 A90 L91 G92 kY97 sY98 X (fun r99 n100 K101 A102 Lg103 G104 => ∃ kY105 sY106 : Nat, kY105 ≤ kc - kY82 - 1 - kY97 ∧ sY106 ≤ ks - sY83 - 4 - sY98 ∧ ((n100 ≤ 1000000) ∧ ((n84 < n100) ∧ ((K101 n84 = .inl 15) ∧ (fX18_init n84 r99 n100 K101 A102 Lg103 G104 kY105 sY106 (fun n107 K108 A109 Lg110 G111 => (fOK n107 K108 G111) ∧ ((G111 9 2 = .ref tx) ∧ ((xOK n107 K108 G111 tx) ∧ (∃ kY112 sY113 : Nat, kY112 ≤ kc - kY82 - 1 - kY97 - kY105 ∧ sY113 ≤ ks - sY83 - 4 - sY98 - sY106 ∧ (fX3_known (tx + 1) n107 K108 A109 Lg110 G111 kY112 sY113 X (fun r114 n115 K116 A117 Lg118 G119 => (n84 < n115) ∧ ((K116 n84 = .inl 15) ∧ (∀ A120 : pA, A120 = pup A117 n84 1 r114 → ∃ kY121 sY122 : Nat, kY121 ≤ kc - kY82 - 1 - kY97 - kY105 - kY112 ∧ sY122 ≤ ks - sY83 - 4 - sY98 - sY106 - sY113 ∧ ((fOK n115 K116 G119) ∧ (fX3_number n115 K116 A120 Lg118 G119 kY121 sY122 0 9 X (fun r123 n124 K125 A126 Lg127 G128 => (n84 < n124) ∧ ((K125 n84 = .inl 15) ∧ (∀ A129 : pA, A129 = pup A126 n84 2 r123 → ∃ kY130 sY131 : Nat, kY130 ≤ kc - kY82 - 1 - kY97 - kY105 - kY112 - kY121 ∧ sY131 ≤ ks - sY83 - 4 - sY98 - sY106 - sY113 - sY122 ∧ ((fOK n124 K125 G128) ∧ (fX3_number n124 K125 A129 Lg127 G128 kY130 sY131 0 9 X (fun r132 n133 K134 A135 Lg136 G137 => (n84 < n133) ∧ ((K134 n84 = .inl 15) ∧ (∀ A138 : pA, A138 = pup A135 n84 3 r132 → (fOK n133 K134 G137) ∧ ((G137 9 2 = .ref tx) ∧ ((xOK n133 K134 G137 tx) ∧ (∃ kY139 sY140 : Nat, kY139 ≤ kc - kY82 - 1 - kY97 - kY105 - kY112 - kY121 - kY130 ∧ sY140 ≤ ks - sY83 - 4 - sY98 - sY106 - sY113 - sY122 - sY131 ∧ ((n133 ≤ 1000000) ∧ (fJ5_addC_X18 (tx + 2) n84 n133 K134 A138 Lg136 G137 kY139 sY140 (fun r141 n142 K143 A144 Lg145 G146 => Q n142 K143 A144 Lg145 G146)))))))))))))))))))))))))))))))))))))))) else (if l1 = 3 then (fOK n K G) ∧ ((G 9 2 = .ref tx) ∧ ((xOK n K G tx) ∧ ((n ≤ 1000000) ∧ (fJ5_size (tx + 3) A (fun r148 => ∃ kY149 sY150 : Nat, kY149 ≤ kc ∧ sY150 ≤ ks ∧ (fX3_begins n K A Lg G kY149 sY150 r148 4 X (fun n151 K152 A153 Lg154 G155 => (1 ≤ kc - kY149) ∧ ((4 ≤ ks - sY150) ∧ (∀ (K156 : Nat → pKd) (A157 : pA) (L158 : pL) (G159 : pG), K156 = pkup K152 n151 (.inl 16) → A157 = prow A153 n151 (fun _ => 0) → L158 = prow Lg154 n151 (fun _ => 0) → G159 = prow G155 n151 (fun _ => .null) → ∃ kY164 sY165 : Nat, kY164 ≤ kc - kY149 - 1 ∧ sY165 ≤ ks - sY150 - 4 ∧ ((fOK (n151 + 1) K156 G159) ∧ (fX3_name tx (n151 + 1) K156 A157 L158 G159 kY164 sY165 X (fun r166 n167 K168 A169 Lg170 G171 => ∃ kY172 sY173 : Nat, kY172 ≤ kc - kY149 - 1 - kY164 ∧ sY173 ≤ ks - sY150 - 4 - sY165 ∧ ((n167 ≤ 1000000) ∧ ((n151 < n167) ∧ ((K168 n151 = .inl 16) ∧ (fX19_init n151 r166 n167 K168 A169 Lg170 G171 kY172 sY173 (fun n174 K175 A176 Lg177 G178 => (fOK n174 K175 G178) ∧ ((G178 9 2 = .ref tx) ∧ ((xOK n174 K175 G178 tx) ∧ (∃ kY179 sY180 : Nat, kY179 ≤ kc - kY149 - 1 - kY164 - kY172 ∧ sY180 ≤ ks - sY150 - 4 - sY165 - sY173 ∧ (fX3_known (tx + 1) n174 K175 A176 Lg177 G178 kY179 sY180 X (fun r181 n182 K183 A184 Lg185 G186 => (n151 < n182) ∧ ((K183 n151 = .inl 16) ∧ (∀ A187 : pA, A187 = pup A184 n151 1 r181 → ∃ kY188 sY189 : Nat, kY188 ≤ kc - kY149 - 1 - kY164 - kY172 - kY179 ∧ sY189 ≤ ks - sY150 - 4 - sY165 - sY173 - sY180 ∧ ((fOK n182 K183 G186) ∧ (fX3_number n182 K183 A187 Lg185 G186 kY188 sY189 0 99 X (fun r190 n191 K192 A193 Lg194 G195 => (n151 < n191) ∧ ((K192 n151 = .inl 16) ∧ (∀ A196 : pA, A196 = pup A193 n151 2 r190 → (fOK n191 K192 G195) ∧ ((G195 9 2 = .ref tx) ∧ ((xOK n191 K192 G195 tx) ∧ (∃ kY197 sY198 : Nat, kY197 ≤ kc - kY149 - 1 - kY164 - kY172 - kY179 - kY188 ∧ sY198 ≤ ks - sY150 - 4 - sY165 - sY173 - sY180 - sY189 ∧ ((n191 ≤ 1000000) ∧ (fJ5_addC_X19 (tx + 3) n151 n191 K192 A196 Lg194 G195 kY197 sY198 (fun r199 n200 K201 A202 Lg203 G204 => Q n200 K201 A202 Lg203 G204))))))))))))))))))))))))))))))))))) else (if l1 = 4 then ∃ kY206 sY207 : Nat, kY206 ≤ kc ∧ sY207 ≤ ks ∧ ((fOK n K G) ∧ (fX3_errandTold tx n K A Lg G kY206 sY207 X (fun n208 K209 A210 Lg211 G212 => Q n208 K209 A210 Lg211 G212))) else (if l1 = 5 then ∃ kY214 sY215 : Nat, kY214 ≤ kc ∧ sY215 ≤ ks ∧ ((fOK n K G) ∧ (fX3_wrong n K A Lg G kY214 sY215 1 (fun n216 K217 A218 Lg219 G220 => (fOK n216 K217 G220) ∧ (X n216 K217 A218 Lg219 G220)))) else (if l1 = 6 then ∃ kY222 sY223 : Nat, kY222 ≤ kc ∧ sY223 ≤ ks ∧ ((fOK n K G) ∧ (fX3_wrong n K A Lg G kY222 sY223 1 (fun n224 K225 A226 Lg227 G228 => (fOK n224 K225 G228) ∧ (X n224 K225 A226 Lg227 G228)))) else (if l1 = 7 then ∃ kY230 sY231 : Nat, kY230 ≤ kc ∧ sY231 ≤ ks ∧ ((fOK n K G) ∧ (fX3_wrong n K A Lg G kY230 sY231 1 (fun n232 K233 A234 Lg235 G236 => (fOK n232 K233 G236) ∧ (X n232 K233 A234 Lg235 G236)))) else (if l1 = 8 then ∃ kY238 sY239 : Nat, kY238 ≤ kc ∧ sY239 ≤ ks ∧ ((fOK n K G) ∧ (fX3_wrong n K A Lg G kY238 sY239 1 (fun n240 K241 A242 Lg243 G244 => (fOK n240 K241 G244) ∧ (X n240 K241 A242 Lg243 G244)))) else (if l1 = 9 then ∃ kY246 sY247 : Nat, kY246 ≤ kc ∧ sY247 ≤ ks ∧ ((fOK n K G) ∧ (fX3_pass n K A Lg G kY246 sY247 X (fun n248 K249 A250 Lg251 G252 => (fOK n248 K249 G252) ∧ ((G252 9 2 = .ref tx) ∧ (∃ kY253 sY254 : Nat, kY253 ≤ kc - kY246 ∧ sY254 ≤ ks - sY247 ∧ (fX3_number n248 K249 A250 Lg251 G252 kY253 sY254 0 1439 X (fun r255 n256 K257 A258 Lg259 G260 => (xOK n256 K257 G260 tx) ∧ (∀ A261 : pA, A261 = pup A258 tx 9 r255 → (fOK n256 K257 G260) ∧ ((G260 9 2 = .ref tx) ∧ (∃ kY262 sY263 : Nat, kY262 ≤ kc - kY246 - kY253 ∧ sY263 ≤ ks - sY247 - sY254 ∧ (fX3_number n256 K257 A261 Lg259 G260 kY262 sY263 (pmin 1440 ((A261 tx 9) + 1)) 1440 X (fun r264 n265 K266 A267 Lg268 G269 => (xOK n265 K266 G269 tx) ∧ (∀ A270 : pA, A270 = pup A267 tx 10 r264 → Q n265 K266 A270 Lg268 G269))))))))))))) else (if l1 = 10 then ∃ kY272 sY273 : Nat, kY272 ≤ kc ∧ sY273 ≤ ks ∧ ((fOK n K G) ∧ (fX3_pass n K A Lg G kY272 sY273 X (fun n274 K275 A276 Lg277 G278 => (fOK n274 K275 G278) ∧ ((G278 9 2 = .ref tx) ∧ (∃ kY279 sY280 : Nat, kY279 ≤ kc - kY272 ∧ sY280 ≤ ks - sY273 ∧ (fX3_number n274 K275 A276 Lg277 G278 kY279 sY280 0 1439 X (fun r281 n282 K283 A284 Lg285 G286 => (xOK n282 K283 G286 tx) ∧ (∀ A287 : pA, A287 = pup A284 tx 11 r281 → Q n282 K283 A287 Lg285 G286)))))))) else (∃ kY2 sY3 : Nat, kY2 ≤ kc ∧ sY3 ≤ ks ∧ ((fOK n K G) ∧ (fX3_wrong n K A Lg G kY2 sY3 1 (fun n4 K5 A6 Lg7 G8 => (fOK n4 K5 G8) ∧ (X n4 K5 A6 Lg7 G8))))))))))))))))
theorem fX3_told_J56_ok {Γ : jG} (tx : Nat) (X : Nat → (Nat → pKd) → pA → pL → pG → Prop) (Q : Nat → (Nat → pKd) → pA → pL → pG → Prop) (P : jO → pS → Prop) (hP : P = (fun o u => (∃ (n' : Nat) (K' : Nat → pKd) (A' : pA) (Lg' : pL) (G' : pG), o = .inl none ∧ u = (n', K', A', Lg', G') ∧ Q n' K' A' Lg' G') ∨ (∃ (n' : Nat) (K' : Nat → pKd) (A' : pA) (Lg' : pL) (G' : pG), o = .inr 1 ∧ u = (n', K', A', Lg', G') ∧ X n' K' A' Lg' G')))   (l1 : Int32) (n : Nat) (K : Nat → pKd) (A : pA) (Lg : pL) (G : pG) (kc : Nat) (ks : Nat) (h : fX3_told_J56 tx  X Q l1 n K A Lg G kc ks) : J Γ RX3 cX3_told 5 none "told" [] 142 kc ks 56 [(0, .ref 9), (1, .int l1)] [] (n, K, A, Lg, G) P := by
  unfold fX3_told_J56 at h
  refine j_iload_n 1 rfl dX3_told_56 ?_
  by_cases c9 : l1 = 0
  · rw [if_pos c9] at h
    have c9T : (l1 : Int32).toInt = 0 := by rw [c9]; rfl
    refine j_tableIn (off := 59) (tgt := 116) (by rw [c9T]; decide) (by rw [c9T]; decide) (by rw [c9T]; rfl) dX3_told_57 (by decide) ?_
    refine j_aload_n 0 rfl dX3_told_116 ?_
    refine j_aload_n 0 rfl dX3_told_117 ?_
    obtain ⟨hf, h⟩ := h
    obtain ⟨ht, h⟩ := h
    refine j_getfr fl_X3_83_3 rfl (f_lt hf (by decide)) (fk_9 hf) ht dX3_told_118 ?_
    obtain ⟨hx, h⟩ := h
    refine j_getfr fl_X3_120_4 rfl (x_lt hx (j := 0) (by decide)) (xk_0 hx) (xg_0_0 hx) dX3_told_121 ?_
    obtain ⟨hn6, h⟩ := h
    refine j_callV (b := (tx + 1)) (As := []) (st := [.ref 9]) (C := RJ5) (kc' := kc) (ks' := ks) (tJ5_size hf (tx + 1) (x_lt hx (j := 1) (by decide)) (xk_1 hx) _ h) myJ5_size rfl q835 q536 q537 (j_l2 hn6 (x_lt hx (j := 1) (by decide))) (fun s9 H9 hK9 hR9 h69 => jIs_in hK9 hR9 h69 (x_lt hx (j := 1) (by decide)) (xk_1 hx) rfl) rfl (Nat.le_of_ble_eq_true rfl) rfl (by decide) (Nat.le_refl _) (Nat.le_refl _) dX3_told_124 (fun v9 u9 hq => ?_) (fun k9 u9 hq => by obtain ⟨_, e9, _⟩ := hq; cases e9)
    obtain ⟨r10, e9, rfl, h⟩ := hq
    obtain rfl := Sum.inl.inj e9
    show J Γ RX3 cX3_told 5 none "told" [] 142 kc ks 127 [(0, .ref 9), (1, .int l1)] [.int r10, .ref 9] (n, K, A, Lg, G) P
    refine j_bipush (v := 7) dX3_told_127 (by decide) ?_
    obtain ⟨kY11, sY12, kY11h, sY12h, h⟩ := h
    refine j_callV (b := 9) (As := [.int r10, .int 7]) (st := []) (C := RX3) (kc' := kc - kY11) (ks' := ks - sY12) (tX3_begins  r10 7 X _ h) myX3_begins rfl q772 q774 qs17 (by decide) (fun s9 H9 hK9 hR9 h69 => jIs_in hK9 hR9 h69 (f_lt hf (by decide)) (fk_9 hf) rfl) rfl (Nat.le_of_ble_eq_true rfl) rfl (by decide) (by omega) (by omega) dX3_told_129 (fun v9 u9 hq => ?_) (fun k9 u9 hq => by rcases hq with ⟨_, _, _, _, _, e9, _⟩ | ⟨n9, K9, A9, L9, G9, e9, e8, hX⟩; exact nomatch e9; rw [hP]; exact Or.inr ⟨n9, K9, A9, L9, G9, e9, e8, hX⟩)
    rcases hq with hq | ⟨n9, K9, A9, L9, G9, e9, e8, hX⟩
    rotate_left
    · exact nomatch e9
    obtain ⟨n13, K14, A15, Lg16, G17, e9, rfl, h⟩ := hq
    obtain rfl := Sum.inl.inj e9
    show J Γ RX3 cX3_told 5 none "told" [] 142 (kc - kY11) (ks - sY12) 132 [(0, .ref 9), (1, .int l1)] [] (n13, K14, A15, Lg16, G17) P
    refine j_aload_n 0 rfl dX3_told_132 ?_
    obtain ⟨hf, h⟩ := h
    obtain ⟨ht, h⟩ := h
    refine j_getfr fl_X3_83_3 rfl (f_lt hf (by decide)) (fk_9 hf) ht dX3_told_133 ?_
    obtain ⟨hx, h⟩ := h
    refine j_getfr fl_X3_120_4 rfl (x_lt hx (j := 0) (by decide)) (xk_0 hx) (xg_0_0 hx) dX3_told_136 ?_
    obtain ⟨b22, h⟩ := h
    obtain ⟨b23, h⟩ := h
    refine j_newE cn_X3_132 b22 b23 dX3_told_139 (fun K18 A19 L20 G21 eK18 eA19 eL20 eG21 => ?_)
    replace h := h K18 A19 L20 G21 eK18 eA19 eL20 eG21
    have b24 : n13 < (n13 + 1) := (by omega)
    have b25 : K18 n13 = .inl 14 := (by rw [eK18]; exact pkup_self)
    refine j_dup rfl dX3_told_142 ?_
    refine j_aload_n 0 rfl dX3_told_143 ?_
    obtain ⟨kY26, sY27, kY26h, sY27h, h⟩ := h
    obtain ⟨hf, h⟩ := h
    refine j_callV (b := 9) (As := []) (st := [.ref n13, .ref n13, .ref (tx + 1)]) (C := RX3) (kc' := kc - kY11 - 1 - kY26) (ks' := ks - sY12 - 2 - sY27) (tX3_name  tx X _ h) myX3_name rfl q838 q840 qs22 (by decide) (fun s9 H9 hK9 hR9 h69 => jIs_in hK9 hR9 h69 (f_lt hf (by decide)) (fk_9 hf) rfl) rfl (Nat.le_of_ble_eq_true rfl) rfl (by decide) (by omega) (by omega) dX3_told_144 (fun v9 u9 hq => ?_) (fun k9 u9 hq => by rcases hq with ⟨_, _, _, _, _, _, e9, _⟩ | ⟨n9, K9, A9, L9, G9, e9, e8, hX⟩; exact nomatch e9; rw [hP]; exact Or.inr ⟨n9, K9, A9, L9, G9, e9, e8, hX⟩)
    rcases hq with hq | ⟨n9, K9, A9, L9, G9, e9, e8, hX⟩
    rotate_left
    · exact nomatch e9
    obtain ⟨r28, n29, K30, A31, Lg32, G33, e9, rfl, h⟩ := hq
    obtain rfl := Sum.inl.inj e9
    show J Γ RX3 cX3_told 5 none "told" [] 142 (kc - kY11 - 1 - kY26) (ks - sY12 - 2 - sY27) 147 [(0, .ref 9), (1, .int l1)] [.ref r28, .ref n13, .ref n13, .ref (tx + 1)] (n29, K30, A31, Lg32, G33) P
    obtain ⟨kY34, sY35, kY34h, sY35h, h⟩ := h
    obtain ⟨hn6, h⟩ := h
    obtain ⟨b24, h⟩ := h
    obtain ⟨b25, h⟩ := h
    refine j_callI (b := n13) (As := [.ref r28]) (st := [.ref n13, .ref (tx + 1)]) (kc' := kc - kY11 - 1 - kY26 - kY34) (ks' := ks - sY12 - 2 - sY27 - sY35) (tX17_init  n13 r28 _ h) myX17_init rfl q1034 q1035 (j_l2 hn6 b24) rfl (Nat.le_of_ble_eq_true rfl) rfl (by decide) (by omega) (by omega) dX3_told_147 (fun v9 u9 hq => ?_) (fun k9 u9 hq => by obtain ⟨_, _, _, _, _, e9, _⟩ := hq; cases e9)
    obtain ⟨n36, K37, A38, Lg39, G40, e9, rfl, h⟩ := hq
    obtain rfl := Sum.inl.inj e9
    show J Γ RX3 cX3_told 5 none "told" [] 142 (kc - kY11 - 1 - kY26 - kY34) (ks - sY12 - 2 - sY27 - sY35) 150 [(0, .ref 9), (1, .int l1)] [.ref n13, .ref (tx + 1)] (n36, K37, A38, Lg39, G40) P
    obtain ⟨kY41, sY42, kY41h, sY42h, h⟩ := h
    obtain ⟨hn6, h⟩ := h
    obtain ⟨hx, h⟩ := h
    refine j_callV (b := (tx + 1)) (As := [.ref n13]) (st := []) (C := RJ5) (kc' := kc - kY11 - 1 - kY26 - kY34 - kY41) (ks' := ks - sY12 - 2 - sY27 - sY35 - sY42) (tJ5_addC_X17  (tx + 1) n13 _ h) myJ5_add rfl q1051 q1052 q1053 (j_l2 hn6 (x_lt hx (j := 1) (by decide))) (fun s9 H9 hK9 hR9 h69 => jIs_in hK9 hR9 h69 (x_lt hx (j := 1) (by decide)) (xk_1 hx) rfl) rfl (Nat.le_of_ble_eq_true rfl) rfl (by decide) (by omega) (by omega) dX3_told_150 (fun v9 u9 hq => ?_) (fun k9 u9 hq => by obtain ⟨_, _, _, _, _, _, e9, _⟩ := hq; cases e9)
    obtain ⟨r43, n44, K45, A46, Lg47, G48, e9, rfl, h⟩ := hq
    obtain rfl := Sum.inl.inj e9
    show J Γ RX3 cX3_told 5 none "told" [] 142 (kc - kY11 - 1 - kY26 - kY34 - kY41) (ks - sY12 - 2 - sY27 - sY35 - sY42) 153 [(0, .ref 9), (1, .int l1)] [.int r43] (n44, K45, A46, Lg47, G48) P
    refine j_pop rfl dX3_told_153 ?_
    refine j_goto (tgt := 466) dX3_told_154 (by decide) ?_
    refine j_vret rfl ?_ dX3_told_466
    rw [hP]
    exact Or.inl ⟨n44, K45, A46, Lg47, G48, rfl, rfl, h⟩
  rw [if_neg c9] at h
  by_cases c49 : l1 = 1
  · rw [if_pos c49] at h
    have c49T : (l1 : Int32).toInt = 1 := by rw [c49]; rfl
    refine j_tableIn (off := 100) (tgt := 157) (by rw [c49T]; decide) (by rw [c49T]; decide) (by rw [c49T]; rfl) dX3_told_57 (by decide) ?_
    refine j_aload_n 0 rfl dX3_told_157 ?_
    refine j_aload_n 0 rfl dX3_told_158 ?_
    obtain ⟨hf, h⟩ := h
    obtain ⟨ht, h⟩ := h
    refine j_getfr fl_X3_83_3 rfl (f_lt hf (by decide)) (fk_9 hf) ht dX3_told_159 ?_
    obtain ⟨hx, h⟩ := h
    refine j_getfi fl_X3_145_4 rfl (x_lt hx (j := 0) (by decide)) (xk_0 hx) dX3_told_162 ?_
    refine j_bipush (v := 12) dX3_told_165 (by decide) ?_
    obtain ⟨kY50, sY51, kY50h, sY51h, h⟩ := h
    refine j_callV (b := 9) (As := [.int (A tx 7), .int 12]) (st := []) (C := RX3) (kc' := kc - kY50) (ks' := ks - sY51) (tX3_begins  (A tx 7) 12 X _ h) myX3_begins rfl q772 q774 qs17 (by decide) (fun s9 H9 hK9 hR9 h69 => jIs_in hK9 hR9 h69 (f_lt hf (by decide)) (fk_9 hf) rfl) rfl (Nat.le_of_ble_eq_true rfl) rfl (by decide) (by omega) (by omega) dX3_told_167 (fun v9 u9 hq => ?_) (fun k9 u9 hq => by rcases hq with ⟨_, _, _, _, _, e9, _⟩ | ⟨n9, K9, A9, L9, G9, e9, e8, hX⟩; exact nomatch e9; rw [hP]; exact Or.inr ⟨n9, K9, A9, L9, G9, e9, e8, hX⟩)
    rcases hq with hq | ⟨n9, K9, A9, L9, G9, e9, e8, hX⟩
    rotate_left
    · exact nomatch e9
    obtain ⟨n52, K53, A54, Lg55, G56, e9, rfl, h⟩ := hq
    obtain rfl := Sum.inl.inj e9
    show J Γ RX3 cX3_told 5 none "told" [] 142 (kc - kY50) (ks - sY51) 170 [(0, .ref 9), (1, .int l1)] [] (n52, K53, A54, Lg55, G56) P
    refine j_aload_n 0 rfl dX3_told_170 ?_
    refine j_aload_n 0 rfl dX3_told_171 ?_
    obtain ⟨hf, h⟩ := h
    obtain ⟨ht, h⟩ := h
    refine j_getfr fl_X3_83_3 rfl (f_lt hf (by decide)) (fk_9 hf) ht dX3_told_172 ?_
    obtain ⟨hx, h⟩ := h
    refine j_getfr fl_X3_120_4 rfl (x_lt hx (j := 0) (by decide)) (xk_0 hx) (xg_0_0 hx) dX3_told_175 ?_
    obtain ⟨kY57, sY58, kY57h, sY58h, h⟩ := h
    refine j_callV (b := 9) (As := [.ref (tx + 1)]) (st := []) (C := RX3) (kc' := kc - kY50 - kY57) (ks' := ks - sY51 - sY58) (tX3_known  (tx + 1) X _ h) myX3_known rfl q1103 q1105 qs28 (by decide) (fun s9 H9 hK9 hR9 h69 => jIs_in hK9 hR9 h69 (f_lt hf (by decide)) (fk_9 hf) rfl) rfl (Nat.le_of_ble_eq_true rfl) rfl (by decide) (by omega) (by omega) dX3_told_178 (fun v9 u9 hq => ?_) (fun k9 u9 hq => by rcases hq with ⟨_, _, _, _, _, _, e9, _⟩ | ⟨n9, K9, A9, L9, G9, e9, e8, hX⟩; exact nomatch e9; rw [hP]; exact Or.inr ⟨n9, K9, A9, L9, G9, e9, e8, hX⟩)
    rcases hq with hq | ⟨n9, K9, A9, L9, G9, e9, e8, hX⟩
    rotate_left
    · exact nomatch e9
    obtain ⟨r59, n60, K61, A62, Lg63, G64, e9, rfl, h⟩ := hq
    obtain rfl := Sum.inl.inj e9
    show J Γ RX3 cX3_told 5 none "told" [] 142 (kc - kY50 - kY57) (ks - sY51 - sY58) 181 [(0, .ref 9), (1, .int l1)] [.int r59] (n60, K61, A62, Lg63, G64) P
    refine j_istore_n (by decide) rfl dX3_told_181 ?_
    refine j_aload_n 1 rfl dX3_told_182 ?_
    obtain ⟨hf, h⟩ := h
    refine j_getfi fl_X3_31_3 rfl (f_lt hf (by decide)) (fk_9 hf) dX3_told_183 ?_
    refine j_istore_n (by decide) rfl dX3_told_186 ?_
    refine j_aload_n 2 rfl dX3_told_187 ?_
    refine j_aload_n 2 rfl dX3_told_188 ?_
    obtain ⟨ht, h⟩ := h
    refine j_getfr fl_X3_83_3 rfl (f_lt hf (by decide)) (fk_9 hf) ht dX3_told_189 ?_
    obtain ⟨hx, h⟩ := h
    refine j_getfr fl_X3_120_4 rfl (x_lt hx (j := 0) (by decide)) (xk_0 hx) (xg_0_0 hx) dX3_told_192 ?_
    obtain ⟨kY65, sY66, kY65h, sY66h, h⟩ := h
    refine j_callV (b := 9) (As := [.ref (tx + 1)]) (st := []) (C := RX3) (kc' := kc - kY50 - kY57 - kY65) (ks' := ks - sY51 - sY58 - sY66) (tX3_known  (tx + 1) X _ h) myX3_known rfl q1103 q1105 qs28 (by decide) (fun s9 H9 hK9 hR9 h69 => jIs_in hK9 hR9 h69 (f_lt hf (by decide)) (fk_9 hf) rfl) rfl (Nat.le_of_ble_eq_true rfl) rfl (by decide) (by omega) (by omega) dX3_told_195 (fun v9 u9 hq => ?_) (fun k9 u9 hq => by rcases hq with ⟨_, _, _, _, _, _, e9, _⟩ | ⟨n9, K9, A9, L9, G9, e9, e8, hX⟩; exact nomatch e9; rw [hP]; exact Or.inr ⟨n9, K9, A9, L9, G9, e9, e8, hX⟩)
    rcases hq with hq | ⟨n9, K9, A9, L9, G9, e9, e8, hX⟩
    rotate_left
    · exact nomatch e9
    obtain ⟨r67, n68, K69, A70, Lg71, G72, e9, rfl, h⟩ := hq
    obtain rfl := Sum.inl.inj e9
    show J Γ RX3 cX3_told 5 none "told" [] 142 (kc - kY50 - kY57 - kY65) (ks - sY51 - sY58 - sY66) 198 [(3, .int (A62 9 3)), (2, .int r59), (0, .ref 9), (1, .int l1)] [.int r67] (n68, K69, A70, Lg71, G72) P
    refine j_istore (by decide) rfl dX3_told_198 ?_
    refine j_iload_n 2 rfl dX3_told_200 ?_
    refine j_if_lt (tgt := 217) dX3_told_201 (by decide) (fun c => ?_) (fun c => ?_)
    · rw [if_pos c] at h
      refine j_ls [3] rfl ?_
      exact fX3_told_J217_ok  tx X Q P hP   n68 K69 A70 Lg71 G72 (kc - kY50 - kY57 - kY65) (ks - sY51 - sY58 - sY66) h
    · rw [if_neg c] at h
      refine j_iload 0 rfl dX3_told_204 ?_
      refine j_if_lt (tgt := 217) dX3_told_206 (by decide) (fun c => ?_) (fun c => ?_)
      · rw [if_pos c] at h
        refine j_ls [3] rfl ?_
        exact fX3_told_J217_ok  tx X Q P hP   n68 K69 A70 Lg71 G72 (kc - kY50 - kY57 - kY65) (ks - sY51 - sY58 - sY66) h
      · rw [if_neg c] at h
        refine j_aload_n 3 rfl dX3_told_209 ?_
        refine j_iload_n 2 rfl dX3_told_210 ?_
        refine j_iload 0 rfl dX3_told_211 ?_
        refine j_iload_n 1 rfl dX3_told_213 ?_
        obtain ⟨kY73, sY74, kY73h, sY74h, h⟩ := h
        obtain ⟨hf, h⟩ := h
        refine j_callV (b := 9) (As := [.int r59, .int r67, .int (A62 9 3)]) (st := []) (C := RX3) (kc' := kc - kY50 - kY57 - kY65 - kY73) (ks' := ks - sY51 - sY58 - sY66 - sY74) (tX3_joins  tx r59 r67 (A62 9 3) _ h) myX3_joins rfl q1108 q1110 qs29 (by decide) (fun s9 H9 hK9 hR9 h69 => jIs_in hK9 hR9 h69 (f_lt hf (by decide)) (fk_9 hf) rfl) rfl (Nat.le_of_ble_eq_true rfl) rfl (by decide) (by omega) (by omega) dX3_told_214 (fun v9 u9 hq => ?_) (fun k9 u9 hq => by obtain ⟨_, _, _, _, _, e9, _⟩ := hq; cases e9)
        obtain ⟨n75, K76, A77, Lg78, G79, e9, rfl, h⟩ := hq
        obtain rfl := Sum.inl.inj e9
        show J Γ RX3 cX3_told 5 none "told" [] 142 (kc - kY50 - kY57 - kY65 - kY73) (ks - sY51 - sY58 - sY66 - sY74) 217 [(4, .int r67), (3, .int (A62 9 3)), (2, .int r59), (0, .ref 9), (1, .int l1)] [] (n75, K76, A77, Lg78, G79) P
        refine j_ls [3] rfl ?_
        exact fX3_told_J217_ok  tx X Q P hP   n75 K76 A77 Lg78 G79 (kc - kY50 - kY57 - kY65 - kY73) (ks - sY51 - sY58 - sY66 - sY74) h
  rw [if_neg c49] at h
  by_cases c80 : l1 = 2
  · rw [if_pos c80] at h
    have c80T : (l1 : Int32).toInt = 2 := by rw [c80]; rfl
    refine j_tableIn (off := 176) (tgt := 233) (by rw [c80T]; decide) (by rw [c80T]; decide) (by rw [c80T]; rfl) dX3_told_57 (by decide) ?_
    refine j_aload_n 0 rfl dX3_told_233 ?_
    refine j_aload_n 0 rfl dX3_told_234 ?_
    obtain ⟨hf, h⟩ := h
    obtain ⟨ht, h⟩ := h
    refine j_getfr fl_X3_83_3 rfl (f_lt hf (by decide)) (fk_9 hf) ht dX3_told_235 ?_
    obtain ⟨hx, h⟩ := h
    refine j_getfr fl_X3_156_4 rfl (x_lt hx (j := 0) (by decide)) (xk_0 hx) (xg_0_1 hx) dX3_told_238 ?_
    obtain ⟨hn6, h⟩ := h
    refine j_callV (b := (tx + 2)) (As := []) (st := [.ref 9]) (C := RJ5) (kc' := kc) (ks' := ks) (tJ5_size hf (tx + 2) (x_lt hx (j := 2) (by decide)) (xk_2 hx) _ h) myJ5_size rfl q835 q536 q537 (j_l2 hn6 (x_lt hx (j := 2) (by decide))) (fun s9 H9 hK9 hR9 h69 => jIs_in hK9 hR9 h69 (x_lt hx (j := 2) (by decide)) (xk_2 hx) rfl) rfl (Nat.le_of_ble_eq_true rfl) rfl (by decide) (Nat.le_refl _) (Nat.le_refl _) dX3_told_241 (fun v9 u9 hq => ?_) (fun k9 u9 hq => by obtain ⟨_, e9, _⟩ := hq; cases e9)
    obtain ⟨r81, e9, rfl, h⟩ := hq
    obtain rfl := Sum.inl.inj e9
    show J Γ RX3 cX3_told 5 none "told" [] 142 kc ks 244 [(0, .ref 9), (1, .int l1)] [.int r81, .ref 9] (n, K, A, Lg, G) P
    refine j_iconst (v := 5) dX3_told_244 (by decide) ?_
    obtain ⟨kY82, sY83, kY82h, sY83h, h⟩ := h
    refine j_callV (b := 9) (As := [.int r81, .int 5]) (st := []) (C := RX3) (kc' := kc - kY82) (ks' := ks - sY83) (tX3_begins  r81 5 X _ h) myX3_begins rfl q772 q774 qs17 (by decide) (fun s9 H9 hK9 hR9 h69 => jIs_in hK9 hR9 h69 (f_lt hf (by decide)) (fk_9 hf) rfl) rfl (Nat.le_of_ble_eq_true rfl) rfl (by decide) (by omega) (by omega) dX3_told_245 (fun v9 u9 hq => ?_) (fun k9 u9 hq => by rcases hq with ⟨_, _, _, _, _, e9, _⟩ | ⟨n9, K9, A9, L9, G9, e9, e8, hX⟩; exact nomatch e9; rw [hP]; exact Or.inr ⟨n9, K9, A9, L9, G9, e9, e8, hX⟩)
    rcases hq with hq | ⟨n9, K9, A9, L9, G9, e9, e8, hX⟩
    rotate_left
    · exact nomatch e9
    obtain ⟨n84, K85, A86, Lg87, G88, e9, rfl, h⟩ := hq
    obtain rfl := Sum.inl.inj e9
    show J Γ RX3 cX3_told 5 none "told" [] 142 (kc - kY82) (ks - sY83) 248 [(0, .ref 9), (1, .int l1)] [] (n84, K85, A86, Lg87, G88) P
    obtain ⟨b93, h⟩ := h
    obtain ⟨b94, h⟩ := h
    refine j_newE cn_X3_159 b93 b94 dX3_told_248 (fun K89 A90 L91 G92 eK89 eA90 eL91 eG92 => ?_)
    replace h := h K89 A90 L91 G92 eK89 eA90 eL91 eG92
    have b95 : n84 < (n84 + 1) := (by omega)
    have b96 : K89 n84 = .inl 15 := (by rw [eK89]; exact pkup_self)
    refine j_dup rfl dX3_told_251 ?_
    refine j_aload_n 0 rfl dX3_told_252 ?_
    obtain ⟨kY97, sY98, kY97h, sY98h, h⟩ := h
    obtain ⟨hf, h⟩ := h
    refine j_callV (b := 9) (As := []) (st := [.ref n84, .ref n84]) (C := RX3) (kc' := kc - kY82 - 1 - kY97) (ks' := ks - sY83 - 4 - sY98) (tX3_name  tx X _ h) myX3_name rfl q838 q840 qs22 (by decide) (fun s9 H9 hK9 hR9 h69 => jIs_in hK9 hR9 h69 (f_lt hf (by decide)) (fk_9 hf) rfl) rfl (Nat.le_of_ble_eq_true rfl) rfl (by decide) (by omega) (by omega) dX3_told_253 (fun v9 u9 hq => ?_) (fun k9 u9 hq => by rcases hq with ⟨_, _, _, _, _, _, e9, _⟩ | ⟨n9, K9, A9, L9, G9, e9, e8, hX⟩; exact nomatch e9; rw [hP]; exact Or.inr ⟨n9, K9, A9, L9, G9, e9, e8, hX⟩)
    rcases hq with hq | ⟨n9, K9, A9, L9, G9, e9, e8, hX⟩
    rotate_left
    · exact nomatch e9
    obtain ⟨r99, n100, K101, A102, Lg103, G104, e9, rfl, h⟩ := hq
    obtain rfl := Sum.inl.inj e9
    show J Γ RX3 cX3_told 5 none "told" [] 142 (kc - kY82 - 1 - kY97) (ks - sY83 - 4 - sY98) 256 [(0, .ref 9), (1, .int l1)] [.ref r99, .ref n84, .ref n84] (n100, K101, A102, Lg103, G104) P
    obtain ⟨kY105, sY106, kY105h, sY106h, h⟩ := h
    obtain ⟨hn6, h⟩ := h
    obtain ⟨b95, h⟩ := h
    obtain ⟨b96, h⟩ := h
    refine j_callI (b := n84) (As := [.ref r99]) (st := [.ref n84]) (kc' := kc - kY82 - 1 - kY97 - kY105) (ks' := ks - sY83 - 4 - sY98 - sY106) (tX18_init  n84 r99 _ h) myX18_init rfl q1120 q1121 (j_l2 hn6 b95) rfl (Nat.le_of_ble_eq_true rfl) rfl (by decide) (by omega) (by omega) dX3_told_256 (fun v9 u9 hq => ?_) (fun k9 u9 hq => by obtain ⟨_, _, _, _, _, e9, _⟩ := hq; cases e9)
    obtain ⟨n107, K108, A109, Lg110, G111, e9, rfl, h⟩ := hq
    obtain rfl := Sum.inl.inj e9
    show J Γ RX3 cX3_told 5 none "told" [] 142 (kc - kY82 - 1 - kY97 - kY105) (ks - sY83 - 4 - sY98 - sY106) 259 [(0, .ref 9), (1, .int l1)] [.ref n84] (n107, K108, A109, Lg110, G111) P
    refine j_astore_n (by decide) rfl dX3_told_259 ?_
    refine j_aload_n 0 rfl dX3_told_260 ?_
    refine j_aload_n 1 rfl dX3_told_261 ?_
    refine j_aload_n 1 rfl dX3_told_262 ?_
    obtain ⟨hf, h⟩ := h
    obtain ⟨ht, h⟩ := h
    refine j_getfr fl_X3_83_3 rfl (f_lt hf (by decide)) (fk_9 hf) ht dX3_told_263 ?_
    obtain ⟨hx, h⟩ := h
    refine j_getfr fl_X3_120_4 rfl (x_lt hx (j := 0) (by decide)) (xk_0 hx) (xg_0_0 hx) dX3_told_266 ?_
    obtain ⟨kY112, sY113, kY112h, sY113h, h⟩ := h
    refine j_callV (b := 9) (As := [.ref (tx + 1)]) (st := [.ref n84]) (C := RX3) (kc' := kc - kY82 - 1 - kY97 - kY105 - kY112) (ks' := ks - sY83 - 4 - sY98 - sY106 - sY113) (tX3_known  (tx + 1) X _ h) myX3_known rfl q1103 q1105 qs28 (by decide) (fun s9 H9 hK9 hR9 h69 => jIs_in hK9 hR9 h69 (f_lt hf (by decide)) (fk_9 hf) rfl) rfl (Nat.le_of_ble_eq_true rfl) rfl (by decide) (by omega) (by omega) dX3_told_269 (fun v9 u9 hq => ?_) (fun k9 u9 hq => by rcases hq with ⟨_, _, _, _, _, _, e9, _⟩ | ⟨n9, K9, A9, L9, G9, e9, e8, hX⟩; exact nomatch e9; rw [hP]; exact Or.inr ⟨n9, K9, A9, L9, G9, e9, e8, hX⟩)
    rcases hq with hq | ⟨n9, K9, A9, L9, G9, e9, e8, hX⟩
    rotate_left
    · exact nomatch e9
    obtain ⟨r114, n115, K116, A117, Lg118, G119, e9, rfl, h⟩ := hq
    obtain rfl := Sum.inl.inj e9
    show J Γ RX3 cX3_told 5 none "told" [] 142 (kc - kY82 - 1 - kY97 - kY105 - kY112) (ks - sY83 - 4 - sY98 - sY106 - sY113) 272 [(2, .ref n84), (0, .ref 9), (1, .int l1)] [.int r114, .ref n84] (n115, K116, A117, Lg118, G119) P
    obtain ⟨b95, h⟩ := h
    obtain ⟨b96, h⟩ := h
    refine j_putfiE (fp_X3_162_15 _) rfl rfl rfl b95 b96 dX3_told_272 (fun A120 eA120 => ?_)
    replace h := h A120 eA120
    refine j_aload_n 0 rfl dX3_told_275 ?_
    refine j_aload_n 1 rfl dX3_told_276 ?_
    refine j_iconst (v := 0) dX3_told_277 (by decide) ?_
    refine j_bipush (v := 9) dX3_told_278 (by decide) ?_
    obtain ⟨kY121, sY122, kY121h, sY122h, h⟩ := h
    obtain ⟨hf, h⟩ := h
    refine j_callV (b := 9) (As := [.int 0, .int 9]) (st := [.ref n84]) (C := RX3) (kc' := kc - kY82 - 1 - kY97 - kY105 - kY112 - kY121) (ks' := ks - sY83 - 4 - sY98 - sY106 - sY113 - sY122) (tX3_number  0 9 X _ h) myX3_number rfl q1141 q1143 qs30 (by decide) (fun s9 H9 hK9 hR9 h69 => jIs_in hK9 hR9 h69 (f_lt hf (by decide)) (fk_9 hf) rfl) rfl (Nat.le_of_ble_eq_true rfl) rfl (by decide) (by omega) (by omega) dX3_told_280 (fun v9 u9 hq => ?_) (fun k9 u9 hq => by rcases hq with ⟨_, _, _, _, _, _, e9, _⟩ | ⟨n9, K9, A9, L9, G9, e9, e8, hX⟩; exact nomatch e9; rw [hP]; exact Or.inr ⟨n9, K9, A9, L9, G9, e9, e8, hX⟩)
    rcases hq with hq | ⟨n9, K9, A9, L9, G9, e9, e8, hX⟩
    rotate_left
    · exact nomatch e9
    obtain ⟨r123, n124, K125, A126, Lg127, G128, e9, rfl, h⟩ := hq
    obtain rfl := Sum.inl.inj e9
    show J Γ RX3 cX3_told 5 none "told" [] 142 (kc - kY82 - 1 - kY97 - kY105 - kY112 - kY121) (ks - sY83 - 4 - sY98 - sY106 - sY113 - sY122) 283 [(2, .ref n84), (0, .ref 9), (1, .int l1)] [.int r123, .ref n84] (n124, K125, A126, Lg127, G128) P
    obtain ⟨b95, h⟩ := h
    obtain ⟨b96, h⟩ := h
    refine j_putfiE (fp_X3_168_15 _) rfl rfl rfl b95 b96 dX3_told_283 (fun A129 eA129 => ?_)
    replace h := h A129 eA129
    refine j_aload_n 0 rfl dX3_told_286 ?_
    refine j_aload_n 1 rfl dX3_told_287 ?_
    refine j_iconst (v := 0) dX3_told_288 (by decide) ?_
    refine j_bipush (v := 9) dX3_told_289 (by decide) ?_
    obtain ⟨kY130, sY131, kY130h, sY131h, h⟩ := h
    obtain ⟨hf, h⟩ := h
    refine j_callV (b := 9) (As := [.int 0, .int 9]) (st := [.ref n84]) (C := RX3) (kc' := kc - kY82 - 1 - kY97 - kY105 - kY112 - kY121 - kY130) (ks' := ks - sY83 - 4 - sY98 - sY106 - sY113 - sY122 - sY131) (tX3_number  0 9 X _ h) myX3_number rfl q1141 q1143 qs30 (by decide) (fun s9 H9 hK9 hR9 h69 => jIs_in hK9 hR9 h69 (f_lt hf (by decide)) (fk_9 hf) rfl) rfl (Nat.le_of_ble_eq_true rfl) rfl (by decide) (by omega) (by omega) dX3_told_291 (fun v9 u9 hq => ?_) (fun k9 u9 hq => by rcases hq with ⟨_, _, _, _, _, _, e9, _⟩ | ⟨n9, K9, A9, L9, G9, e9, e8, hX⟩; exact nomatch e9; rw [hP]; exact Or.inr ⟨n9, K9, A9, L9, G9, e9, e8, hX⟩)
    rcases hq with hq | ⟨n9, K9, A9, L9, G9, e9, e8, hX⟩
    rotate_left
    · exact nomatch e9
    obtain ⟨r132, n133, K134, A135, Lg136, G137, e9, rfl, h⟩ := hq
    obtain rfl := Sum.inl.inj e9
    show J Γ RX3 cX3_told 5 none "told" [] 142 (kc - kY82 - 1 - kY97 - kY105 - kY112 - kY121 - kY130) (ks - sY83 - 4 - sY98 - sY106 - sY113 - sY122 - sY131) 294 [(2, .ref n84), (0, .ref 9), (1, .int l1)] [.int r132, .ref n84] (n133, K134, A135, Lg136, G137) P
    obtain ⟨b95, h⟩ := h
    obtain ⟨b96, h⟩ := h
    refine j_putfiE (fp_X3_171_15 _) rfl rfl rfl b95 b96 dX3_told_294 (fun A138 eA138 => ?_)
    replace h := h A138 eA138
    refine j_aload_n 1 rfl dX3_told_297 ?_
    obtain ⟨hf, h⟩ := h
    obtain ⟨ht, h⟩ := h
    refine j_getfr fl_X3_83_3 rfl (f_lt hf (by decide)) (fk_9 hf) ht dX3_told_298 ?_
    obtain ⟨hx, h⟩ := h
    refine j_getfr fl_X3_156_4 rfl (x_lt hx (j := 0) (by decide)) (xk_0 hx) (xg_0_1 hx) dX3_told_301 ?_
    refine j_aload_n 0 rfl dX3_told_304 ?_
    obtain ⟨kY139, sY140, kY139h, sY140h, h⟩ := h
    obtain ⟨hn6, h⟩ := h
    refine j_callV (b := (tx + 2)) (As := [.ref n84]) (st := []) (C := RJ5) (kc' := kc - kY82 - 1 - kY97 - kY105 - kY112 - kY121 - kY130 - kY139) (ks' := ks - sY83 - 4 - sY98 - sY106 - sY113 - sY122 - sY131 - sY140) (tJ5_addC_X18  (tx + 2) n84 _ h) myJ5_add rfl q1051 q1052 q1053 (j_l2 hn6 (x_lt hx (j := 2) (by decide))) (fun s9 H9 hK9 hR9 h69 => jIs_in hK9 hR9 h69 (x_lt hx (j := 2) (by decide)) (xk_2 hx) rfl) rfl (Nat.le_of_ble_eq_true rfl) rfl (by decide) (by omega) (by omega) dX3_told_305 (fun v9 u9 hq => ?_) (fun k9 u9 hq => by obtain ⟨_, _, _, _, _, _, e9, _⟩ := hq; cases e9)
    obtain ⟨r141, n142, K143, A144, Lg145, G146, e9, rfl, h⟩ := hq
    obtain rfl := Sum.inl.inj e9
    show J Γ RX3 cX3_told 5 none "told" [] 142 (kc - kY82 - 1 - kY97 - kY105 - kY112 - kY121 - kY130 - kY139) (ks - sY83 - 4 - sY98 - sY106 - sY113 - sY122 - sY131 - sY140) 308 [(2, .ref n84), (0, .ref 9), (1, .int l1)] [.int r141] (n142, K143, A144, Lg145, G146) P
    refine j_pop rfl dX3_told_308 ?_
    refine j_goto (tgt := 466) dX3_told_309 (by decide) ?_
    refine j_vret rfl ?_ dX3_told_466
    rw [hP]
    exact Or.inl ⟨n142, K143, A144, Lg145, G146, rfl, rfl, h⟩
  rw [if_neg c80] at h
  by_cases c147 : l1 = 3
  · rw [if_pos c147] at h
    have c147T : (l1 : Int32).toInt = 3 := by rw [c147]; rfl
    refine j_tableIn (off := 255) (tgt := 312) (by rw [c147T]; decide) (by rw [c147T]; decide) (by rw [c147T]; rfl) dX3_told_57 (by decide) ?_
    refine j_aload_n 0 rfl dX3_told_312 ?_
    refine j_aload_n 0 rfl dX3_told_313 ?_
    obtain ⟨hf, h⟩ := h
    obtain ⟨ht, h⟩ := h
    refine j_getfr fl_X3_83_3 rfl (f_lt hf (by decide)) (fk_9 hf) ht dX3_told_314 ?_
    obtain ⟨hx, h⟩ := h
    refine j_getfr fl_X3_174_4 rfl (x_lt hx (j := 0) (by decide)) (xk_0 hx) (xg_0_2 hx) dX3_told_317 ?_
    obtain ⟨hn6, h⟩ := h
    refine j_callV (b := (tx + 3)) (As := []) (st := [.ref 9]) (C := RJ5) (kc' := kc) (ks' := ks) (tJ5_size hf (tx + 3) (x_lt hx (j := 3) (by decide)) (xk_3 hx) _ h) myJ5_size rfl q835 q536 q537 (j_l2 hn6 (x_lt hx (j := 3) (by decide))) (fun s9 H9 hK9 hR9 h69 => jIs_in hK9 hR9 h69 (x_lt hx (j := 3) (by decide)) (xk_3 hx) rfl) rfl (Nat.le_of_ble_eq_true rfl) rfl (by decide) (Nat.le_refl _) (Nat.le_refl _) dX3_told_320 (fun v9 u9 hq => ?_) (fun k9 u9 hq => by obtain ⟨_, e9, _⟩ := hq; cases e9)
    obtain ⟨r148, e9, rfl, h⟩ := hq
    obtain rfl := Sum.inl.inj e9
    show J Γ RX3 cX3_told 5 none "told" [] 142 kc ks 323 [(0, .ref 9), (1, .int l1)] [.int r148, .ref 9] (n, K, A, Lg, G) P
    refine j_iconst (v := 4) dX3_told_323 (by decide) ?_
    obtain ⟨kY149, sY150, kY149h, sY150h, h⟩ := h
    refine j_callV (b := 9) (As := [.int r148, .int 4]) (st := []) (C := RX3) (kc' := kc - kY149) (ks' := ks - sY150) (tX3_begins  r148 4 X _ h) myX3_begins rfl q772 q774 qs17 (by decide) (fun s9 H9 hK9 hR9 h69 => jIs_in hK9 hR9 h69 (f_lt hf (by decide)) (fk_9 hf) rfl) rfl (Nat.le_of_ble_eq_true rfl) rfl (by decide) (by omega) (by omega) dX3_told_324 (fun v9 u9 hq => ?_) (fun k9 u9 hq => by rcases hq with ⟨_, _, _, _, _, e9, _⟩ | ⟨n9, K9, A9, L9, G9, e9, e8, hX⟩; exact nomatch e9; rw [hP]; exact Or.inr ⟨n9, K9, A9, L9, G9, e9, e8, hX⟩)
    rcases hq with hq | ⟨n9, K9, A9, L9, G9, e9, e8, hX⟩
    rotate_left
    · exact nomatch e9
    obtain ⟨n151, K152, A153, Lg154, G155, e9, rfl, h⟩ := hq
    obtain rfl := Sum.inl.inj e9
    show J Γ RX3 cX3_told 5 none "told" [] 142 (kc - kY149) (ks - sY150) 327 [(0, .ref 9), (1, .int l1)] [] (n151, K152, A153, Lg154, G155) P
    obtain ⟨b160, h⟩ := h
    obtain ⟨b161, h⟩ := h
    refine j_newE cn_X3_177 b160 b161 dX3_told_327 (fun K156 A157 L158 G159 eK156 eA157 eL158 eG159 => ?_)
    replace h := h K156 A157 L158 G159 eK156 eA157 eL158 eG159
    have b162 : n151 < (n151 + 1) := (by omega)
    have b163 : K156 n151 = .inl 16 := (by rw [eK156]; exact pkup_self)
    refine j_dup rfl dX3_told_330 ?_
    refine j_aload_n 0 rfl dX3_told_331 ?_
    obtain ⟨kY164, sY165, kY164h, sY165h, h⟩ := h
    obtain ⟨hf, h⟩ := h
    refine j_callV (b := 9) (As := []) (st := [.ref n151, .ref n151]) (C := RX3) (kc' := kc - kY149 - 1 - kY164) (ks' := ks - sY150 - 4 - sY165) (tX3_name  tx X _ h) myX3_name rfl q838 q840 qs22 (by decide) (fun s9 H9 hK9 hR9 h69 => jIs_in hK9 hR9 h69 (f_lt hf (by decide)) (fk_9 hf) rfl) rfl (Nat.le_of_ble_eq_true rfl) rfl (by decide) (by omega) (by omega) dX3_told_332 (fun v9 u9 hq => ?_) (fun k9 u9 hq => by rcases hq with ⟨_, _, _, _, _, _, e9, _⟩ | ⟨n9, K9, A9, L9, G9, e9, e8, hX⟩; exact nomatch e9; rw [hP]; exact Or.inr ⟨n9, K9, A9, L9, G9, e9, e8, hX⟩)
    rcases hq with hq | ⟨n9, K9, A9, L9, G9, e9, e8, hX⟩
    rotate_left
    · exact nomatch e9
    obtain ⟨r166, n167, K168, A169, Lg170, G171, e9, rfl, h⟩ := hq
    obtain rfl := Sum.inl.inj e9
    show J Γ RX3 cX3_told 5 none "told" [] 142 (kc - kY149 - 1 - kY164) (ks - sY150 - 4 - sY165) 335 [(0, .ref 9), (1, .int l1)] [.ref r166, .ref n151, .ref n151] (n167, K168, A169, Lg170, G171) P
    obtain ⟨kY172, sY173, kY172h, sY173h, h⟩ := h
    obtain ⟨hn6, h⟩ := h
    obtain ⟨b162, h⟩ := h
    obtain ⟨b163, h⟩ := h
    refine j_callI (b := n151) (As := [.ref r166]) (st := [.ref n151]) (kc' := kc - kY149 - 1 - kY164 - kY172) (ks' := ks - sY150 - 4 - sY165 - sY173) (tX19_init  n151 r166 _ h) myX19_init rfl q1147 q1148 (j_l2 hn6 b162) rfl (Nat.le_of_ble_eq_true rfl) rfl (by decide) (by omega) (by omega) dX3_told_335 (fun v9 u9 hq => ?_) (fun k9 u9 hq => by obtain ⟨_, _, _, _, _, e9, _⟩ := hq; cases e9)
    obtain ⟨n174, K175, A176, Lg177, G178, e9, rfl, h⟩ := hq
    obtain rfl := Sum.inl.inj e9
    show J Γ RX3 cX3_told 5 none "told" [] 142 (kc - kY149 - 1 - kY164 - kY172) (ks - sY150 - 4 - sY165 - sY173) 338 [(0, .ref 9), (1, .int l1)] [.ref n151] (n174, K175, A176, Lg177, G178) P
    refine j_astore_n (by decide) rfl dX3_told_338 ?_
    refine j_aload_n 0 rfl dX3_told_339 ?_
    refine j_aload_n 1 rfl dX3_told_340 ?_
    refine j_aload_n 1 rfl dX3_told_341 ?_
    obtain ⟨hf, h⟩ := h
    obtain ⟨ht, h⟩ := h
    refine j_getfr fl_X3_83_3 rfl (f_lt hf (by decide)) (fk_9 hf) ht dX3_told_342 ?_
    obtain ⟨hx, h⟩ := h
    refine j_getfr fl_X3_120_4 rfl (x_lt hx (j := 0) (by decide)) (xk_0 hx) (xg_0_0 hx) dX3_told_345 ?_
    obtain ⟨kY179, sY180, kY179h, sY180h, h⟩ := h
    refine j_callV (b := 9) (As := [.ref (tx + 1)]) (st := [.ref n151]) (C := RX3) (kc' := kc - kY149 - 1 - kY164 - kY172 - kY179) (ks' := ks - sY150 - 4 - sY165 - sY173 - sY180) (tX3_known  (tx + 1) X _ h) myX3_known rfl q1103 q1105 qs28 (by decide) (fun s9 H9 hK9 hR9 h69 => jIs_in hK9 hR9 h69 (f_lt hf (by decide)) (fk_9 hf) rfl) rfl (Nat.le_of_ble_eq_true rfl) rfl (by decide) (by omega) (by omega) dX3_told_348 (fun v9 u9 hq => ?_) (fun k9 u9 hq => by rcases hq with ⟨_, _, _, _, _, _, e9, _⟩ | ⟨n9, K9, A9, L9, G9, e9, e8, hX⟩; exact nomatch e9; rw [hP]; exact Or.inr ⟨n9, K9, A9, L9, G9, e9, e8, hX⟩)
    rcases hq with hq | ⟨n9, K9, A9, L9, G9, e9, e8, hX⟩
    rotate_left
    · exact nomatch e9
    obtain ⟨r181, n182, K183, A184, Lg185, G186, e9, rfl, h⟩ := hq
    obtain rfl := Sum.inl.inj e9
    show J Γ RX3 cX3_told 5 none "told" [] 142 (kc - kY149 - 1 - kY164 - kY172 - kY179) (ks - sY150 - 4 - sY165 - sY173 - sY180) 351 [(2, .ref n151), (0, .ref 9), (1, .int l1)] [.int r181, .ref n151] (n182, K183, A184, Lg185, G186) P
    obtain ⟨b162, h⟩ := h
    obtain ⟨b163, h⟩ := h
    refine j_putfiE (fp_X3_180_16 _) rfl rfl rfl b162 b163 dX3_told_351 (fun A187 eA187 => ?_)
    replace h := h A187 eA187
    refine j_aload_n 0 rfl dX3_told_354 ?_
    refine j_aload_n 1 rfl dX3_told_355 ?_
    refine j_iconst (v := 0) dX3_told_356 (by decide) ?_
    refine j_bipush (v := 99) dX3_told_357 (by decide) ?_
    obtain ⟨kY188, sY189, kY188h, sY189h, h⟩ := h
    obtain ⟨hf, h⟩ := h
    refine j_callV (b := 9) (As := [.int 0, .int 99]) (st := [.ref n151]) (C := RX3) (kc' := kc - kY149 - 1 - kY164 - kY172 - kY179 - kY188) (ks' := ks - sY150 - 4 - sY165 - sY173 - sY180 - sY189) (tX3_number  0 99 X _ h) myX3_number rfl q1141 q1143 qs30 (by decide) (fun s9 H9 hK9 hR9 h69 => jIs_in hK9 hR9 h69 (f_lt hf (by decide)) (fk_9 hf) rfl) rfl (Nat.le_of_ble_eq_true rfl) rfl (by decide) (by omega) (by omega) dX3_told_359 (fun v9 u9 hq => ?_) (fun k9 u9 hq => by rcases hq with ⟨_, _, _, _, _, _, e9, _⟩ | ⟨n9, K9, A9, L9, G9, e9, e8, hX⟩; exact nomatch e9; rw [hP]; exact Or.inr ⟨n9, K9, A9, L9, G9, e9, e8, hX⟩)
    rcases hq with hq | ⟨n9, K9, A9, L9, G9, e9, e8, hX⟩
    rotate_left
    · exact nomatch e9
    obtain ⟨r190, n191, K192, A193, Lg194, G195, e9, rfl, h⟩ := hq
    obtain rfl := Sum.inl.inj e9
    show J Γ RX3 cX3_told 5 none "told" [] 142 (kc - kY149 - 1 - kY164 - kY172 - kY179 - kY188) (ks - sY150 - 4 - sY165 - sY173 - sY180 - sY189) 362 [(2, .ref n151), (0, .ref 9), (1, .int l1)] [.int r190, .ref n151] (n191, K192, A193, Lg194, G195) P
    obtain ⟨b162, h⟩ := h
    obtain ⟨b163, h⟩ := h
    refine j_putfiE (fp_X3_183_16 _) rfl rfl rfl b162 b163 dX3_told_362 (fun A196 eA196 => ?_)
    replace h := h A196 eA196
    refine j_aload_n 1 rfl dX3_told_365 ?_
    obtain ⟨hf, h⟩ := h
    obtain ⟨ht, h⟩ := h
    refine j_getfr fl_X3_83_3 rfl (f_lt hf (by decide)) (fk_9 hf) ht dX3_told_366 ?_
    obtain ⟨hx, h⟩ := h
    refine j_getfr fl_X3_174_4 rfl (x_lt hx (j := 0) (by decide)) (xk_0 hx) (xg_0_2 hx) dX3_told_369 ?_
    refine j_aload_n 0 rfl dX3_told_372 ?_
    obtain ⟨kY197, sY198, kY197h, sY198h, h⟩ := h
    obtain ⟨hn6, h⟩ := h
    refine j_callV (b := (tx + 3)) (As := [.ref n151]) (st := []) (C := RJ5) (kc' := kc - kY149 - 1 - kY164 - kY172 - kY179 - kY188 - kY197) (ks' := ks - sY150 - 4 - sY165 - sY173 - sY180 - sY189 - sY198) (tJ5_addC_X19  (tx + 3) n151 _ h) myJ5_add rfl q1051 q1052 q1053 (j_l2 hn6 (x_lt hx (j := 3) (by decide))) (fun s9 H9 hK9 hR9 h69 => jIs_in hK9 hR9 h69 (x_lt hx (j := 3) (by decide)) (xk_3 hx) rfl) rfl (Nat.le_of_ble_eq_true rfl) rfl (by decide) (by omega) (by omega) dX3_told_373 (fun v9 u9 hq => ?_) (fun k9 u9 hq => by obtain ⟨_, _, _, _, _, _, e9, _⟩ := hq; cases e9)
    obtain ⟨r199, n200, K201, A202, Lg203, G204, e9, rfl, h⟩ := hq
    obtain rfl := Sum.inl.inj e9
    show J Γ RX3 cX3_told 5 none "told" [] 142 (kc - kY149 - 1 - kY164 - kY172 - kY179 - kY188 - kY197) (ks - sY150 - 4 - sY165 - sY173 - sY180 - sY189 - sY198) 376 [(2, .ref n151), (0, .ref 9), (1, .int l1)] [.int r199] (n200, K201, A202, Lg203, G204) P
    refine j_pop rfl dX3_told_376 ?_
    refine j_goto (tgt := 466) dX3_told_377 (by decide) ?_
    refine j_vret rfl ?_ dX3_told_466
    rw [hP]
    exact Or.inl ⟨n200, K201, A202, Lg203, G204, rfl, rfl, h⟩
  rw [if_neg c147] at h
  by_cases c205 : l1 = 4
  · rw [if_pos c205] at h
    have c205T : (l1 : Int32).toInt = 4 := by rw [c205]; rfl
    refine j_tableIn (off := 323) (tgt := 380) (by rw [c205T]; decide) (by rw [c205T]; decide) (by rw [c205T]; rfl) dX3_told_57 (by decide) ?_
    refine j_aload_n 0 rfl dX3_told_380 ?_
    obtain ⟨kY206, sY207, kY206h, sY207h, h⟩ := h
    obtain ⟨hf, h⟩ := h
    refine j_callV (b := 9) (As := []) (st := []) (C := RX3) (kc' := kc - kY206) (ks' := ks - sY207) (tX3_errandTold  tx X _ h) myX3_errandTold rfl q1165 q1167 qs31 (by decide) (fun s9 H9 hK9 hR9 h69 => jIs_in hK9 hR9 h69 (f_lt hf (by decide)) (fk_9 hf) rfl) rfl (Nat.le_of_ble_eq_true rfl) rfl (by decide) (by omega) (by omega) dX3_told_381 (fun v9 u9 hq => ?_) (fun k9 u9 hq => by rcases hq with ⟨_, _, _, _, _, e9, _⟩ | ⟨n9, K9, A9, L9, G9, e9, e8, hX⟩; exact nomatch e9; rw [hP]; exact Or.inr ⟨n9, K9, A9, L9, G9, e9, e8, hX⟩)
    rcases hq with hq | ⟨n9, K9, A9, L9, G9, e9, e8, hX⟩
    rotate_left
    · exact nomatch e9
    obtain ⟨n208, K209, A210, Lg211, G212, e9, rfl, h⟩ := hq
    obtain rfl := Sum.inl.inj e9
    show J Γ RX3 cX3_told 5 none "told" [] 142 (kc - kY206) (ks - sY207) 384 [(0, .ref 9), (1, .int l1)] [] (n208, K209, A210, Lg211, G212) P
    refine j_goto (tgt := 466) dX3_told_384 (by decide) ?_
    refine j_vret rfl ?_ dX3_told_466
    rw [hP]
    exact Or.inl ⟨n208, K209, A210, Lg211, G212, rfl, rfl, h⟩
  rw [if_neg c205] at h
  by_cases c213 : l1 = 5
  · rw [if_pos c213] at h
    have c213T : (l1 : Int32).toInt = 5 := by rw [c213]; rfl
    refine j_tableIn (off := 403) (tgt := 460) (by rw [c213T]; decide) (by rw [c213T]; decide) (by rw [c213T]; rfl) dX3_told_57 (by decide) ?_
    refine j_aload_n 0 rfl dX3_told_460 ?_
    refine j_iconst (v := 1) dX3_told_461 (by decide) ?_
    obtain ⟨kY214, sY215, kY214h, sY215h, h⟩ := h
    obtain ⟨hf, h⟩ := h
    refine j_callV (b := 9) (As := [.int 1]) (st := []) (C := RX3) (kc' := kc - kY214) (ks' := ks - sY215) (tX3_wrong  1 _ h) myX3_wrong rfl q711 q713 qs9 (by decide) (fun s9 H9 hK9 hR9 h69 => jIs_in hK9 hR9 h69 (f_lt hf (by decide)) (fk_9 hf) rfl) rfl (Nat.le_of_ble_eq_true rfl) rfl (by decide) (by omega) (by omega) dX3_told_462 (fun v9 u9 hq => ?_) (fun k9 u9 hq => by obtain ⟨_, _, _, _, _, e9, _⟩ := hq; cases e9)
    obtain ⟨n216, K217, A218, Lg219, G220, e9, rfl, h⟩ := hq
    obtain rfl := Sum.inl.inj e9
    show J Γ RX3 cX3_told 5 none "told" [] 142 (kc - kY214) (ks - sY215) 465 [(0, .ref 9), (1, .int l1)] [.ref 1] (n216, K217, A218, Lg219, G220) P
    obtain ⟨hf, h⟩ := h
    refine j_athrow (k := 1) (f_lt hf (by decide)) (fk_1 hf) ?_ dX3_told_465
    rw [hP]
    exact Or.inr ⟨n216, K217, A218, Lg219, G220, rfl, rfl, h⟩
  rw [if_neg c213] at h
  by_cases c221 : l1 = 6
  · rw [if_pos c221] at h
    have c221T : (l1 : Int32).toInt = 6 := by rw [c221]; rfl
    refine j_tableIn (off := 403) (tgt := 460) (by rw [c221T]; decide) (by rw [c221T]; decide) (by rw [c221T]; rfl) dX3_told_57 (by decide) ?_
    refine j_aload_n 0 rfl dX3_told_460 ?_
    refine j_iconst (v := 1) dX3_told_461 (by decide) ?_
    obtain ⟨kY222, sY223, kY222h, sY223h, h⟩ := h
    obtain ⟨hf, h⟩ := h
    refine j_callV (b := 9) (As := [.int 1]) (st := []) (C := RX3) (kc' := kc - kY222) (ks' := ks - sY223) (tX3_wrong  1 _ h) myX3_wrong rfl q711 q713 qs9 (by decide) (fun s9 H9 hK9 hR9 h69 => jIs_in hK9 hR9 h69 (f_lt hf (by decide)) (fk_9 hf) rfl) rfl (Nat.le_of_ble_eq_true rfl) rfl (by decide) (by omega) (by omega) dX3_told_462 (fun v9 u9 hq => ?_) (fun k9 u9 hq => by obtain ⟨_, _, _, _, _, e9, _⟩ := hq; cases e9)
    obtain ⟨n224, K225, A226, Lg227, G228, e9, rfl, h⟩ := hq
    obtain rfl := Sum.inl.inj e9
    show J Γ RX3 cX3_told 5 none "told" [] 142 (kc - kY222) (ks - sY223) 465 [(0, .ref 9), (1, .int l1)] [.ref 1] (n224, K225, A226, Lg227, G228) P
    obtain ⟨hf, h⟩ := h
    refine j_athrow (k := 1) (f_lt hf (by decide)) (fk_1 hf) ?_ dX3_told_465
    rw [hP]
    exact Or.inr ⟨n224, K225, A226, Lg227, G228, rfl, rfl, h⟩
  rw [if_neg c221] at h
  by_cases c229 : l1 = 7
  · rw [if_pos c229] at h
    have c229T : (l1 : Int32).toInt = 7 := by rw [c229]; rfl
    refine j_tableIn (off := 403) (tgt := 460) (by rw [c229T]; decide) (by rw [c229T]; decide) (by rw [c229T]; rfl) dX3_told_57 (by decide) ?_
    refine j_aload_n 0 rfl dX3_told_460 ?_
    refine j_iconst (v := 1) dX3_told_461 (by decide) ?_
    obtain ⟨kY230, sY231, kY230h, sY231h, h⟩ := h
    obtain ⟨hf, h⟩ := h
    refine j_callV (b := 9) (As := [.int 1]) (st := []) (C := RX3) (kc' := kc - kY230) (ks' := ks - sY231) (tX3_wrong  1 _ h) myX3_wrong rfl q711 q713 qs9 (by decide) (fun s9 H9 hK9 hR9 h69 => jIs_in hK9 hR9 h69 (f_lt hf (by decide)) (fk_9 hf) rfl) rfl (Nat.le_of_ble_eq_true rfl) rfl (by decide) (by omega) (by omega) dX3_told_462 (fun v9 u9 hq => ?_) (fun k9 u9 hq => by obtain ⟨_, _, _, _, _, e9, _⟩ := hq; cases e9)
    obtain ⟨n232, K233, A234, Lg235, G236, e9, rfl, h⟩ := hq
    obtain rfl := Sum.inl.inj e9
    show J Γ RX3 cX3_told 5 none "told" [] 142 (kc - kY230) (ks - sY231) 465 [(0, .ref 9), (1, .int l1)] [.ref 1] (n232, K233, A234, Lg235, G236) P
    obtain ⟨hf, h⟩ := h
    refine j_athrow (k := 1) (f_lt hf (by decide)) (fk_1 hf) ?_ dX3_told_465
    rw [hP]
    exact Or.inr ⟨n232, K233, A234, Lg235, G236, rfl, rfl, h⟩
  rw [if_neg c229] at h
  by_cases c237 : l1 = 8
  · rw [if_pos c237] at h
    have c237T : (l1 : Int32).toInt = 8 := by rw [c237]; rfl
    refine j_tableIn (off := 403) (tgt := 460) (by rw [c237T]; decide) (by rw [c237T]; decide) (by rw [c237T]; rfl) dX3_told_57 (by decide) ?_
    refine j_aload_n 0 rfl dX3_told_460 ?_
    refine j_iconst (v := 1) dX3_told_461 (by decide) ?_
    obtain ⟨kY238, sY239, kY238h, sY239h, h⟩ := h
    obtain ⟨hf, h⟩ := h
    refine j_callV (b := 9) (As := [.int 1]) (st := []) (C := RX3) (kc' := kc - kY238) (ks' := ks - sY239) (tX3_wrong  1 _ h) myX3_wrong rfl q711 q713 qs9 (by decide) (fun s9 H9 hK9 hR9 h69 => jIs_in hK9 hR9 h69 (f_lt hf (by decide)) (fk_9 hf) rfl) rfl (Nat.le_of_ble_eq_true rfl) rfl (by decide) (by omega) (by omega) dX3_told_462 (fun v9 u9 hq => ?_) (fun k9 u9 hq => by obtain ⟨_, _, _, _, _, e9, _⟩ := hq; cases e9)
    obtain ⟨n240, K241, A242, Lg243, G244, e9, rfl, h⟩ := hq
    obtain rfl := Sum.inl.inj e9
    show J Γ RX3 cX3_told 5 none "told" [] 142 (kc - kY238) (ks - sY239) 465 [(0, .ref 9), (1, .int l1)] [.ref 1] (n240, K241, A242, Lg243, G244) P
    obtain ⟨hf, h⟩ := h
    refine j_athrow (k := 1) (f_lt hf (by decide)) (fk_1 hf) ?_ dX3_told_465
    rw [hP]
    exact Or.inr ⟨n240, K241, A242, Lg243, G244, rfl, rfl, h⟩
  rw [if_neg c237] at h
  by_cases c245 : l1 = 9
  · rw [if_pos c245] at h
    have c245T : (l1 : Int32).toInt = 9 := by rw [c245]; rfl
    refine j_tableIn (off := 330) (tgt := 387) (by rw [c245T]; decide) (by rw [c245T]; decide) (by rw [c245T]; rfl) dX3_told_57 (by decide) ?_
    refine j_aload_n 0 rfl dX3_told_387 ?_
    obtain ⟨kY246, sY247, kY246h, sY247h, h⟩ := h
    obtain ⟨hf, h⟩ := h
    refine j_callV (b := 9) (As := []) (st := []) (C := RX3) (kc' := kc - kY246) (ks' := ks - sY247) (tX3_pass   X _ h) myX3_pass rfl q727 q729 qs12 (by decide) (fun s9 H9 hK9 hR9 h69 => jIs_in hK9 hR9 h69 (f_lt hf (by decide)) (fk_9 hf) rfl) rfl (Nat.le_of_ble_eq_true rfl) rfl (by decide) (by omega) (by omega) dX3_told_388 (fun v9 u9 hq => ?_) (fun k9 u9 hq => by rcases hq with ⟨_, _, _, _, _, e9, _⟩ | ⟨n9, K9, A9, L9, G9, e9, e8, hX⟩; exact nomatch e9; rw [hP]; exact Or.inr ⟨n9, K9, A9, L9, G9, e9, e8, hX⟩)
    rcases hq with hq | ⟨n9, K9, A9, L9, G9, e9, e8, hX⟩
    rotate_left
    · exact nomatch e9
    obtain ⟨n248, K249, A250, Lg251, G252, e9, rfl, h⟩ := hq
    obtain rfl := Sum.inl.inj e9
    show J Γ RX3 cX3_told 5 none "told" [] 142 (kc - kY246) (ks - sY247) 391 [(0, .ref 9), (1, .int l1)] [] (n248, K249, A250, Lg251, G252) P
    refine j_aload_n 0 rfl dX3_told_391 ?_
    obtain ⟨hf, h⟩ := h
    obtain ⟨ht, h⟩ := h
    refine j_getfr fl_X3_83_3 rfl (f_lt hf (by decide)) (fk_9 hf) ht dX3_told_392 ?_
    refine j_aload_n 0 rfl dX3_told_395 ?_
    refine j_iconst (v := 0) dX3_told_396 (by decide) ?_
    refine j_sipush (v := 1439) dX3_told_397 (by decide) ?_
    obtain ⟨kY253, sY254, kY253h, sY254h, h⟩ := h
    refine j_callV (b := 9) (As := [.int 0, .int 1439]) (st := [.ref tx]) (C := RX3) (kc' := kc - kY246 - kY253) (ks' := ks - sY247 - sY254) (tX3_number  0 1439 X _ h) myX3_number rfl q1141 q1143 qs30 (by decide) (fun s9 H9 hK9 hR9 h69 => jIs_in hK9 hR9 h69 (f_lt hf (by decide)) (fk_9 hf) rfl) rfl (Nat.le_of_ble_eq_true rfl) rfl (by decide) (by omega) (by omega) dX3_told_400 (fun v9 u9 hq => ?_) (fun k9 u9 hq => by rcases hq with ⟨_, _, _, _, _, _, e9, _⟩ | ⟨n9, K9, A9, L9, G9, e9, e8, hX⟩; exact nomatch e9; rw [hP]; exact Or.inr ⟨n9, K9, A9, L9, G9, e9, e8, hX⟩)
    rcases hq with hq | ⟨n9, K9, A9, L9, G9, e9, e8, hX⟩
    rotate_left
    · exact nomatch e9
    obtain ⟨r255, n256, K257, A258, Lg259, G260, e9, rfl, h⟩ := hq
    obtain rfl := Sum.inl.inj e9
    show J Γ RX3 cX3_told 5 none "told" [] 142 (kc - kY246 - kY253) (ks - sY247 - sY254) 403 [(0, .ref 9), (1, .int l1)] [.int r255, .ref tx] (n256, K257, A258, Lg259, G260) P
    obtain ⟨hx, h⟩ := h
    refine j_putfiE (fp_X3_189_4 _) rfl rfl rfl (x_lt hx (j := 0) (by decide)) (xk_0 hx) dX3_told_403 (fun A261 eA261 => ?_)
    replace h := h A261 eA261
    refine j_aload_n 0 rfl dX3_told_406 ?_
    obtain ⟨hf, h⟩ := h
    obtain ⟨ht, h⟩ := h
    refine j_getfr fl_X3_83_3 rfl (f_lt hf (by decide)) (fk_9 hf) ht dX3_told_407 ?_
    refine j_aload_n 0 rfl dX3_told_410 ?_
    refine j_sipush (v := 1440) dX3_told_411 (by decide) ?_
    refine j_aload_n 0 rfl dX3_told_414 ?_
    refine j_getfr fl_X3_83_3 rfl (f_lt hf (by decide)) (fk_9 hf) ht dX3_told_415 ?_
    refine j_getfi fl_X3_189_4 rfl (x_lt hx (j := 0) (by decide)) (xk_0 hx) dX3_told_418 ?_
    refine j_iconst (v := 1) dX3_told_421 (by decide) ?_
    refine j_iadd dX3_told_422 ?_
    refine j_mmin q1169 q917 q153 q918 (Nat.le_of_ble_eq_true rfl) (by decide) dX3_told_423 ?_
    refine j_sipush (v := 1440) dX3_told_426 (by decide) ?_
    obtain ⟨kY262, sY263, kY262h, sY263h, h⟩ := h
    refine j_callV (b := 9) (As := [.int (pmin 1440 ((A261 tx 9) + 1)), .int 1440]) (st := [.ref tx]) (C := RX3) (kc' := kc - kY246 - kY253 - kY262) (ks' := ks - sY247 - sY254 - sY263) (tX3_number  (pmin 1440 ((A261 tx 9) + 1)) 1440 X _ h) myX3_number rfl q1141 q1143 qs30 (by decide) (fun s9 H9 hK9 hR9 h69 => jIs_in hK9 hR9 h69 (f_lt hf (by decide)) (fk_9 hf) rfl) rfl (Nat.le_of_ble_eq_true rfl) rfl (by decide) (by omega) (by omega) dX3_told_429 (fun v9 u9 hq => ?_) (fun k9 u9 hq => by rcases hq with ⟨_, _, _, _, _, _, e9, _⟩ | ⟨n9, K9, A9, L9, G9, e9, e8, hX⟩; exact nomatch e9; rw [hP]; exact Or.inr ⟨n9, K9, A9, L9, G9, e9, e8, hX⟩)
    rcases hq with hq | ⟨n9, K9, A9, L9, G9, e9, e8, hX⟩
    rotate_left
    · exact nomatch e9
    obtain ⟨r264, n265, K266, A267, Lg268, G269, e9, rfl, h⟩ := hq
    obtain rfl := Sum.inl.inj e9
    show J Γ RX3 cX3_told 5 none "told" [] 142 (kc - kY246 - kY253 - kY262) (ks - sY247 - sY254 - sY263) 432 [(0, .ref 9), (1, .int l1)] [.int r264, .ref tx] (n265, K266, A267, Lg268, G269) P
    obtain ⟨hx, h⟩ := h
    refine j_putfiE (fp_X3_196_4 _) rfl rfl rfl (x_lt hx (j := 0) (by decide)) (xk_0 hx) dX3_told_432 (fun A270 eA270 => ?_)
    replace h := h A270 eA270
    refine j_goto (tgt := 466) dX3_told_435 (by decide) ?_
    refine j_vret rfl ?_ dX3_told_466
    rw [hP]
    exact Or.inl ⟨n265, K266, A270, Lg268, G269, rfl, rfl, h⟩
  rw [if_neg c245] at h
  by_cases c271 : l1 = 10
  · rw [if_pos c271] at h
    have c271T : (l1 : Int32).toInt = 10 := by rw [c271]; rfl
    refine j_tableIn (off := 381) (tgt := 438) (by rw [c271T]; decide) (by rw [c271T]; decide) (by rw [c271T]; rfl) dX3_told_57 (by decide) ?_
    refine j_aload_n 0 rfl dX3_told_438 ?_
    obtain ⟨kY272, sY273, kY272h, sY273h, h⟩ := h
    obtain ⟨hf, h⟩ := h
    refine j_callV (b := 9) (As := []) (st := []) (C := RX3) (kc' := kc - kY272) (ks' := ks - sY273) (tX3_pass   X _ h) myX3_pass rfl q727 q729 qs12 (by decide) (fun s9 H9 hK9 hR9 h69 => jIs_in hK9 hR9 h69 (f_lt hf (by decide)) (fk_9 hf) rfl) rfl (Nat.le_of_ble_eq_true rfl) rfl (by decide) (by omega) (by omega) dX3_told_439 (fun v9 u9 hq => ?_) (fun k9 u9 hq => by rcases hq with ⟨_, _, _, _, _, e9, _⟩ | ⟨n9, K9, A9, L9, G9, e9, e8, hX⟩; exact nomatch e9; rw [hP]; exact Or.inr ⟨n9, K9, A9, L9, G9, e9, e8, hX⟩)
    rcases hq with hq | ⟨n9, K9, A9, L9, G9, e9, e8, hX⟩
    rotate_left
    · exact nomatch e9
    obtain ⟨n274, K275, A276, Lg277, G278, e9, rfl, h⟩ := hq
    obtain rfl := Sum.inl.inj e9
    show J Γ RX3 cX3_told 5 none "told" [] 142 (kc - kY272) (ks - sY273) 442 [(0, .ref 9), (1, .int l1)] [] (n274, K275, A276, Lg277, G278) P
    refine j_aload_n 0 rfl dX3_told_442 ?_
    obtain ⟨hf, h⟩ := h
    obtain ⟨ht, h⟩ := h
    refine j_getfr fl_X3_83_3 rfl (f_lt hf (by decide)) (fk_9 hf) ht dX3_told_443 ?_
    refine j_aload_n 0 rfl dX3_told_446 ?_
    refine j_iconst (v := 0) dX3_told_447 (by decide) ?_
    refine j_sipush (v := 1439) dX3_told_448 (by decide) ?_
    obtain ⟨kY279, sY280, kY279h, sY280h, h⟩ := h
    refine j_callV (b := 9) (As := [.int 0, .int 1439]) (st := [.ref tx]) (C := RX3) (kc' := kc - kY272 - kY279) (ks' := ks - sY273 - sY280) (tX3_number  0 1439 X _ h) myX3_number rfl q1141 q1143 qs30 (by decide) (fun s9 H9 hK9 hR9 h69 => jIs_in hK9 hR9 h69 (f_lt hf (by decide)) (fk_9 hf) rfl) rfl (Nat.le_of_ble_eq_true rfl) rfl (by decide) (by omega) (by omega) dX3_told_451 (fun v9 u9 hq => ?_) (fun k9 u9 hq => by rcases hq with ⟨_, _, _, _, _, _, e9, _⟩ | ⟨n9, K9, A9, L9, G9, e9, e8, hX⟩; exact nomatch e9; rw [hP]; exact Or.inr ⟨n9, K9, A9, L9, G9, e9, e8, hX⟩)
    rcases hq with hq | ⟨n9, K9, A9, L9, G9, e9, e8, hX⟩
    rotate_left
    · exact nomatch e9
    obtain ⟨r281, n282, K283, A284, Lg285, G286, e9, rfl, h⟩ := hq
    obtain rfl := Sum.inl.inj e9
    show J Γ RX3 cX3_told 5 none "told" [] 142 (kc - kY272 - kY279) (ks - sY273 - sY280) 454 [(0, .ref 9), (1, .int l1)] [.int r281, .ref tx] (n282, K283, A284, Lg285, G286) P
    obtain ⟨hx, h⟩ := h
    refine j_putfiE (fp_X3_199_4 _) rfl rfl rfl (x_lt hx (j := 0) (by decide)) (xk_0 hx) dX3_told_454 (fun A287 eA287 => ?_)
    replace h := h A287 eA287
    refine j_goto (tgt := 466) dX3_told_457 (by decide) ?_
    refine j_vret rfl ?_ dX3_told_466
    rw [hP]
    exact Or.inl ⟨n282, K283, A287, Lg285, G286, rfl, rfl, h⟩
  rw [if_neg c271] at h
  refine j_tableOut (tgt := 460) (by have c9T := lv_neT c9 (a := 0) rfl; have c49T := lv_neT c49 (a := 1) rfl; have c80T := lv_neT c80 (a := 2) rfl; have c147T := lv_neT c147 (a := 3) rfl; have c205T := lv_neT c205 (a := 4) rfl; have c213T := lv_neT c213 (a := 5) rfl; have c221T := lv_neT c221 (a := 6) rfl; have c229T := lv_neT c229 (a := 7) rfl; have c237T := lv_neT c237 (a := 8) rfl; have c245T := lv_neT c245 (a := 9) rfl; have c271T := lv_neT c271 (a := 10) rfl; omega) dX3_told_57 (by decide) ?_
  refine j_aload_n 0 rfl dX3_told_460 ?_
  refine j_iconst (v := 1) dX3_told_461 (by decide) ?_
  obtain ⟨kY2, sY3, kY2h, sY3h, h⟩ := h
  obtain ⟨hf, h⟩ := h
  refine j_callV (b := 9) (As := [.int 1]) (st := []) (C := RX3) (kc' := kc - kY2) (ks' := ks - sY3) (tX3_wrong  1 _ h) myX3_wrong rfl q711 q713 qs9 (by decide) (fun s9 H9 hK9 hR9 h69 => jIs_in hK9 hR9 h69 (f_lt hf (by decide)) (fk_9 hf) rfl) rfl (Nat.le_of_ble_eq_true rfl) rfl (by decide) (by omega) (by omega) dX3_told_462 (fun v9 u9 hq => ?_) (fun k9 u9 hq => by obtain ⟨_, _, _, _, _, e9, _⟩ := hq; cases e9)
  obtain ⟨n4, K5, A6, Lg7, G8, e9, rfl, h⟩ := hq
  obtain rfl := Sum.inl.inj e9
  show J Γ RX3 cX3_told 5 none "told" [] 142 (kc - kY2) (ks - sY3) 465 [(0, .ref 9), (1, .int l1)] [.ref 1] (n4, K5, A6, Lg7, G8) P
  obtain ⟨hf, h⟩ := h
  refine j_athrow (k := 1) (f_lt hf (by decide)) (fk_1 hf) ?_ dX3_told_465
  rw [hP]
  exact Or.inr ⟨n4, K5, A6, Lg7, G8, rfl, rfl, h⟩
def fX3_told_J24 (tx : Nat)  (X : Nat → (Nat → pKd) → pA → pL → pG → Prop) (Q : Nat → (Nat → pKd) → pA → pL → pG → Prop) (s0 : Int32) (n : Nat) (K : Nat → pKd) (A : pA) (Lg : pL) (G : pG) (kc : Nat) (ks : Nat) : Prop :=
    (if s0 < 5 then fX3_told_J56 tx  X Q s0 n K A Lg G kc ks else (if 8 < s0 then fX3_told_J56 tx  X Q s0 n K A Lg G kc ks else ∃ kY288 sY289 : Nat, kY288 ≤ kc ∧ sY289 ≤ ks ∧ ((fOK n K G) ∧ (fX3_pass n K A Lg G kY288 sY289 X (fun n290 K291 A292 Lg293 G294 => (fOK n290 K291 G294) ∧ ((G294 9 2 = .ref tx) ∧ ((xOK n290 K291 G294 tx) ∧ (∃ kY295 sY296 : Nat, kY295 ≤ kc - kY288 ∧ sY296 ≤ ks - sY289 ∧ (fX3_law n290 K291 A292 Lg293 G294 kY295 sY296 X (fun r297 n298 K299 A300 Lg301 G302 => (vp_in (s0 - 5) 4) ∧ ((n298 ≤ 1000000) ∧ ((r297 < n298) ∧ ((K299 r297 = .inl 10) ∧ ((xOK n298 K299 G302 tx) ∧ (∀ G304 : pG, G304 = pup G302 (tx + 6) (s0 - 5).toNatClampNeg (.ref r297) → Q n298 K299 A300 Lg301 G304)))))))))))))))
theorem fX3_told_J24_ok {Γ : jG} (tx : Nat) (X : Nat → (Nat → pKd) → pA → pL → pG → Prop) (Q : Nat → (Nat → pKd) → pA → pL → pG → Prop) (P : jO → pS → Prop) (hP : P = (fun o u => (∃ (n' : Nat) (K' : Nat → pKd) (A' : pA) (Lg' : pL) (G' : pG), o = .inl none ∧ u = (n', K', A', Lg', G') ∧ Q n' K' A' Lg' G') ∨ (∃ (n' : Nat) (K' : Nat → pKd) (A' : pA) (Lg' : pL) (G' : pG), o = .inr 1 ∧ u = (n', K', A', Lg', G') ∧ X n' K' A' Lg' G')))   (s0 : Int32) (n : Nat) (K : Nat → pKd) (A : pA) (Lg : pL) (G : pG) (kc : Nat) (ks : Nat) (h : fX3_told_J24 tx  X Q s0 n K A Lg G kc ks) : J Γ RX3 cX3_told 5 none "told" [] 142 kc ks 24 [(0, .ref 9)] [.int s0] (n, K, A, Lg, G) P := by
  unfold fX3_told_J24 at h
  refine j_istore_n (by decide) rfl dX3_told_24 ?_
  refine j_iload_n 0 rfl dX3_told_25 ?_
  refine j_iconst (v := 5) dX3_told_26 (by decide) ?_
  refine j_icmp_lt (tgt := 56) dX3_told_27 (by decide) (fun c => ?_) (fun c => ?_)
  · rw [if_pos c] at h
    refine j_ls [1, 0] rfl ?_
    exact fX3_told_J56_ok  tx X Q P hP   s0 n K A Lg G kc ks h
  · rw [if_neg c] at h
    refine j_iload_n 0 rfl dX3_told_30 ?_
    refine j_bipush (v := 8) dX3_told_31 (by decide) ?_
    refine j_icmp_gt (tgt := 56) dX3_told_33 (by decide) (fun c => ?_) (fun c => ?_)
    · rw [if_pos c] at h
      refine j_ls [1, 0] rfl ?_
      exact fX3_told_J56_ok  tx X Q P hP   s0 n K A Lg G kc ks h
    · rw [if_neg c] at h
      refine j_aload_n 1 rfl dX3_told_36 ?_
      obtain ⟨kY288, sY289, kY288h, sY289h, h⟩ := h
      obtain ⟨hf, h⟩ := h
      refine j_callV (b := 9) (As := []) (st := []) (C := RX3) (kc' := kc - kY288) (ks' := ks - sY289) (tX3_pass   X _ h) myX3_pass rfl q727 q729 qs12 (by decide) (fun s9 H9 hK9 hR9 h69 => jIs_in hK9 hR9 h69 (f_lt hf (by decide)) (fk_9 hf) rfl) rfl (Nat.le_of_ble_eq_true rfl) rfl (by decide) (by omega) (by omega) dX3_told_37 (fun v9 u9 hq => ?_) (fun k9 u9 hq => by rcases hq with ⟨_, _, _, _, _, e9, _⟩ | ⟨n9, K9, A9, L9, G9, e9, e8, hX⟩; exact nomatch e9; rw [hP]; exact Or.inr ⟨n9, K9, A9, L9, G9, e9, e8, hX⟩)
      rcases hq with hq | ⟨n9, K9, A9, L9, G9, e9, e8, hX⟩
      rotate_left
      · exact nomatch e9
      obtain ⟨n290, K291, A292, Lg293, G294, e9, rfl, h⟩ := hq
      obtain rfl := Sum.inl.inj e9
      show J Γ RX3 cX3_told 5 none "told" [] 142 (kc - kY288) (ks - sY289) 40 [(1, .int s0), (0, .ref 9)] [] (n290, K291, A292, Lg293, G294) P
      refine j_aload_n 1 rfl dX3_told_40 ?_
      obtain ⟨hf, h⟩ := h
      obtain ⟨ht, h⟩ := h
      refine j_getfr fl_X3_83_3 rfl (f_lt hf (by decide)) (fk_9 hf) ht dX3_told_41 ?_
      obtain ⟨hx, h⟩ := h
      refine j_getfr fl_X3_112_4 rfl (x_lt hx (j := 0) (by decide)) (xk_0 hx) (xg_0_5 hx) dX3_told_44 ?_
      refine j_iload_n 0 rfl dX3_told_47 ?_
      refine j_iconst (v := 5) dX3_told_48 (by decide) ?_
      refine j_isub dX3_told_49 ?_
      refine j_aload_n 1 rfl dX3_told_50 ?_
      obtain ⟨kY295, sY296, kY295h, sY296h, h⟩ := h
      refine j_callV (b := 9) (As := []) (st := [.int (s0 - 5), .ref (tx + 6)]) (C := RX3) (kc' := kc - kY288 - kY295) (ks' := ks - sY289 - sY296) (tX3_law   X _ h) myX3_law rfl q731 q733 qs13 (by decide) (fun s9 H9 hK9 hR9 h69 => jIs_in hK9 hR9 h69 (f_lt hf (by decide)) (fk_9 hf) rfl) rfl (Nat.le_of_ble_eq_true rfl) rfl (by decide) (by omega) (by omega) dX3_told_51 (fun v9 u9 hq => ?_) (fun k9 u9 hq => by rcases hq with ⟨_, _, _, _, _, _, e9, _⟩ | ⟨n9, K9, A9, L9, G9, e9, e8, hX⟩; exact nomatch e9; rw [hP]; exact Or.inr ⟨n9, K9, A9, L9, G9, e9, e8, hX⟩)
      rcases hq with hq | ⟨n9, K9, A9, L9, G9, e9, e8, hX⟩
      rotate_left
      · exact nomatch e9
      obtain ⟨r297, n298, K299, A300, Lg301, G302, e9, rfl, h⟩ := hq
      obtain rfl := Sum.inl.inj e9
      show J Γ RX3 cX3_told 5 none "told" [] 142 (kc - kY288 - kY295) (ks - sY289 - sY296) 54 [(1, .int s0), (0, .ref 9)] [.ref r297, .int (s0 - 5), .ref (tx + 6)] (n298, K299, A300, Lg301, G302) P
      obtain ⟨b303, h⟩ := h
      obtain ⟨hn6, h⟩ := h
      obtain ⟨b305, h⟩ := h
      obtain ⟨b306, h⟩ := h
      obtain ⟨hx, h⟩ := h
      refine j_aastE (t := 7) (j := (s0 - 5).toNatClampNeg) (C := "DogsHour$Law") rfl rfl (x_lt hx (j := 6) (by decide)) (xk_6 hx) b303 rfl (j_l2 hn6 b305) (fun s9 H9 hK9 hR9 h69 => jIs_in hK9 hR9 h69 b305 b306 rfl) (Or.inl rfl) dX3_told_54 (fun G304 eG304 => ?_)
      replace h := h G304 eG304
      refine j_vret rfl ?_ dX3_told_55
      rw [hP]
      exact Or.inl ⟨n298, K299, A300, Lg301, G304, rfl, rfl, h⟩
def fX3_told (tx : Nat) (n : Nat) (K : Nat → pKd) (A : pA) (Lg : pL) (G : pG) (kc : Nat) (ks : Nat) (X : Nat → (Nat → pKd) → pA → pL → pG → Prop) (Q : Nat → (Nat → pKd) → pA → pL → pG → Prop) : Prop :=
    ∃ kY307 sY308 : Nat, kY307 ≤ kc ∧ sY308 ≤ ks ∧ ((fOK n K G) ∧ (fX3_sort n K A Lg G kY307 sY308 X (fun r309 n310 K311 A312 Lg313 G314 => (if r309 = 3 then (fOK n310 K311 G314) ∧ ((vp_in (A312 9 3) 2001) ∧ (fX3_told_J24 tx  X Q (A312 8 (A312 9 3).toNatClampNeg) n310 K311 A312 Lg313 G314 (kc - kY307) (ks - sY308))) else fX3_told_J24 tx  X Q (-1) n310 K311 A312 Lg313 G314 (kc - kY307) (ks - sY308)))))
theorem tX3_told {Γ : jG} {n : Nat} {K : Nat → pKd} {G : pG} {A : pA} {Lg : pL} {kc ks : Nat} (tx : Nat)  (X : Nat → (Nat → pKd) → pA → pL → pG → Prop) (Q : Nat → (Nat → pKd) → pA → pL → pG → Prop) (h : fX3_told tx n K A Lg G kc ks X Q) : jMet Γ yX3_told cX3_told 5 none [] 142 kc ks [.ref 9] (n, K, A, Lg, G) (fun o u => (∃ (n' : Nat) (K' : Nat → pKd) (A' : pA) (Lg' : pL) (G' : pG), o = .inl none ∧ u = (n', K', A', Lg', G') ∧ Q n' K' A' Lg' G') ∨ (∃ (n' : Nat) (K' : Nat → pKd) (A' : pA) (Lg' : pL) (G' : pG), o = .inr 1 ∧ u = (n', K', A', Lg', G') ∧ X n' K' A' Lg' G')) := by
  unfold fX3_told at h
  obtain ⟨P, hP⟩ : ∃ P : jO → pS → Prop, P = (fun o u => (∃ (n' : Nat) (K' : Nat → pKd) (A' : pA) (Lg' : pL) (G' : pG), o = .inl none ∧ u = (n', K', A', Lg', G') ∧ Q n' K' A' Lg' G') ∨ (∃ (n' : Nat) (K' : Nat → pKd) (A' : pA) (Lg' : pL) (G' : pG), o = .inr 1 ∧ u = (n', K', A', Lg', G') ∧ X n' K' A' Lg' G')) := ⟨_, rfl⟩
  rw [← hP]
  refine jMet_of rfl rfl rfl (Nat.le_of_ble_eq_true rfl) ?_
  show J Γ RX3 cX3_told 5 none "told" [] 142 kc ks 0 [(0, .ref 9)] [] (n, K, A, Lg, G) P
  refine j_aload_n 0 rfl dX3_told_0 ?_
  obtain ⟨kY307, sY308, kY307h, sY308h, h⟩ := h
  obtain ⟨hf, h⟩ := h
  refine j_callV (b := 9) (As := []) (st := []) (C := RX3) (kc' := kc - kY307) (ks' := ks - sY308) (tX3_sort   X _ h) myX3_sort rfl q707 q709 qs8 (by decide) (fun s9 H9 hK9 hR9 h69 => jIs_in hK9 hR9 h69 (f_lt hf (by decide)) (fk_9 hf) rfl) rfl (Nat.le_of_ble_eq_true rfl) rfl (by decide) (by omega) (by omega) dX3_told_1 (fun v9 u9 hq => ?_) (fun k9 u9 hq => by rcases hq with ⟨_, _, _, _, _, _, e9, _⟩ | ⟨n9, K9, A9, L9, G9, e9, e8, hX⟩; exact nomatch e9; rw [hP]; exact Or.inr ⟨n9, K9, A9, L9, G9, e9, e8, hX⟩)
  rcases hq with hq | ⟨n9, K9, A9, L9, G9, e9, e8, hX⟩
  rotate_left
  · exact nomatch e9
  obtain ⟨r309, n310, K311, A312, Lg313, G314, e9, rfl, h⟩ := hq
  obtain rfl := Sum.inl.inj e9
  show J Γ RX3 cX3_told 5 none "told" [] 142 (kc - kY307) (ks - sY308) 4 [(0, .ref 9)] [.int r309] (n310, K311, A312, Lg313, G314) P
  refine j_iconst (v := 3) dX3_told_4 (by decide) ?_
  refine j_icmp_ne (tgt := 23) dX3_told_5 (by decide) (fun c => ?_) (fun c => ?_)
  · rw [if_neg c] at h
    refine j_iconst (v := (-1)) dX3_told_23 (by decide) ?_
    exact fX3_told_J24_ok  tx X Q P hP   (-1) n310 K311 A312 Lg313 G314 (kc - kY307) (ks - sY308) h
  · rw [if_pos c] at h
    refine j_aload_n 0 rfl dX3_told_8 ?_
    obtain ⟨hf, h⟩ := h
    refine j_getfr fl_X3_9_3 rfl (f_lt hf (by decide)) (fk_9 hf) (fg_9_0 hf) dX3_told_9 ?_
    refine j_getfr fl_X3_52_2 rfl (f_lt hf (by decide)) (fk_2 hf) (fg_2_6 hf) dX3_told_12 ?_
    refine j_aload_n 0 rfl dX3_told_15 ?_
    refine j_getfi fl_X3_31_3 rfl (f_lt hf (by decide)) (fk_9 hf) dX3_told_16 ?_
    obtain ⟨b315, h⟩ := h
    refine j_saldJ (j := (A312 9 3).toNatClampNeg) (f_lt hf (by decide)) (fk_8 hf) b315 rfl dX3_told_19 ?_
    refine j_goto (tgt := 24) dX3_told_20 (by decide) ?_
    exact fX3_told_J24_ok  tx X Q P hP   (A312 8 (A312 9 3).toNatClampNeg) n310 K311 A312 Lg313 G314 (kc - kY307) (ks - sY308) h
theorem myX3_read : jY yX3_read cX3_read 1 (some (.object "DogsHour$Text"))  0 := ⟨q630, q127, by decide +kernel, by decide +kernel, by decide⟩
def fX3_read_L33   (X : Nat → (Nat → pKd) → pA → pL → pG → Prop) (Q : Nat → Nat → (Nat → pKd) → pA → pL → pG → Prop) : Nat → Nat → (Nat → pKd) → pA → pL → pG → Nat → Nat → Prop
  | 0, _, _, _, _, _, _, _ => False
  | n9 + 1, n, K, A, Lg, G, kc, ks =>
    ∃ kY1 sY2 : Nat, kY1 ≤ kc ∧ sY2 ≤ ks ∧ ((fOK n K G) ∧ (fX3_sort n K A Lg G kY1 sY2 X (fun r3 n4 K5 A6 Lg7 G8 => (if r3 = 4 then (fOK n4 K5 G8) ∧ ((if (A6 9 5) = 0 then ∃ e9 : Nat, G8 9 2 = .ref e9 ∧ ((xOK n4 K5 G8 e9) ∧ ((n4 ≤ 1000000) ∧ (fX4_laysFar e9 n4 K5 A6 G8 (fun A11 => ∃ e12 : Nat, G8 9 2 = .ref e12 ∧ (Q e12 n4 K5 A11 Lg7 G8))))) else ∃ kY14 sY15 : Nat, kY14 ≤ kc - kY1 ∧ sY15 ≤ ks - sY2 ∧ (fX3_wrongAt n4 K5 A6 Lg7 G8 kY14 sY15 (A6 9 5) (A6 9 6) (fun n16 K17 A18 Lg19 G20 => (fOK n16 K17 G20) ∧ (X n16 K17 A18 Lg19 G20))))) else ∃ tx21 : Nat, ∃ kY22 sY23 : Nat, kY22 ≤ kc - kY1 ∧ sY23 ≤ ks - sY2 ∧ ((fOK n4 K5 G8) ∧ (fX3_told tx21 n4 K5 A6 Lg7 G8 kY22 sY23 X (fun n24 K25 A26 Lg27 G28 => ∃ kY29 sY30 : Nat, kY29 ≤ kc - kY1 - kY22 ∧ sY30 ≤ ks - sY2 - sY23 ∧ ((fOK n24 K25 G28) ∧ (fX3_sign n24 K25 A26 Lg27 G28 kY29 sY30 59 X (fun n31 K32 A33 Lg34 G35 => fX3_read_L33   X Q n9 n31 K32 A33 Lg34 G35 (kc - kY1 - kY22 - kY29) (ks - sY2 - sY23 - sY30)))))))))))
theorem fX3_read_L33_ok {Γ : jG} (X : Nat → (Nat → pKd) → pA → pL → pG → Prop) (Q : Nat → Nat → (Nat → pKd) → pA → pL → pG → Prop) (P : jO → pS → Prop) (hP : P = (fun o u => (∃ (r : Nat) (n' : Nat) (K' : Nat → pKd) (A' : pA) (Lg' : pL) (G' : pG), o = .inl (some (.ref r)) ∧ u = (n', K', A', Lg', G') ∧ Q r n' K' A' Lg' G') ∨ (∃ (n' : Nat) (K' : Nat → pKd) (A' : pA) (Lg' : pL) (G' : pG), o = .inr 1 ∧ u = (n', K', A', Lg', G') ∧ X n' K' A' Lg' G')))    : ∀ (n9 : Nat) (n : Nat) (K : Nat → pKd) (A : pA) (Lg : pL) (G : pG) (kc : Nat) (ks : Nat), fX3_read_L33   X Q n9 n K A Lg G kc ks → J Γ RX3 cX3_read 1 (some (.object "DogsHour$Text")) "read" [] 143 kc ks 33 [(0, .ref 9)] [] (n, K, A, Lg, G) P := by
  intro n9
  induction n9 with
  | zero => intro n K A Lg G kc ks h; exact h.elim
  | succ n9 ih =>
    intro n K A Lg G kc ks h
    unfold fX3_read_L33 at h
    refine j_aload_n 0 rfl dX3_read_33 ?_
    obtain ⟨kY1, sY2, kY1h, sY2h, h⟩ := h
    obtain ⟨hf, h⟩ := h
    refine j_callV (b := 9) (As := []) (st := []) (C := RX3) (kc' := kc - kY1) (ks' := ks - sY2) (tX3_sort   X _ h) myX3_sort rfl q707 q709 qs8 (by decide) (fun s9 H9 hK9 hR9 h69 => jIs_in hK9 hR9 h69 (f_lt hf (by decide)) (fk_9 hf) rfl) rfl (Nat.le_of_ble_eq_true rfl) rfl (by decide) (by omega) (by omega) dX3_read_34 (fun v9 u9 hq => ?_) (fun k9 u9 hq => by rcases hq with ⟨_, _, _, _, _, _, e9, _⟩ | ⟨n9, K9, A9, L9, G9, e9, e8, hX⟩; exact nomatch e9; rw [hP]; exact Or.inr ⟨n9, K9, A9, L9, G9, e9, e8, hX⟩)
    rcases hq with hq | ⟨n9, K9, A9, L9, G9, e9, e8, hX⟩
    rotate_left
    · exact nomatch e9
    obtain ⟨r3, n4, K5, A6, Lg7, G8, e9, rfl, h⟩ := hq
    obtain rfl := Sum.inl.inj e9
    show J Γ RX3 cX3_read 1 (some (.object "DogsHour$Text")) "read" [] 143 (kc - kY1) (ks - sY2) 37 [(0, .ref 9)] [.int r3] (n4, K5, A6, Lg7, G8) P
    refine j_iconst (v := 4) dX3_read_37 (by decide) ?_
    refine j_icmp_eq (tgt := 54) dX3_read_38 (by decide) (fun c => ?_) (fun c => ?_)
    · rw [if_pos c] at h
      refine j_aload_n 0 rfl dX3_read_54 ?_
      obtain ⟨hf, h⟩ := h
      refine j_getfi fl_X3_38_3 rfl (f_lt hf (by decide)) (fk_9 hf) dX3_read_55 ?_
      refine j_if_eq (tgt := 74) dX3_read_58 (by decide) (fun c => ?_) (fun c => ?_)
      · rw [if_pos c] at h
        refine j_aload_n 0 rfl dX3_read_74 ?_
        obtain ⟨e9, e9h, h⟩ := h
        refine j_getfr fl_X3_83_3 rfl (f_lt hf (by decide)) (fk_9 hf) e9h dX3_read_75 ?_
        obtain ⟨b10, h⟩ := h
        obtain ⟨hn6, h⟩ := h
        refine j_callV (b := e9) (As := []) (st := []) (C := RX4) (kc' := kc - kY1) (ks' := ks - sY2) (tX4_laysFar hf e9 b10 _ h) myX4_laysFar rfl q1170 q1171 q1172 (j_l2 hn6 (x_lt b10 (j := 0) (by decide))) (fun s9 H9 hK9 hR9 h69 => jIs_in hK9 hR9 h69 (x_lt b10 (j := 0) (by decide)) (xk_0 b10) rfl) rfl (Nat.le_of_ble_eq_true rfl) rfl (by decide) (Nat.le_refl _) (Nat.le_refl _) dX3_read_78 (fun v9 u9 hq => ?_) (fun k9 u9 hq => by obtain ⟨_, e9, _⟩ := hq; cases e9)
        obtain ⟨A11, e9, rfl, h⟩ := hq
        obtain rfl := Sum.inl.inj e9
        show J Γ RX3 cX3_read 1 (some (.object "DogsHour$Text")) "read" [] 143 (kc - kY1) (ks - sY2) 81 [(0, .ref 9)] [] (n4, K5, A11, Lg7, G8) P
        refine j_aload_n 0 rfl dX3_read_81 ?_
        obtain ⟨e12, e12h, h⟩ := h
        refine j_getfr fl_X3_83_3 rfl (f_lt hf (by decide)) (fk_9 hf) e12h dX3_read_82 ?_
        refine j_aret rfl (by first | exact Or.inl ⟨_, rfl⟩ | exact Or.inr ⟨_, rfl⟩) (Or.inr ⟨_, rfl⟩) ?_ dX3_read_85
        rw [hP]
        exact Or.inl ⟨e12, n4, K5, A11, Lg7, G8, rfl, rfl, h⟩
      · rw [if_neg c] at h
        refine j_aload_n 0 rfl dX3_read_61 ?_
        refine j_aload_n 0 rfl dX3_read_62 ?_
        refine j_getfi fl_X3_38_3 rfl (f_lt hf (by decide)) (fk_9 hf) dX3_read_63 ?_
        refine j_aload_n 0 rfl dX3_read_66 ?_
        refine j_getfi fl_X3_41_3 rfl (f_lt hf (by decide)) (fk_9 hf) dX3_read_67 ?_
        obtain ⟨kY14, sY15, kY14h, sY15h, h⟩ := h
        refine j_callV (b := 9) (As := [.int (A6 9 5), .int (A6 9 6)]) (st := []) (C := RX3) (kc' := kc - kY1 - kY14) (ks' := ks - sY2 - sY15) (tX3_wrongAt  (A6 9 5) (A6 9 6) _ h) myX3_wrongAt rfl q715 q717 qs10 (by decide) (fun s9 H9 hK9 hR9 h69 => jIs_in hK9 hR9 h69 (f_lt hf (by decide)) (fk_9 hf) rfl) rfl (Nat.le_of_ble_eq_true rfl) rfl (by decide) (by omega) (by omega) dX3_read_70 (fun v9 u9 hq => ?_) (fun k9 u9 hq => by obtain ⟨_, _, _, _, _, e9, _⟩ := hq; cases e9)
        obtain ⟨n16, K17, A18, Lg19, G20, e9, rfl, h⟩ := hq
        obtain rfl := Sum.inl.inj e9
        show J Γ RX3 cX3_read 1 (some (.object "DogsHour$Text")) "read" [] 143 (kc - kY1 - kY14) (ks - sY2 - sY15) 73 [(0, .ref 9)] [.ref 1] (n16, K17, A18, Lg19, G20) P
        obtain ⟨hf, h⟩ := h
        refine j_athrow (k := 1) (f_lt hf (by decide)) (fk_1 hf) ?_ dX3_read_73
        rw [hP]
        exact Or.inr ⟨n16, K17, A18, Lg19, G20, rfl, rfl, h⟩
    · rw [if_neg c] at h
      refine j_aload_n 0 rfl dX3_read_41 ?_
      obtain ⟨tx21, h⟩ := h
      obtain ⟨kY22, sY23, kY22h, sY23h, h⟩ := h
      obtain ⟨hf, h⟩ := h
      refine j_callV (b := 9) (As := []) (st := []) (C := RX3) (kc' := kc - kY1 - kY22) (ks' := ks - sY2 - sY23) (tX3_told  tx21 X _ h) myX3_told rfl q723 q725 qs11 (by decide) (fun s9 H9 hK9 hR9 h69 => jIs_in hK9 hR9 h69 (f_lt hf (by decide)) (fk_9 hf) rfl) rfl (Nat.le_of_ble_eq_true rfl) rfl (by decide) (by omega) (by omega) dX3_read_42 (fun v9 u9 hq => ?_) (fun k9 u9 hq => by rcases hq with ⟨_, _, _, _, _, e9, _⟩ | ⟨n9, K9, A9, L9, G9, e9, e8, hX⟩; exact nomatch e9; rw [hP]; exact Or.inr ⟨n9, K9, A9, L9, G9, e9, e8, hX⟩)
      rcases hq with hq | ⟨n9, K9, A9, L9, G9, e9, e8, hX⟩
      rotate_left
      · exact nomatch e9
      obtain ⟨n24, K25, A26, Lg27, G28, e9, rfl, h⟩ := hq
      obtain rfl := Sum.inl.inj e9
      show J Γ RX3 cX3_read 1 (some (.object "DogsHour$Text")) "read" [] 143 (kc - kY1 - kY22) (ks - sY2 - sY23) 45 [(0, .ref 9)] [] (n24, K25, A26, Lg27, G28) P
      refine j_aload_n 0 rfl dX3_read_45 ?_
      refine j_bipush (v := 59) dX3_read_46 (by decide) ?_
      obtain ⟨kY29, sY30, kY29h, sY30h, h⟩ := h
      obtain ⟨hf, h⟩ := h
      refine j_callV (b := 9) (As := [.int 59]) (st := []) (C := RX3) (kc' := kc - kY1 - kY22 - kY29) (ks' := ks - sY2 - sY23 - sY30) (tX3_sign  59 X _ h) myX3_sign rfl q760 q762 qs14 (by decide) (fun s9 H9 hK9 hR9 h69 => jIs_in hK9 hR9 h69 (f_lt hf (by decide)) (fk_9 hf) rfl) rfl (Nat.le_of_ble_eq_true rfl) rfl (by decide) (by omega) (by omega) dX3_read_48 (fun v9 u9 hq => ?_) (fun k9 u9 hq => by rcases hq with ⟨_, _, _, _, _, e9, _⟩ | ⟨n9, K9, A9, L9, G9, e9, e8, hX⟩; exact nomatch e9; rw [hP]; exact Or.inr ⟨n9, K9, A9, L9, G9, e9, e8, hX⟩)
      rcases hq with hq | ⟨n9, K9, A9, L9, G9, e9, e8, hX⟩
      rotate_left
      · exact nomatch e9
      obtain ⟨n31, K32, A33, Lg34, G35, e9, rfl, h⟩ := hq
      obtain rfl := Sum.inl.inj e9
      show J Γ RX3 cX3_read 1 (some (.object "DogsHour$Text")) "read" [] 143 (kc - kY1 - kY22 - kY29) (ks - sY2 - sY23 - sY30) 51 [(0, .ref 9)] [] (n31, K32, A33, Lg34, G35) P
      refine j_goto (tgt := 33) dX3_read_51 (by decide) ?_
      exact ih n31 K32 A33 Lg34 G35 (kc - kY1 - kY22 - kY29) (ks - sY2 - sY23 - sY30) h
def fX3_read (n : Nat) (K : Nat → pKd) (A : pA) (Lg : pL) (G : pG) (kc : Nat) (ks : Nat) (X : Nat → (Nat → pKd) → pA → pL → pG → Prop) (Q : Nat → Nat → (Nat → pKd) → pA → pL → pG → Prop) : Prop :=
    (fOK n K G) ∧ (fX2_read A (fun A36 => (1 ≤ kc) ∧ ((12 ≤ ks) ∧ (∀ (K37 : Nat → pKd) (A38 : pA) (L39 : pL) (G40 : pG), K37 = pkup K n (.inl 4) → A38 = prow A36 n (fun _ => 0) → L39 = prow Lg n (fun _ => 0) → G40 = prow G n (fun _ => .null) → ∃ kY45 sY46 : Nat, kY45 ≤ kc - 1 ∧ sY46 ≤ ks - 12 ∧ (((n + 1) ≤ 1000000) ∧ (fX4_init n (n + 1) K37 A38 L39 G40 kY45 sY46 (fun n47 K48 A49 Lg50 G51 => (fOK n47 K48 G51) ∧ (∀ G52 : pG, G52 = pup G51 9 2 (.ref n) → (fOK n47 K48 G52) ∧ (∀ A53 : pA, A53 = pup A49 9 3 0 → ∀ A54 : pA, A54 = pup A53 9 4 0 → ∀ A55 : pA, A55 = pup A54 9 5 0 → ∃ m56, fX3_read_L33   X Q m56 n47 K48 A55 Lg50 G52 (kc - 1 - kY45) (ks - 12 - sY46))))))))))
theorem tX3_read {Γ : jG} {n : Nat} {K : Nat → pKd} {G : pG} {A : pA} {Lg : pL} {kc ks : Nat}  (X : Nat → (Nat → pKd) → pA → pL → pG → Prop) (Q : Nat → Nat → (Nat → pKd) → pA → pL → pG → Prop) (h : fX3_read n K A Lg G kc ks X Q) : jMet Γ yX3_read cX3_read 1 (some (.object "DogsHour$Text")) [] 143 kc ks [.ref 9] (n, K, A, Lg, G) (fun o u => (∃ (r : Nat) (n' : Nat) (K' : Nat → pKd) (A' : pA) (Lg' : pL) (G' : pG), o = .inl (some (.ref r)) ∧ u = (n', K', A', Lg', G') ∧ Q r n' K' A' Lg' G') ∨ (∃ (n' : Nat) (K' : Nat → pKd) (A' : pA) (Lg' : pL) (G' : pG), o = .inr 1 ∧ u = (n', K', A', Lg', G') ∧ X n' K' A' Lg' G')) := by
  unfold fX3_read at h
  obtain ⟨P, hP⟩ : ∃ P : jO → pS → Prop, P = (fun o u => (∃ (r : Nat) (n' : Nat) (K' : Nat → pKd) (A' : pA) (Lg' : pL) (G' : pG), o = .inl (some (.ref r)) ∧ u = (n', K', A', Lg', G') ∧ Q r n' K' A' Lg' G') ∨ (∃ (n' : Nat) (K' : Nat → pKd) (A' : pA) (Lg' : pL) (G' : pG), o = .inr 1 ∧ u = (n', K', A', Lg', G') ∧ X n' K' A' Lg' G')) := ⟨_, rfl⟩
  rw [← hP]
  refine jMet_of rfl rfl rfl (Nat.le_of_ble_eq_true rfl) ?_
  show J Γ RX3 cX3_read 1 (some (.object "DogsHour$Text")) "read" [] 143 kc ks 0 [(0, .ref 9)] [] (n, K, A, Lg, G) P
  refine j_aload_n 0 rfl dX3_read_0 ?_
  obtain ⟨hf, h⟩ := h
  refine j_getfr fl_X3_9_3 rfl (f_lt hf (by decide)) (fk_9 hf) (fg_9_0 hf) dX3_read_1 ?_
  refine j_callV (b := 2) (As := []) (st := []) (C := RX2) (kc' := kc) (ks' := ks) (tX2_read hf  _ h) myX2_read rfl q631 q632 q633 (by decide) (fun s9 H9 hK9 hR9 h69 => jIs_in hK9 hR9 h69 (f_lt hf (by decide)) (fk_2 hf) rfl) rfl (Nat.le_of_ble_eq_true rfl) rfl (by decide) (Nat.le_refl _) (Nat.le_refl _) dX3_read_4 (fun v9 u9 hq => ?_) (fun k9 u9 hq => by obtain ⟨_, e9, _⟩ := hq; cases e9)
  obtain ⟨A36, e9, rfl, h⟩ := hq
  obtain rfl := Sum.inl.inj e9
  show J Γ RX3 cX3_read 1 (some (.object "DogsHour$Text")) "read" [] 143 kc ks 7 [(0, .ref 9)] [] (n, K, A36, Lg, G) P
  refine j_aload_n 0 rfl dX3_read_7 ?_
  obtain ⟨b41, h⟩ := h
  obtain ⟨b42, h⟩ := h
  refine j_newE cn_X3_87 b41 b42 dX3_read_8 (fun K37 A38 L39 G40 eK37 eA38 eL39 eG40 => ?_)
  replace h := h K37 A38 L39 G40 eK37 eA38 eL39 eG40
  have b43 : n < (n + 1) := (by omega)
  have b44 : K37 n = .inl 4 := (by rw [eK37]; exact pkup_self)
  refine j_dup rfl dX3_read_11 ?_
  obtain ⟨kY45, sY46, kY45h, sY46h, h⟩ := h
  obtain ⟨hn6, h⟩ := h
  refine j_callIN (b := n) (As := []) (st := [.ref n, .ref 9]) (kc' := kc - 1 - kY45) (ks' := ks - 12 - sY46) (host := "DogsHour") (tX4_init  n _ h) myX4_init rfl (by decide) q334 (j_l2 hn6 b43) rfl (Nat.le_of_ble_eq_true rfl) rfl (by decide) (by omega) (by omega) dX3_read_12 (fun v9 u9 hq => ?_) (fun k9 u9 hq => by obtain ⟨_, _, _, _, _, e9, _⟩ := hq; cases e9)
  obtain ⟨n47, K48, A49, Lg50, G51, e9, rfl, h⟩ := hq
  obtain rfl := Sum.inl.inj e9
  show J Γ RX3 cX3_read 1 (some (.object "DogsHour$Text")) "read" [] 143 (kc - 1 - kY45) (ks - 12 - sY46) 15 [(0, .ref 9)] [.ref n, .ref 9] (n47, K48, A49, Lg50, G51) P
  obtain ⟨hf, h⟩ := h
  refine j_putfrE (fp_X3_83_3 _) rfl (Or.inl ⟨_, rfl⟩) (Or.inr ⟨_, rfl⟩) (f_lt hf (by decide)) (fk_9 hf) dX3_read_15 (fun G52 eG52 => ?_)
  replace h := h G52 eG52
  refine j_aload_n 0 rfl dX3_read_18 ?_
  refine j_iconst (v := 0) dX3_read_19 (by decide) ?_
  obtain ⟨hf, h⟩ := h
  refine j_putfiE (fp_X3_31_3 _) rfl rfl rfl (f_lt hf (by decide)) (fk_9 hf) dX3_read_20 (fun A53 eA53 => ?_)
  replace h := h A53 eA53
  refine j_aload_n 0 rfl dX3_read_23 ?_
  refine j_iconst (v := 0) dX3_read_24 (by decide) ?_
  refine j_putfiE (fp_X3_99_3 _) rfl rfl rfl (f_lt hf (by decide)) (fk_9 hf) dX3_read_25 (fun A54 eA54 => ?_)
  replace h := h A54 eA54
  refine j_aload_n 0 rfl dX3_read_28 ?_
  refine j_iconst (v := 0) dX3_read_29 (by decide) ?_
  refine j_putfiE (fp_X3_38_3 _) rfl rfl rfl (f_lt hf (by decide)) (fk_9 hf) dX3_read_30 (fun A55 eA55 => ?_)
  replace h := h A55 eA55
  obtain ⟨m56, h⟩ := h
  exact fX3_read_L33_ok  X Q P hP   m56 n47 K48 A55 Lg50 G52 (kc - 1 - kY45) (ks - 12 - sY46) h
