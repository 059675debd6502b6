set_option maxRecDepth 100000
def jSumQ (n : Nat) (K : Nat → pKd) (Lg : pL) (G : pG) (Q : Int32 → pA → Prop) : jO → pS → Prop := fun o u => ∃ (r : Int32) (A' : pA), o = .inl (some (.int r)) ∧ u = (n, K, A', Lg, G) ∧ Q r A'
def jSumC (Γ : jG) (dR o n : Nat) (K : Nat → pKd) (Lg : pL) (G : pG) (a : Nat) (A : pA) (Q : Int32 → pA → Prop) : Prop := a < n ∧ ((K a = .inl 11 ∧ ∃ (dY : Nat) (Q2 : jO → pS → Prop), dY ≤ dR ∧ (∀ o9 u9, Q2 o9 u9 → jSumQ n K Lg G Q o9 u9) ∧ jMet Γ yX13_of cX13_of 2 (some .int) [] dY 0 0 [.ref a, .ref (o + 21)] (n, K, A, Lg, G) Q2) ∨ (K a = .inl 12 ∧ ∃ (dY : Nat) (Q2 : jO → pS → Prop), dY ≤ dR ∧ (∀ o9 u9, Q2 o9 u9 → jSumQ n K Lg G Q o9 u9) ∧ jMet Γ yX14_of cX14_of 2 (some .int) [] dY 0 0 [.ref a, .ref (o + 21)] (n, K, A, Lg, G) Q2) ∨ (K a = .inl 13 ∧ ∃ (dY : Nat) (Q2 : jO → pS → Prop), dY ≤ dR ∧ (∀ o9 u9, Q2 o9 u9 → jSumQ n K Lg G Q o9 u9) ∧ jMet Γ yX15_of cX15_of 4 (some .int) [] dY 0 0 [.ref a, .ref (o + 21)] (n, K, A, Lg, G) Q2))
theorem myX15_ofA : jY yX15_of cX15_of 4 (some .int) 1 := ⟨q1264, q147, by decide +kernel, by decide +kernel, by decide⟩
theorem j_callSum {Γ : jG} {own : String} {cc : ByteArray} {L : Nat} {ret : Option FieldType} {nm : String} {dd kc ks pc dR o n index a : Nat} {ls : List (Nat × Value)} {st : List Value} {Q : jO → pS → Prop} {K : Nat → pKd} {A : pA} {Lg : pL} {G : pG} {Q1 : Int32 → pA → Prop} (hf : fOK n K G) (ho : isT o) (hs : jSumC Γ dR o n K Lg G a A Q1) (w1 : Cond.methodLink own index ⟨"DogsHour$Sum", "of", "(LDogsHour$Asked;)I"⟩ ∈ lw_all) (hd : dR + 1 ≤ dd) (hst : (st.map fun v => v.category).sum ≤ 8) (d : decode cc pc = .ok (.invokevirtual index, 3))
    (kn : ∀ (r : Int32) (A1 : pA), Q1 r A1 → J Γ own cc L ret nm [] dd kc ks (pc + 3) ls (.int r :: st) (n, K, A1, Lg, G) Q) : J Γ own cc L ret nm [] dd kc ks pc ls (.ref (o + 21) :: .ref a :: st) (n, K, A, Lg, G) Q := by
  have kn' : ∀ (v : Option Value) (u : pS), jSumQ n K Lg G Q1 (.inl v) u → J Γ own cc L ret nm [] dd kc ks (pc + 3) ls (v.toList ++ st) u Q := by
    intro v u hq
    obtain ⟨r, A1, e1, rfl, h⟩ := hq
    obtain rfl := Sum.inl.inj e1
    exact kn r A1 h
  have kx : ∀ (k : Nat) (u : pS), jSumQ n K Lg G Q1 (.inr k) u → Q (.inr k) u := by
    intro k u hq
    obtain ⟨r, A1, e1, -⟩ := hq
    cases e1
  obtain ⟨ha, hs⟩ := hs
  rcases hs with ⟨hk, dY, Q2, hdY, hQ2, hM⟩ | ⟨hk, dY, Q2, hdY, hQ2, hM⟩ | ⟨hk, dY, Q2, hdY, hQ2, hM⟩
  · exact j_callVU (x := ⟨"DogsHour$Sum", "of", "(LDogsHour$Asked;)I"⟩) (C := RX13) (owner := "DogsHour$Sum") (b := a) (As := [.ref (o + 21)]) (st := st) (kc' := kc) (ks' := ks) hM myX13_of w1 q1261 (Or.inl (by decide)) (by decide) q1270 q1266 rfl (j_l2 hf.1 ha) (fun s9 H9 hK9 hR9 h69 => jIs_in hK9 hR9 h69 ha hk rfl) rfl hst rfl (by omega) (by omega) (by omega) d (fun v u hq => kn' v u (hQ2 _ _ hq)) (fun k u hq => kx k u (hQ2 _ _ hq))
  · exact j_callVU (x := ⟨"DogsHour$Sum", "of", "(LDogsHour$Asked;)I"⟩) (C := RX14) (owner := "DogsHour$Sum") (b := a) (As := [.ref (o + 21)]) (st := st) (kc' := kc) (ks' := ks) hM myX14_of w1 q1261 (Or.inl (by decide)) (by decide) q1271 q1268 rfl (j_l2 hf.1 ha) (fun s9 H9 hK9 hR9 h69 => jIs_in hK9 hR9 h69 ha hk rfl) rfl hst rfl (by omega) (by omega) (by omega) d (fun v u hq => kn' v u (hQ2 _ _ hq)) (fun k u hq => kx k u (hQ2 _ _ hq))
  · exact j_callVU (x := ⟨"DogsHour$Sum", "of", "(LDogsHour$Asked;)I"⟩) (C := RX15) (owner := "DogsHour$Sum") (b := a) (As := [.ref (o + 21)]) (st := st) (kc' := kc) (ks' := ks) hM myX15_ofA w1 q1261 (Or.inl (by decide)) (by decide) q1262 q1263 rfl (j_l2 hf.1 ha) (fun s9 H9 hK9 hR9 h69 => jIs_in hK9 hR9 h69 ha hk rfl) rfl hst rfl (by omega) (by omega) (by omega) d (fun v u hq => kn' v u (hQ2 _ _ hq)) (fun k u hq => kx k u (hQ2 _ _ hq))
