set_option maxRecDepth 100000
/-- a minute of peace (0) or of the hour (1) -/
def fTime (o t j : Nat) (n : Nat) (K : Nat → pKd) (A : pA) (G : pG) (Q : pA → Prop) : Prop := (j = 0 ∧ fX8_goes 143 o t n K A G Q) ∨ (j = 1 ∧ fX9_goes 144 o t n K A G Q)
theorem j_callTime {Γ : jG} {own : String} {cc : ByteArray} {L : Nat} {ret : Option FieldType} {nm : String} {dd kc ks pc n index : Nat} {ls : List (Nat × Value)} {st : List Value} {Q : jO → pS → Prop} {K : Nat → pKd} {A : pA} {Lg : pL} {G : pG} {Q1 : pA → Prop} (hf : fOK n K G) (o : Nat) (ho : isT o) (t : Nat) (hx : xOK n K G t) (j : Nat) (hj : j < 2) (h : fTime o t j n K A G Q1) (w1 : Cond.methodLink own index ⟨"DogsHour$Time", "goes", "(LDogsHour$Town;LDogsHour$Text;)V"⟩ ∈ lw_all) (hd : 507 ≤ dd) (hst : (st.map fun v => v.category).sum ≤ 8) (d : decode cc pc = .ok (.invokevirtual index, 3))
    (kn : ∀ A1 : pA, Q1 A1 → J Γ own cc L ret nm [] dd kc ks (pc + 3) ls st (n, K, A1, Lg, G) Q) : J Γ own cc L ret nm [] dd kc ks pc ls (.ref t :: .ref o :: .ref (143 + j) :: st) (n, K, A, Lg, G) Q := by
  have kn' : ∀ (v : Option Value) (u : pS), (∃ (A' : pA), (Sum.inl v : jO) = .inl none ∧ u = (n, K, A', Lg, G) ∧ Q1 A') → J Γ own cc L ret nm [] dd kc ks (pc + 3) ls (v.toList ++ st) u Q := by
    intro v u hq
    obtain ⟨A1, e1, rfl, h⟩ := hq
    obtain rfl := Sum.inl.inj e1
    exact kn A1 h
  have kx : ∀ (k : Nat) (u : pS), (∃ (A' : pA), (Sum.inr k : jO) = .inl none ∧ u = (n, K, A', Lg, G) ∧ Q1 A') → Q (.inr k) u := by
    intro k u hq
    obtain ⟨A1, e1, -⟩ := hq
    cases e1
  rcases h with ⟨rfl, h⟩ | ⟨rfl, h⟩
  · exact j_callVU (x := ⟨"DogsHour$Time", "goes", "(LDogsHour$Town;LDogsHour$Text;)V"⟩) (C := RX8) (owner := "DogsHour$Time") (b := 143) (As := [.ref o, .ref t]) (st := st) (kc' := kc) (ks' := ks) (tX8_goes hf 143 (f_lt hf (by decide)) (fk_143 hf) o ho t hx _ h) myX8_goes w1 q1343 (Or.inl (by decide)) (by decide) q1359 q1360 rfl (by decide) (fun s9 H9 hK9 hR9 h69 => jIs_in hK9 hR9 h69 (f_lt hf (by decide)) (fk_143 hf) rfl) rfl hst rfl (by omega) (by omega) (by omega) d kn' kx
  · exact j_callVU (x := ⟨"DogsHour$Time", "goes", "(LDogsHour$Town;LDogsHour$Text;)V"⟩) (C := RX9) (owner := "DogsHour$Time") (b := 144) (As := [.ref o, .ref t]) (st := st) (kc' := kc) (ks' := ks) (tX9_goes hf 144 (f_lt hf (by decide)) (fk_144 hf) o ho t hx _ h) myX9_goes w1 q1343 (Or.inl (by decide)) (by decide) q1344 q1345 rfl (by decide) (fun s9 H9 hK9 hR9 h69 => jIs_in hK9 hR9 h69 (f_lt hf (by decide)) (fk_144 hf) rfl) rfl hst rfl (by omega) (by omega) (by omega) d kn' kx
