set_option maxRecDepth 100000
set_option linter.all false
section M
variable {A0 A : pA} {T : Tx} {s B : Nat} {R : Rw}
theorem m_minute (hM : MM A0 T s) (h : MS A0 A R) {Q : Int32 → Prop} (hQ : Q (sMin T R)) : fX10_minuteNow A Q := by
  have s2 := hM.slt
  unfold fX10_minuteNow
  simp (disch := omega) only [n_inT, n_nat, true_and, h.fr, h.fi, h.row, hM.live, hM.st]
  exact hQ
theorem m_farTo (hT : VT T) (hV : VR T B R) (hM : MM A0 T s) (h : MS A0 A R) {d a : Nat} (hd : d < T.dg) (ha : a < T.pe) {Q : Int32 → Prop} (hQ : Q (Int32.ofNat (T.far (ix (R d)) (ix (R (15 + a)))))) : fX10_farTo A (Int32.ofNat d) (Int32.ofNat a) Q := by
  have := hT.pl
  have := hT.dg
  have := hT.pe
  obtain ⟨k, hk, ek⟩ := hV.dog hT d hd
  obtain ⟨k2, hk2, ek2⟩ := hV.at_ hT a ha
  unfold fX10_farTo
  have e3 := hM.far k k2 (by omega) (by omega)
  rw [ek, ek2, n_ix (by omega), n_ix (by omega)] at hQ
  simp (disch := omega) only [n_inT, n_nat, true_and, h.fr, h.row, ek, ek2, n_addL, n_add, n_mulL, e3]
  exact hQ
theorem MS.varE {j : Nat} {v : Int32} {V : Nat → Int32} (hv : ∀ k, k < 9 → A 1234 k = V k) : ∀ k, k < 9 → (pup A 1234 j v) 1234 k = wup V j v k := by
  intro k hk
  rw [pup_row]
  unfold wup
  by_cases c : k = j
  · rw [if_pos c, if_pos c]
  · rw [if_neg c, if_neg c]; exact hv k hk
theorem m_looksAtDog (hT : VT T) (hM : MM A0 T s) (h : MS A0 A R) {d : Nat} (hd : d < T.dg) {Q : pA → Prop} (hQ : ∀ A', MS A0 A' R → (∀ k, k < 9 → A' 1234 k = sVarD T R d k) → Q A') : fX10_looksAtDog A (Int32.ofNat d) Q := by
  have s2 := hM.slt
  have := hT.dg
  unfold fX10_looksAtDog
  refine lp_up (fun m i (x : pA) => fX10_looksAtDog_L2 Q m (Int32.ofNat d) i x) 9 (by omega) (fun i x => MS A0 x R ∧ ∀ k, k < i → x 1234 k = 0) ?_ ?_ A ⟨h, fun k hk => absurd hk (Nat.not_lt_zero k)⟩
  · intro m i x hi ⟨h, hz⟩ hn
    unfold fX10_looksAtDog_L2
    simp (disch := omega) only [n_inT, n_nat, true_and, n_leL]
    rw [if_neg (by omega)]
    intro A11 e11
    rw [n_addR]
    refine hn A11 ⟨by rw [e11]; exact h.var, fun k hk => ?_⟩
    rw [e11, pup_row]
    unfold wup
    by_cases c : k = i
    · rw [if_pos c]
    · rw [if_neg c]; exact hz k (by omega)
  · intro m x ⟨h, hz⟩
    unfold fX10_looksAtDog_L2
    have e1 := hM.bit d hd
    have e2 := hM.hun d hd
    rw [if_pos (by decide)]
    simp (disch := omega) only [n_inT, n_nat, true_and, h.fr, h.fi, hM.live, n_mulL, n_add, e1]
    intro A2 e2'
    have h2 : MS A0 A2 R := by rw [e2']; exact h.var
    simp (disch := omega) only [n_inT, n_nat, true_and, h2.fr, h2.fi, hM.live, n_mulL, n_add, e2]
    intro A4 e4
    have h4 : MS A0 A4 R := by rw [e4]; exact h2.var
    refine m_minute hM h4 ?_
    intro A6 e6 A7 e7
    have h6 : MS A0 A6 R := by rw [e6]; exact h4.var
    have h7 : MS A0 A7 R := by rw [e7]; exact h6.var
    simp (disch := omega) only [n_inT, n_nat, true_and, n_addL, h7.row]
    intro A9 e9
    refine hQ A9 (by rw [e9]; exact h7.var) (fun k hk => ?_)
    rw [e9, e7, e6, e4, e2']
    simp only [pup_row, wup, sVarD]
    rcases (show k = 0 ∨ k = 1 ∨ k = 2 ∨ k = 3 ∨ k = 4 ∨ k = 5 ∨ k = 6 ∨ k = 7 ∨ k = 8 by omega) with rfl | rfl | rfl | rfl | rfl | rfl | rfl | rfl | rfl <;> simp <;> exact hz _ (by omega)
theorem m_looks (hT : VT T) (hV : VR T B R) (hM : MM A0 T s) (h : MS A0 A R) {d a : Nat} (hd : d < T.dg) (ha : a < T.pe) (hv : ∀ k, k < 9 → A 1234 k = sVarD T R d k) {Q : pA → Prop} (hQ : ∀ A', MS A0 A' R → (∀ k, k < 9 → A' 1234 k = sVar T R d a k) → Q A') : fX10_looks A (Int32.ofNat d) (Int32.ofNat a) Q := by
  have s2 := hM.slt
  have := hT.dg
  have := hT.pe
  unfold fX10_looks
  simp (disch := omega) only [n_inT, n_nat, true_and, n_addL, n_mulL, n_add, h.row]
  intro A2 e2
  have h2 : MS A0 A2 R := by rw [e2]; exact h.var
  simp (disch := omega) only [h2.row]
  intro A4 e4
  have h4 : MS A0 A4 R := by rw [e4]; exact h2.var
  refine m_farTo hT hV hM h4 hd ha ?_
  intro A6 e6
  have h6 : MS A0 A6 R := by rw [e6]; exact h4.var
  simp (disch := omega) only [h6.row]
  intro A8 e8
  refine hQ A8 (by rw [e8]; exact h6.var) (fun k hk => ?_)
  rw [e8, e6, e4, e2]
  simp only [pup_row, wup, sVar]
  rcases (show k = 0 ∨ k = 1 ∨ k = 2 ∨ k = 3 ∨ 4 ≤ k by omega) with rfl | rfl | rfl | rfl | c
  · simp
  · simp
  · simp
  · simp
  · rw [if_neg (by omega), if_neg (by omega), if_neg (by omega), if_neg (by omega), if_neg (by omega), if_neg (by omega), if_neg (by omega), if_neg (by omega)]
    exact hv k hk
theorem m_within {x lo hi : Int32} {Q : Int32 → Prop} (hQ : Q (wth x lo hi)) : fX10_within A x lo hi Q := by
  unfold fX10_within
  unfold wth at hQ
  by_cases c1 : x < lo
  · rw [if_neg (Int32.not_le.mpr c1)]; rw [if_pos c1] at hQ; exact hQ
  · rw [if_pos (Int32.not_lt.mp c1)]; rw [if_neg c1] at hQ
    by_cases c2 : hi < x
    · rw [if_neg (Int32.not_le.mpr c2)]; rw [if_pos c2] at hQ; exact hQ
    · rw [if_pos (Int32.not_lt.mp c2)]; rw [if_neg c2] at hQ; exact hQ
theorem m_wantsOf (hT : VT T) (hV : VR T B R) (hM : MM A0 T s) (h : MS A0 A R) {d a : Nat} (hd : d < T.dg) (ha : a < T.pe) {Q : Int32 → pA → Prop} (hQ : ∀ A', MS A0 A' R → Q (sWants T R d a) A') : fX10_wantsOf A (Int32.ofNat d) (Int32.ofNat a) Q := by
  unfold fX10_wantsOf
  refine m_looksAtDog hT hM h hd (fun A1 h1 v1 => ?_)
  refine m_looks hT hV hM h1 hd ha v1 (fun A2 h2 v2 => ?_)
  rw [v2 1 (by decide)]
  exact m_asks hM h2 v2 (k := 0) (by decide) hQ
theorem m_takesOf (hT : VT T) (hV : VR T B R) (hM : MM A0 T s) (h : MS A0 A R) {d a : Nat} (hd : d < T.dg) (ha : a < T.pe) {Q : Int32 → pA → Prop} (hQ : ∀ A', MS A0 A' R → Q (sTakes T R d a) A') : fX10_takesOf A (Int32.ofNat d) (Int32.ofNat a) Q := by
  have := hT.pe
  unfold fX10_takesOf
  refine m_looksAtDog hT hM h hd (fun A1 h1 v1 => ?_)
  refine m_looks hT hV hM h1 hd ha v1 (fun A2 h2 v2 => ?_)
  rw [v2 4 (by decide)]
  refine m_asks hM h2 v2 (k := 1) (by decide) (fun A4 h4 => ?_)
  simp (disch := omega) only [n_inT, n_nat, true_and, n_addL, h4.row]
  exact m_within (hQ A4 h4)
theorem m_fadesOf (hT : VT T) (hV : VR T B R) (hM : MM A0 T s) (h : MS A0 A R) {d a : Nat} (hd : d < T.dg) (ha : a < T.pe) {Q : Int32 → pA → Prop} (hQ : ∀ A', MS A0 A' R → Q (sFades T R d a) A') : fX10_fadesOf A (Int32.ofNat d) (Int32.ofNat a) Q := by
  unfold fX10_fadesOf
  refine m_looksAtDog hT hM h hd (fun A1 h1 v1 => ?_)
  refine m_looks hT hV hM h1 hd ha v1 (fun A2 h2 v2 => ?_)
  refine m_asks hM h2 v2 (k := 2) (by decide) (fun A4 h4 => ?_)
  exact m_within (hQ A4 h4)
theorem m_duesOf (hT : VT T) (hM : MM A0 T s) (h : MS A0 A R) {d : Nat} (hd : d < T.dg) {Q : Int32 → pA → Prop} (hQ : ∀ A', MS A0 A' R → Q (sDues T R d) A') : fX10_duesOf A (Int32.ofNat d) Q := by
  unfold fX10_duesOf
  refine m_looksAtDog hT hM h hd (fun A1 h1 v1 => ?_)
  rw [v1 8 (by decide)]
  refine m_asks hM h1 v1 (k := 3) (by decide) (fun A4 h4 => ?_)
  exact m_within (hQ A4 h4)
theorem m_mindsNow (hT : VT T) (hV : VR T B R) (hM : MM A0 T s) (h : MS A0 A R) {d : Nat} (hd : d < T.dg) {Q : Int32 → pA → Prop} (hQ : ∀ A', MS A0 A' R → Q (sMinds T R d) A') : fX10_mindsNow A (Int32.ofNat d) Q := by
  have s2 := hM.slt
  have := hT.pe
  unfold fX10_mindsNow
  refine lp_up (fun m i (x : (Int32 × Int32) × pA) => fX10_mindsNow_L8 Q m (Int32.ofNat d) x.1.1 x.1.2 i x.2) T.pe (by omega) (fun i x => x.1 = iter (sMindsF T R d) i (-2, 0) ∧ MS A0 x.2 R) ?_ ?_ ((-2, 0), A) ⟨rfl, h⟩
  · intro m i ⟨x, A⟩ hi ⟨e, h⟩ hn
    simp only at e h
    have hfar := hT.far (ix (R d)) (ix (R (15 + i)))
    unfold fX10_mindsNow_L8 fX10_mindsNow_J73 fX10_mindsNow_J79
    simp (disch := omega) only [n_inT, n_nat, true_and, h.fr, h.fi, h.row, hM.live, hM.pe, n_le, n_addL, n_addR]
    rw [if_neg (by omega)]
    have nx : ∀ y A', y = sMindsF T R d i x → MS A0 A' R → fX10_mindsNow_L8 Q m (Int32.ofNat d) y.1 y.2 (Int32.ofNat (i + 1)) A' := fun y A' ey h' => hn (y, A') ⟨by rw [ey, e]; rfl, h'⟩
    by_cases c1 : R (27 + i) = 1
    · rw [if_pos c1]
      exact nx x A (by unfold sMindsF; rw [if_pos (Or.inl c1)]) h
    · rw [if_neg c1]
      refine m_farTo hT hV hM h hd hi ?_
      by_cases c2 : 99 ≤ T.far (ix (R d)) (ix (R (15 + i)))
      · rw [if_neg (by rw [n_ltR (by omega) (by simp)]; omega)]
        exact nx x A (by unfold sMindsF; rw [if_pos (Or.inr c2)]) h
      · rw [if_pos (by rw [n_ltR (by omega) (by simp)]; omega)]
        refine m_wantsOf hT hV hM h hd hi (fun A5 h5 => ?_)
        by_cases c3 : x.1 < 0
        · rw [if_pos c3]
          refine nx (Int32.ofNat i, sWants T R d i) A5 ?_ h5
          unfold sMindsF
          rw [if_neg (by simp only [c1, c2]; simp), if_neg (fun hh => Int32.not_le.mpr c3 hh.1)]
        · rw [if_neg c3]
          by_cases c4 : x.2 < sWants T R d i
          · rw [if_pos c4]
            refine nx (Int32.ofNat i, sWants T R d i) A5 ?_ h5
            unfold sMindsF
            rw [if_neg (by simp only [c1, c2]; simp), if_neg (fun hh => Int32.not_le.mpr c4 hh.2)]
          · rw [if_neg c4]
            refine nx x A5 ?_ h5
            unfold sMindsF
            rw [if_neg (by simp only [c1, c2]; simp), if_pos ⟨Int32.not_lt.mp c3, Int32.not_lt.mp c4⟩]
  · intro m ⟨x, A⟩ ⟨e, h⟩
    simp only at e h
    unfold fX10_mindsNow_L8
    simp (disch := omega) only [n_inT, n_nat, true_and, h.fr, h.fi, hM.live, hM.pe, Int32.le_refl, if_true]
    have := hQ A h
    unfold sMinds at this
    rw [← e] at this
    exact this
end M
