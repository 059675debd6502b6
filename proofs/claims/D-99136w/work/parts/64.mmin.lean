set_option maxRecDepth 100000
set_option linter.all false
section M
variable {A0 A : pA} {T : Tx} {s B : Nat} {R : Rw}
theorem m_in {x lo hi : Int32} {Q : Int32 → Prop} (hQ : Q (if lo ≤ x ∧ x ≤ hi then 1 else 0)) : fX10_in A x lo hi Q := by
  unfold fX10_in
  by_cases c1 : x < lo
  · rw [if_pos c1]
    rw [if_neg (fun h => Int32.not_le.mpr c1 h.1)] at hQ; exact hQ
  · rw [if_neg c1]
    by_cases c2 : hi < x
    · rw [if_pos c2]
      rw [if_neg (fun h => Int32.not_le.mpr c2 h.2)] at hQ; exact hQ
    · rw [if_neg c2]
      rw [if_pos ⟨Int32.not_lt.mp c1, Int32.not_lt.mp c2⟩] at hQ; exact hQ
theorem nar_bool {c : Prop} [Decidable c] : narrow .boolean (.int (if c then 1 else 0)) = .int (if c then (1 : Int32) else 0) := by
  by_cases h : c
  · rw [if_pos h]; rfl
  · rw [if_neg h]; rfl
theorem i_ofNat {k : Nat} (h : k < 2147483648) : (Int32.ofNat k).toInt = (k : Int) := n_int h
theorem m_isHour (hT : VT T) (hM : MM A0 T s) (h : MS A0 A R) {Q : Int32 → Prop} (hQ : Q (if sHour T R then 1 else 0)) : fX10_isHour A Q := by
  have s2 := hM.slt
  have := hT.ht; have := hT.hf
  unfold fX10_isHour
  refine m_minute hM h ?_
  simp (disch := omega) only [n_inT, n_nat, true_and, h.fr, h.fi, hM.live, hM.hf, hM.ht]
  refine m_in ?_
  have e : (Int32.ofNat T.hf ≤ sMin T R ∧ sMin T R ≤ Int32.ofNat T.ht - 1) ↔ sHour T R := by
    unfold sHour
    rw [n_subL (by omega)]
    have e1 := i_ofNat (k := T.ht) (by omega)
    have e2 := i_ofNat (k := T.ht - 1) (by omega)
    simp only [Int32.le_iff_toInt_le, Int32.lt_iff_toInt_lt]
    rw [e1, e2]
    omega
  by_cases c : sHour T R
  · rw [if_pos c] at hQ
    rw [if_pos (e.mpr c)]
    exact ⟨rfl, hQ⟩
  · rw [if_neg c] at hQ
    rw [if_neg (fun h => c (e.mp h))]
    exact ⟨rfl, hQ⟩
theorem m_bears (hT : VT T) (h : MS A0 A R) {d a : Nat} (hd : d < T.dg) (ha : a < T.pe) {Q : Int32 → Prop} (hQ : Q (if R (35 + (4 * d + a)) < R (55 + (4 * d + a)) then 1 else 0)) : fX10_bearsGrudge A (Int32.ofNat d) (Int32.ofNat a) Q := by
  have := hT.dg; have := hT.pe
  unfold fX10_bearsGrudge
  simp (disch := omega) only [n_inT, n_nat, true_and, h.row, n_addL, n_mulL, n_add]
  rw [show 55 + 4 * d + a = 55 + (4 * d + a) by omega, show 35 + 4 * d + a = 35 + (4 * d + a) by omega]
  by_cases c : R (35 + (4 * d + a)) < R (55 + (4 * d + a))
  · rw [if_neg (Int32.not_le.mpr c)]; rw [if_pos c] at hQ; exact hQ
  · rw [if_pos (Int32.not_lt.mp c)]; rw [if_neg c] at hQ; exact hQ
theorem m_personGoes (hT : VT T) (hV : VR T B R) (hM : MM A0 T s) (h : MS A0 A R) {a : Nat} (ha : a < T.pe) {Q : pA → Prop} (hQ : ∀ A', MS A0 A' (sPerson T R a) → Q A') : fX10_personGoes A (Int32.ofNat a) Q := by
  have s2 := hM.slt
  have := hT.pe; have := hT.pl; have := hT.er
  have tail : ∀ A1, MS A0 A1 (sMove T R a) → fX10_personGoes_J74 Q (Int32.ofNat a) A1 := by
    intro A1 h1
    unfold fX10_personGoes_J74
    refine lp_up (fun m i (x : pA) => fX10_personGoes_L76 Q m (Int32.ofNat a) i x) T.er (by omega) (fun i x => MS A0 x (iter (sErrF T a) i (sMove T R a))) ?_ ?_ A1 h1
    · intro m i x hi hx hn
      have e1 := hM.who i hi
      have e2 := hM.whr i hi
      have b1 := hT.who i hi
      have b2 := hT.whr i hi
      unfold fX10_personGoes_L76 fX10_personGoes_J146
      simp (disch := omega) only [n_inT, n_nat, true_and, hx.fr, hx.fi, hx.row, hM.live, hM.er, n_addL, n_addR, n_mulL, n_add, n_le, e1, e2, n_m31]
      rw [if_neg (by omega)]
      by_cases c1 : T.who i = a
      · rw [if_pos (by rw [c1])]
        by_cases c2 : Int32.ofNat (T.whr i) = iter (sErrF T a) i (sMove T R a) (15 + a)
        · rw [if_pos c2]
          intro A5 e5
          refine hn A5 ?_
          show MS A0 A5 (sErrF T a i _)
          unfold sErrF
          rw [if_pos ⟨c1, c2⟩, e5]
          exact hx.put
        · rw [if_neg c2]
          refine hn x ?_
          show MS A0 x (sErrF T a i _)
          unfold sErrF
          rw [if_neg (fun hh => c2 hh.2)]
          exact hx
      · rw [if_neg (by rw [n_eq (by omega) (by omega)]; exact c1)]
        refine hn x ?_
        show MS A0 x (sErrF T a i _)
        unfold sErrF
        rw [if_neg (fun hh => c1 hh.1)]
        exact hx
    · intro m x hx
      unfold fX10_personGoes_L76
      simp (disch := omega) only [n_inT, n_nat, true_and, hx.fr, hx.fi, hM.live, hM.er, Int32.le_refl, if_true]
      exact hQ x hx
  obtain ⟨k, hk, ek⟩ := hV.at_ hT a ha
  unfold fX10_personGoes
  simp (disch := omega) only [n_inT, n_nat, true_and, h.row, n_addL]
  unfold sMove at tail
  by_cases c1 : R (19 + a) < 0
  · rw [if_pos c1]
    refine tail A ?_
    rw [if_neg (fun hh => Int32.not_le.mpr c1 hh.1)]
    exact h
  · rw [if_neg c1]
    obtain ⟨g, hg, eg⟩ : ∃ g, g < T.pl ∧ R (19 + a) = Int32.ofNat g := by
      rcases hV.goal a (by omega) with e | e
      · rw [e] at c1; exact absurd (by decide) c1
      · exact e
    by_cases c2 : R (19 + a) = R (15 + a)
    · rw [if_pos c2]
      refine tail A ?_
      rw [if_neg (fun hh => hh.2.1 c2)]
      exact h
    · rw [if_neg c2]
      have hfar := hT.far k g
      have e3 := hM.far k g (by omega) (by omega)
      simp (disch := omega) only [n_inT, n_nat, true_and, h.fr, ek, eg, n_addL, n_mulL, n_add, e3]
      rw [ek, eg, n_ix (by omega), n_ix (by omega)] at tail
      rw [eg, ek] at c2
      rw [eg] at c1
      by_cases c3 : T.far k g < 99
      · rw [if_neg (by rw [n_leL (by simp) (by omega)]; omega)]
        refine m_stepTo hT hM h hk hg ?_
        intro A14 e14
        refine tail A14 ?_
        rw [if_pos ⟨Int32.not_lt.mp c1, c2, c3⟩, e14]
        exact h.put
      · rw [if_pos (by rw [n_leL (by simp) (by omega)]; omega)]
        refine tail A ?_
        rw [if_neg (fun hh => c3 hh.2.2)]
        exact h
theorem m_dogGoes (hT : VT T) (hV : VR T B R) (hM : MM A0 T s) (h : MS A0 A R) {d : Nat} (hd : d < T.dg) {Q : pA → Prop} (hQ : ∀ A', MS A0 A' (sDog T R d) → Q A') : fX10_dogGoes A (Int32.ofNat d) Q := by
  have s2 := hM.slt
  have := hT.pe; have := hT.pl; have := hT.dg
  unfold fX10_dogGoes
  refine m_mindsNow hT hV hM h hd (fun A2 h2 => ?_)
  unfold sDog at hQ
  rcases sMinds_in (R := R) hT (d := d) with e | ⟨a, ha, e⟩
  · rw [e] at hQ ⊢
    rw [if_neg (by decide)]
    rw [if_pos (by decide)] at hQ
    exact hQ A2 h2
  · rw [e] at hQ ⊢
    rw [n_ix (by omega), if_neg (by rw [n_ltR (by omega) (by simp)]; omega)] at hQ
    rw [if_pos (by rw [n_leL (by simp) (by omega)]; omega)]
    obtain ⟨k, hk, ek⟩ := hV.at_ hT a ha
    obtain ⟨g, hg, eg⟩ := hV.dog hT d hd
    simp (disch := omega) only [n_inT, n_nat, true_and, h2.row, n_addL]
    by_cases c1 : R d = R (15 + a)
    · rw [if_pos c1] at hQ ⊢
      refine m_bears hT h2 hd ha ?_
      by_cases c2 : R (35 + (4 * d + a)) < R (55 + (4 * d + a))
      · rw [if_pos c2] at hQ ⊢
        rw [if_neg (by decide)]
        intro A7 e7 A9 e9 A11 e11
        have h7 := h2.putE e7
        have h9 := h7.putE e9
        have h11 := h9.putE e11
        simp (disch := omega) only [h11.row, wup_ne]
        intro A14 e14
        refine hQ A14 ?_
        rw [e14]
        exact h11.put
      · rw [if_neg c2] at hQ ⊢
        rw [if_pos rfl]
        refine m_takesOf hT hV hM h2 hd ha (fun A16 h16 => ?_)
        simp (disch := omega) only [h16.row]
        intro A19 e19
        have h19 := h16.putE e19
        simp (disch := omega) only [h19.row, wup_ne]
        intro A22 e22
        have h22 := h19.putE e22
        simp (disch := omega) only [h22.row, wup_ne]
        intro A25 e25
        refine hQ A25 ?_
        rw [e25]
        exact h22.put
    · rw [if_neg c1] at hQ ⊢
      rw [ek, eg, n_ix (by omega), n_ix (by omega)] at hQ
      rw [ek, eg]
      refine m_stepTo hT hM h2 hg hk ?_
      intro A30 e30
      refine hQ A30 ?_
      rw [e30]
      exact h2.put
theorem m_dogsRest (hT : VT T) (hM : MM A0 T s) (h : MS A0 A R) {Q : pA → Prop} (hQ : ∀ A', MS A0 A' (sRest T R) → Q A') : fX10_dogsRest A Q := by
  have s2 := hM.slt
  have := hT.pe; have := hT.pl; have := hT.dg
  unfold fX10_dogsRest
  refine lp_up (fun m i (x : pA) => fX10_dogsRest_L2 Q m i x) T.dg (by omega) (fun i x => MS A0 x (iter (fun d (R : Rw) => wup (wup R d (Int32.ofNat (T.ken d))) (5 + d) 0) i R)) ?_ ?_ A h
  · intro m i x hi hx hn
    have e1 := hM.ken i hi
    unfold fX10_dogsRest_L2
    simp (disch := omega) only [n_inT, n_nat, true_and, hx.fr, hx.fi, hM.live, hM.dg, n_addL, n_addR, n_mulL, n_add, n_le, e1]
    rw [if_neg (by omega)]
    intro A8 e8 A10 e10
    refine hn A10 ?_
    rw [e10, e8]
    exact hx.put.put
  · intro m x hx
    unfold fX10_dogsRest_L2
    simp (disch := omega) only [n_inT, n_nat, true_and, hx.fr, hx.fi, hM.live, hM.dg, Int32.le_refl, if_true]
    refine lp_up (fun m i (x : pA) => fX10_dogsRest_L51 Q m i x) T.pe (by omega) (fun i x => MS A0 x (iter (fun a (R : Rw) => wup R (27 + a) 0) i (iter (fun d (R : Rw) => wup (wup R d (Int32.ofNat (T.ken d))) (5 + d) 0) T.dg R))) ?_ ?_ x hx
    · intro m i x hi hx hn
      unfold fX10_dogsRest_L51
      simp (disch := omega) only [n_inT, n_nat, true_and, hx.fr, hx.fi, hM.live, hM.pe, n_addL, n_addR, n_le]
      rw [if_neg (by omega)]
      intro A3 e3
      refine hn A3 ?_
      rw [e3]
      exact hx.put
    · intro m x hx
      unfold fX10_dogsRest_L51
      simp (disch := omega) only [n_inT, n_nat, true_and, hx.fr, hx.fi, hM.live, hM.pe, Int32.le_refl, if_true]
      exact hQ x hx
theorem m_fades (hT : VT T) (hV : VR T B R) (hM : MM A0 T s) (h : MS A0 A R) {d a : Nat} (hd : d < T.dg) (ha : a < T.pe) {Q : pA → Prop} (hQ : ∀ A', MS A0 A' (sFade T d a R) → Q A') : fX10_fades A (Int32.ofNat d) (Int32.ofNat a) Q := by
  have := hT.pe; have := hT.dg
  unfold fX10_fades
  refine m_fadesOf hT hV hM h hd ha (fun A2 h2 => ?_)
  simp (disch := omega) only [n_inT, n_nat, true_and, h2.row, n_addL, n_mulL, n_add]
  refine m_within ?_
  intro A6 e6
  have h6 := h2.putE e6
  simp (disch := omega) only [h6.row, wup_ne]
  refine m_within ?_
  intro A10 e10
  refine hQ A10 ?_
  rw [e10]
  exact h6.put
theorem m_minuteGoes (hT : VT T) (hV : VR T B R) (hB : B < 1000000000) (hM : MM A0 T s) (h : MS A0 A R) {Q : pA → Prop} (hQ : ∀ A', MS A0 A' (sMinute T R) → Q A') : fX10_minuteGoes A Q := by
  have s2 := hM.slt
  have := hT.pe; have := hT.pl; have := hT.dg
  have V1 : VR T B (sPeople T R) := hV.people hT (Nat.le_refl _)
  have V2 : VR T B (sTime T (sPeople T R)) := by
    unfold sTime
    split
    · exact V1.dogs hT (Nat.le_refl _)
    · exact V1.rest hT
  have V3 : VR T (B + 1) (sTick (sTime T (sPeople T R))) := V2.tick hT hB
  unfold sMinute at hQ
  have tail : ∀ A1, MS A0 A1 (sTime T (sPeople T R)) → fX10_minuteGoes_J78 Q A1 := by
    intro A1 h1
    unfold fX10_minuteGoes_J78
    simp (disch := omega) only [h1.row]
    intro A5 e5
    have h5 : MS A0 A5 (sTick (sTime T (sPeople T R))) := by rw [e5]; exact h1.put
    refine m_minute hM h5 ?_
    generalize sTick (sTime T (sPeople T R)) = R3 at *
    unfold sEve at hQ
    by_cases c : 0 < sMin T R3
    · rw [if_neg (Int32.not_le.mpr c)]
      rw [if_pos c] at hQ
      exact hQ A5 h5
    · rw [if_pos (Int32.not_lt.mp c)]
      rw [if_neg c] at hQ
      refine lp_up (fun m i (x : pA) => fX10_minuteGoes_L99 Q m i x) T.dg (by omega) (fun i x => MS A0 x (iter (fun d (R : Rw) => iter (fun a (R : Rw) => sFade T d a R) T.pe R) i R3)) ?_ ?_ A5 h5
      · intro m i x hi hx hn
        unfold fX10_minuteGoes_L99
        simp (disch := omega) only [n_inT, n_nat, true_and, hx.fr, hx.fi, hM.live, hM.dg, n_le]
        rw [if_neg (by omega)]
        have Vi := V3.fadeA hT (n := i) (by omega)
        refine lp_up (fun m' j (x : pA) => fX10_minuteGoes_L114 (fun x0 x1 => fX10_minuteGoes_L99 Q m x0 x1) Q m' (Int32.ofNat i) j x) T.pe (by omega) (fun j x => MS A0 x (iter (fun a (R : Rw) => sFade T i a R) j (iter (fun d (R : Rw) => iter (fun a (R : Rw) => sFade T d a R) T.pe R) i R3))) ?_ ?_ x hx
        · intro m' j y hj hy hn'
          unfold fX10_minuteGoes_L114
          simp (disch := omega) only [n_inT, n_nat, true_and, hy.fr, hy.fi, hM.live, hM.pe, n_le]
          rw [if_neg (by omega)]
          refine m_fades hT (Vi.fadeD hT hi (n := j) (by omega)) hM hy hi hj (fun A2 h2 => ?_)
          rw [n_addR]
          exact hn' A2 h2
        · intro m' y hy
          unfold fX10_minuteGoes_L114
          simp (disch := omega) only [n_inT, n_nat, true_and, hy.fr, hy.fi, hM.live, hM.pe, Int32.le_refl, if_true, n_addR]
          exact hn y hy
      · intro m x hx
        unfold fX10_minuteGoes_L99
        simp (disch := omega) only [n_inT, n_nat, true_and, hx.fr, hx.fi, hM.live, hM.dg, Int32.le_refl, if_true]
        exact hQ x hx
  unfold fX10_minuteGoes
  refine lp_up (fun m i (x : pA) => fX10_minuteGoes_L2 Q m i x) T.pe (by omega) (fun i x => MS A0 x (iter (fun a (R : Rw) => if R (27 + a) = 0 then sPerson T R a else R) i R)) ?_ ?_ A h
  · intro m i x hi hx hn
    unfold fX10_minuteGoes_L2 fX10_minuteGoes_J32
    simp (disch := omega) only [n_inT, n_nat, true_and, hx.fr, hx.fi, hx.row, hM.live, hM.pe, n_le, n_addL, n_addR]
    rw [if_neg (by omega)]
    have Vi := hV.people hT (n := i) (by omega)
    by_cases c : iter (fun a (R : Rw) => if R (27 + a) = 0 then sPerson T R a else R) i R (27 + i) = 0
    · rw [if_pos c]
      refine m_personGoes hT Vi hM hx hi (fun A15 h15 => ?_)
      refine hn A15 ?_
      show MS A0 A15 (ite _ _ _)
      rw [if_pos c]; exact h15
    · rw [if_neg c]
      refine hn x ?_
      show MS A0 x (ite _ _ _)
      rw [if_neg c]; exact hx
  · intro m x hx
    unfold fX10_minuteGoes_L2
    simp (disch := omega) only [n_inT, n_nat, true_and, hx.fr, hx.fi, hM.live, hM.pe, Int32.le_refl, if_true]
    have hx' : MS A0 x (sPeople T R) := hx
    clear hx
    refine m_isHour hT hM hx' ?_
    generalize sPeople T R = R1 at *
    unfold sTime at tail
    by_cases c : sHour T R1
    · rw [if_pos c] at tail
      rw [if_pos c, if_neg (by decide)]
      refine lp_up (fun m i (x : pA) => fX10_minuteGoes_L54 Q m i x) T.dg (by omega) (fun i x => MS A0 x (iter (fun d (R : Rw) => sDog T R d) i R1)) ?_ ?_ x hx'
      · intro m i y hi hy hn
        unfold fX10_minuteGoes_L54
        simp (disch := omega) only [n_inT, n_nat, true_and, hy.fr, hy.fi, hM.live, hM.dg, n_le]
        rw [if_neg (by omega)]
        refine m_dogGoes hT (V1.dogs hT (n := i) (by omega)) hM hy hi (fun A9 h9 => ?_)
        rw [n_addR]
        exact hn A9 h9
      · intro m y hy
        unfold fX10_minuteGoes_L54
        simp (disch := omega) only [n_inT, n_nat, true_and, hy.fr, hy.fi, hM.live, hM.dg, Int32.le_refl, if_true]
        exact tail y hy
    · rw [if_neg c] at tail
      rw [if_neg c, if_pos rfl]
      exact m_dogsRest hT hM hx' tail
theorem m_goes (hT : VT T) (hV : VR T B R) (hM : MM A0 T s) (h : MS A0 A R) {n : Nat} (hn : B + n < 1000000000) {Q : pA → Prop} (hQ : ∀ A', MS A0 A' (sGoes T n R) → Q A') : fX10_goes A (Int32.ofNat n) Q := by
  unfold fX10_goes
  refine lp_up (fun m i (x : pA) => fX10_goes_L2 Q m (Int32.ofNat n) i x) n (by omega) (fun i x => MS A0 x (sGoes T i R)) ?_ ?_ A h
  · intro m i x hi hx hk
    unfold fX10_goes_L2
    rw [if_neg (by rw [n_le (by omega) (by omega)]; omega)]
    refine m_minuteGoes hT (hV.goes hT i (by omega)) (by omega) hM hx (fun A1 h1 => ?_)
    rw [n_addR]
    exact hk A1 h1
  · intro m x hx
    unfold fX10_goes_L2
    rw [if_pos (Int32.le_refl _)]
    exact hQ x hx
end M
