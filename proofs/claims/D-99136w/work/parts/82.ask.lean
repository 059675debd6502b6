set_option maxRecDepth 100000
set_option linter.all false
section I
variable {B : Nat} {x : St} {n : Nat} {K : Nat → pKd} {A A1 A' : pA} {Lg : pL} {G : pG}
def pairV (p : Nat) : Int32 := Int32.ofNat (10 * (p / 4) + p % 4)
theorem pairV_eq {p : Nat} (hp : p < 20) : 10 * (Int32.ofNat p / 4) + (Int32.ofNat p - Int32.ofNat p / 4 * 4) = pairV p := by
  have e4 : (4 : Int32) = Int32.ofNat 4 := rfl
  have e1 : Int32.ofNat p / 4 = Int32.ofNat (p / 4) := by rw [e4, n_div (by omega) (by omega)]
  have e2 : Int32.ofNat p - Int32.ofNat p / 4 * 4 = Int32.ofNat (p % 4) := by
    rw [e1, e4, n_mul, n_sub (by omega)]
    congr 1; omega
  rw [e2, e1, n_mulL, n_add]; rfl
theorem pairV_nn {p : Nat} (hp : p < 20) : ¬ pairV p < 0 := by
  unfold pairV
  rw [n_ltR (by omega) (by simp)]; omega
theorem m_sureL (h : INV B x n K A Lg G) (hB : B ≤ 900000000) {k : Nat} (hk : k ≤ x.to) {Q : Int32 → pA → Prop}
    (q1 : ∀ p, p < 20 → soP x.T x.R A k p → (∀ q, q < 20 → soP x.T x.R A k q → q = p) → ∀ A', SCR x.R A A' → Q (pairV p) A')
    (q2 : nNum (soP x.T x.R A k) 20 ≠ 1 → ∀ A', SCR x.R A A' → Q (-2) A') {A1 : pA} (s1 : SCR x.R A A1) : ∃ m, fX10_sure_L19 Q m (Int32.ofNat k) (-2) 0 A1 := by
  refine lp_up (fun m i (y : Int32 × pA) => fX10_sure_L19 Q m (Int32.ofNat k) y.1 i y.2) 20 (by omega) (fun i y => SCR x.R A y.2 ∧ ((nNum (soP x.T x.R A k) i = 0 ∧ y.1 = -2) ∨ (nNum (soP x.T x.R A k) i = 1 ∧ ∃ p, p < i ∧ soP x.T x.R A k p ∧ (∀ q, q < i → soP x.T x.R A k q → q = p) ∧ y.1 = pairV p))) ?_ ?_ (-2, A1) ⟨s1, Or.inl ⟨rfl, rfl⟩⟩
  · intro m i ⟨y, A2⟩ hi ⟨s2, st⟩ hn
    simp only at s2 st
    have i2 := h.scr s2
    have es := soP_scr s2 (k := k) (j := i)
    have nn : nNum (soP x.T x.R A k) (i + 1) = nNum (soP x.T x.R A k) i + if soP x.T x.R A k i then 1 else 0 := rfl
    have stay : ¬ soP x.T x.R A k i → ∀ A3, SCR x.R A A3 → fX10_sure_L19 Q m (Int32.ofNat k) y (Int32.ofNat (i + 1)) A3 := by
      intro hs A3 s3
      rw [if_neg hs, Nat.add_zero] at nn
      refine hn (y, A3) ⟨s3, ?_⟩
      rw [nn]
      rcases st with st | ⟨st, p, p1, p2, p3, p4⟩
      · exact Or.inl st
      · refine Or.inr ⟨st, p, by omega, p2, fun q hq hf => ?_, p4⟩
        by_cases c : q = i
        · rw [c] at hf; exact absurd hf hs
        · exact p3 q (by omega) hf
    unfold fX10_sure_L19 fX10_sure_J63
    rw [if_neg (by rw [n_leL (by simp) (by omega)]; omega), n_addR, pairV_eq hi]
    refine m_isPair h.vt i2.mm hi (fun hj => ?_) (fun hj => ?_)
    · rw [if_neg (by decide)]
      refine m_isSo i2 hB hk hj (fun hs A3 R3 h3 _ => ?_) (fun hs A3 R3 h3 => ?_)
      · rw [if_neg (by decide)]
        have s3 := s2.trans (h3.scr i2)
        have hs := es.mp hs
        rw [if_pos hs] at nn
        rcases st with ⟨st, e⟩ | ⟨st, p, p1, p2, p3, p4⟩
        · rw [if_pos (show y < 0 by rw [e]; decide)]
          refine hn (pairV i, A3) ⟨s3, Or.inr ⟨by rw [nn, st], i, by omega, hs, fun q hq hf => ?_, rfl⟩⟩
          by_cases c : q = i
          · exact c
          · exact absurd hf (nNum_none _ i st q (by omega))
        · rw [if_neg (show ¬ y < 0 by rw [p4]; exact pairV_nn (by omega))]
          refine q2 ?_ A3 s3
          have := nNum_mono2 (soP x.T x.R A k) (a := i + 1) (20 - (i + 1))
          rw [show i + 1 + (20 - (i + 1)) = 20 by omega] at this
          omega
      · rw [if_pos rfl]
        exact stay (fun hc => hs (es.mpr hc)) A3 (s2.trans (h3.scr i2))
    · rw [if_pos rfl]
      exact stay (fun hc => hj hc.1) A2 s2
  · intro m ⟨y, A2⟩ ⟨s2, st⟩
    simp only at s2 st
    unfold fX10_sure_L19
    rw [if_pos (by decide)]
    rcases st with ⟨st, e⟩ | ⟨st, p, p1, p2, p3, p4⟩
    · rw [e]; exact q2 (by omega) A2 s2
    · rw [p4]; exact q1 p p1 p2 p3 A2 s2
theorem q_sure (h : INV B x n K A Lg G) (hB : B ≤ 900000000) (p : Int32) : fX0_sure x.tx n K A G p (fun r A1 => fX10_sure A1 p (fun r' A2 => r = r' ∧ SCR x.R A A2)) := by
  have := h.to20
  unfold fX0_sure
  refine c_inN x.to (by omega) h.cto (fun hp => ?_) (fun hp => ?_)
  · rw [if_neg (by decide)]
    have hp' := hp
    obtain ⟨k, hk, rfl⟩ := hp
    refine c_kicksBy h hB (by omega) (fun A1 s1 f1 => ?_)
    have i1 := h.scr s1
    refine c_bitCountQ (soP x.T x.R A k) ?_
    have l := nNum_le (soP x.T x.R A k) 20
    have M : ∀ v : Int32, (∀ q, q < 20 → soP x.T x.R A k q → (∀ r, r < 20 → soP x.T x.R A k r → r = q) → v = pairV q) → (nNum (soP x.T x.R A k) 20 ≠ 1 → v = -2) → fX10_sure A1 (Int32.ofNat k) (fun r' A2 => v = r' ∧ SCR x.R A A2) := by
      intro v v1 v2
      unfold fX10_sure
      refine m_inN x.to (by omega) i1.mto (fun _ => ?_) (fun hh => absurd hp' hh)
      rw [if_neg (by decide)]
      exact m_sureL h hB (by omega) (fun q hq hs hu A' s' => ⟨v1 q hq hs hu, s'⟩) (fun hne A' s' => ⟨v2 hne, s'⟩) s1
    rw [qNum_nat]
    by_cases c : nNum (soP x.T x.R A k) 20 = 1
    · rw [if_pos (by rw [c]; rfl)]
      obtain ⟨q, hq, hs, hu⟩ := nNum_one _ 20 c
      have eb : nBits (soP x.T x.R A k) 20 = 2 ^ q := by
        have key : ∀ m, m ≤ 20 → nBits (soP x.T x.R A k) m = if q < m then 2 ^ q else 0 := by
          intro m
          induction m with
          | zero => intro _; rw [if_neg (by omega)]; rfl
          | succ m ih =>
            intro hm
            show nBits _ m + (if soP x.T x.R A k m then 2 ^ m else 0) = _
            rw [ih (by omega)]
            by_cases c2 : soP x.T x.R A k m
            · have := hu m (by omega) c2
              subst this
              rw [if_pos c2, if_neg (by omega), if_pos (by omega), Nat.zero_add]
            · have hne : m ≠ q := fun hh => c2 (hh ▸ hs)
              rw [if_neg c2, Nat.add_zero]
              by_cases c3 : q < m
              · rw [if_pos c3, if_pos (by omega)]
              · rw [if_neg c3, if_neg (by omega)]
        rw [key 20 (by omega), if_pos hq]
      rw [qBits_nat _ 20 (by omega), eb]
      refine c_ntz hq ?_
      rw [pairV_eq hq]
      refine M _ (fun r hr hsr hur => ?_) (fun hh => absurd c hh)
      rw [hur q hq hs]
    · rw [if_neg (by rw [n_eqR (by omega) (by simp)]; exact c)]
      refine M _ (fun r hr hsr hur => ?_) (fun _ => rfl)
      exfalso
      apply c
      have key : ∀ m, m ≤ 20 → nNum (soP x.T x.R A k) m = if r < m then 1 else 0 := by
        intro m
        induction m with
        | zero => intro _; rw [if_neg (by omega)]; rfl
        | succ m ih =>
          intro hm
          show nNum _ m + (if soP x.T x.R A k m then 1 else 0) = _
          rw [ih (by omega)]
          by_cases c2 : soP x.T x.R A k m
          · have := hur m (by omega) c2
            subst this
            rw [if_pos c2, if_neg (by omega), if_pos (by omega)]
          · have hne : m ≠ r := fun hh => c2 (hh ▸ hsr)
            rw [if_neg c2, Nat.add_zero]
            by_cases c3 : r < m
            · rw [if_pos c3, if_pos (by omega)]
            · rw [if_neg c3, if_neg (by omega)]
      rw [key 20 (by omega), if_pos hr]
  · rw [if_pos rfl]
    unfold fX10_sure
    refine m_inN x.to (by omega) h.mto (fun hh => absurd hh hp) (fun _ => ?_)
    rw [if_pos rfl]
    exact ⟨rfl, h.same⟩
/-! what to ask for -/
abbrev fbP (T : Tx) (R : Rw) (A : pA) (k a j : Nat) : Prop := soP T R A k j ∧ kRow T R j (27 + a) = 1
def askW (f c : Nat) : Int32 := if Int32.ofNat f < Int32.ofNat c - Int32.ofNat f then Int32.ofNat c - Int32.ofNat f else Int32.ofNat f
def askF (c : Nat) (f : Nat → Nat) (a : Nat) (s : Int32 × Int32) : Int32 × Int32 := if s.1 < 0 ∨ askW (f a) c < s.2 then (Int32.ofNat a, askW (f a) c) else s
theorem askW_lt {f c : Nat} (h : f ≤ c) (hc : c ≤ 20) : askW f c < 1000000 := by
  unfold askW
  rw [n_sub h]
  split
  · rw [n_ltR (by omega) (by simp)]; omega
  · rw [n_ltR (by omega) (by simp)]; omega
theorem m_askL2 (h : INV B x n K A Lg G) {c : Nat} {f : Nat → Nat} (hc : c ≤ 20) (hf : ∀ a, f a ≤ c) {Q : Int32 → pA → Prop} {A1 : pA} (s1 : SCR x.R A A1) (e : ∀ a, a < x.T.pe → A1 1243 a = Int32.ofNat (f a)) (hQ : Q (if c = 0 then -2 else (iter (askF c f) x.T.pe (-2, 0)).1) A1) : ∃ m, fX10_ask_L125 Q m (Int32.ofNat c) (-2) 0 0 A1 := by
  have := h.vt.pe; have := h.mm.slt
  have i1 := h.scr s1
  by_cases c0 : c = 0
  · refine ⟨1, ?_⟩
    unfold fX10_ask_L125
    simp (disch := omega) only [n_inT, n_nat, true_and, i1.mm.live, i1.mm.pe]
    rw [if_pos c0] at hQ
    rw [if_pos (show Int32.ofNat c ≤ 0 by rw [n_leR (by omega) (by simp)]; omega)]
    split <;> exact hQ
  · rw [if_neg c0] at hQ
    refine lp_up (fun m i (y : Int32 × Int32) => fX10_ask_L125 Q m (Int32.ofNat c) y.1 y.2 i A1) x.T.pe (by omega) (fun i y => y = iter (askF c f) i (-2, 0)) ?_ ?_ (-2, 0) rfl
    · intro m i y hi hy hn
      have l := hf i
      unfold fX10_ask_L125 fX10_ask_J181 fX10_ask_J197 fX10_ask_J204
      simp (disch := omega) only [n_inT, n_nat, true_and, i1.mm.live, i1.mm.pe, n_addR, n_le]
      rw [if_neg (by omega), if_neg (show ¬ Int32.ofNat c ≤ 0 by rw [n_leR (by omega) (by simp)]; omega), e i hi]
      have fin : ∀ v : Int32, v = askW (f i) c → (if y.1 < 0 then fX10_ask_L125 Q m (Int32.ofNat c) (Int32.ofNat i) v (Int32.ofNat (i + 1)) A1 else if v < y.2 then fX10_ask_L125 Q m (Int32.ofNat c) (Int32.ofNat i) v (Int32.ofNat (i + 1)) A1 else fX10_ask_L125 Q m (Int32.ofNat c) y.1 y.2 (Int32.ofNat (i + 1)) A1) := by
        intro v hv
        have st : iter (askF c f) (i + 1) (-2, 0) = askF c f i y := by rw [hy]; rfl
        unfold askF at st
        rw [← hv] at st
        by_cases c1 : y.1 < 0
        · rw [if_pos c1]
          rw [if_pos (Or.inl c1)] at st
          exact hn (_, _) st.symm
        · rw [if_neg c1]
          by_cases c2 : v < y.2
          · rw [if_pos c2]
            rw [if_pos (Or.inr c2)] at st
            exact hn (_, _) st.symm
          · rw [if_neg c2]
            rw [if_neg (fun hh => hh.elim c1 c2)] at st
            exact hn y st.symm
      unfold askW at fin
      rw [n_sub l] at fin ⊢
      by_cases c1 : Int32.ofNat (f i) ≤ Int32.ofNat (c - f i)
      · rw [if_pos c1]
        refine fin _ ?_
        split
        · rfl
        · rename_i c2
          rw [n_le (by omega) (by omega)] at c1
          rw [n_lt (by omega) (by omega)] at c2
          congr 1
          omega
      · rw [if_neg c1]
        refine fin _ ?_
        rw [if_neg (fun hh => c1 (Int32.le_of_lt hh))]
    · intro m y hy
      unfold fX10_ask_L125
      simp (disch := omega) only [n_inT, n_nat, true_and, i1.mm.live, i1.mm.pe, Int32.le_refl, if_true]
      rw [hy]; exact hQ
theorem m_askQ (h : INV B x n K A Lg G) (hB : B ≤ 900000000) {k : Nat} (hk : k ≤ x.to) {Q : Int32 → pA → Prop}
    (hQ : ∀ A', SCR x.R A A' → Q (if nNum (soP x.T x.R A k) 20 = 0 then -2 else (iter (askF (nNum (soP x.T x.R A k) 20) (fun a => nNum (fbP x.T x.R A k a) 20)) x.T.pe (-2, 0)).1) A') {A1 : pA} (s1 : SCR x.R A A1) : fX10_ask A1 (Int32.ofNat k) Q := by
  have := h.vt.pe; have := h.mm.slt; have := h.to20
  have i1 := h.scr s1
  unfold fX10_ask
  refine m_inN x.to (by omega) i1.mto (fun _ => ?_) (fun hh => absurd ⟨k, by omega, rfl⟩ hh)
  rw [if_neg (by decide)]
  refine lp_up (fun m i (y : pA) => fX10_ask_L18 Q m (Int32.ofNat k) 0 i y) 4 (by omega) (fun i y => SCR x.R A y ∧ ∀ a, a < i → y 1243 a = 0) ?_ ?_ A1 ⟨s1, fun a ha => absurd ha (Nat.not_lt_zero a)⟩
  · intro m i y hi ⟨sy, zy⟩ hn
    unfold fX10_ask_L18
    rw [if_neg (by rw [n_leL (by simp) (by omega)]; omega)]
    simp (disch := omega) only [n_inT, n_nat, true_and, n_addR]
    intro A2 e2
    refine hn A2 ⟨sy.p1243 e2, fun a ha => ?_⟩
    rw [e2, pup_row]
    unfold wup
    by_cases c : a = i
    · rw [if_pos c]
    · rw [if_neg c]; exact zy a (by omega)
  · intro m y ⟨sy, zy⟩
    unfold fX10_ask_L18
    rw [if_pos (by decide)]
    refine lp_up (fun m i (z : Nat × pA) => fX10_ask_L38 Q m (Int32.ofNat k) (Int32.ofNat z.1) i z.2) 20 (by omega) (fun i z => SCR x.R A z.2 ∧ z.1 = nNum (soP x.T x.R A k) i ∧ ∀ a, a < x.T.pe → z.2 1243 a = Int32.ofNat (nNum (fbP x.T x.R A k a) i)) ?_ ?_ (0, y) ⟨sy, rfl, fun a ha => by show y 1243 a = _; rw [zy a (by omega)]; rfl⟩
    · intro m i ⟨c, A2⟩ hi ⟨s2, ec, f2⟩ hn
      simp only at s2 ec f2
      have i2 := h.scr s2
      have es := soP_scr s2 (k := k) (j := i)
      unfold fX10_ask_L38 fX10_ask_J110
      rw [if_neg (by rw [n_leL (by simp) (by omega)]; omega)]
      have stay : ¬ soP x.T x.R A k i → ∀ A3, SCR x.R A A3 → (∀ a, A3 1243 a = A2 1243 a) → fX10_ask_L38 Q m (Int32.ofNat k) (Int32.ofNat c) (Int32.ofNat (i + 1)) A3 := by
        intro hs A3 s3 g3
        refine hn (c, A3) ⟨s3, ?_, fun a ha => ?_⟩
        · show c = nNum _ i + ite _ _ _
          rw [if_neg hs, ec]; rfl
        · show A3 1243 a = Int32.ofNat (nNum _ i + ite _ _ _)
          rw [if_neg (fun hc => hs hc.1), g3]; exact f2 a ha
      refine m_isPair h.vt i2.mm hi (fun hj => ?_) (fun hj => ?_)
      · rw [if_neg (by decide), n_addR, n_addR]
        have V := h.vr.kRowV h.vt hB hj
        refine m_isSo i2 hB hk hj (fun hs A3 R3 h3 r3 => ?_) (fun hs A3 R3 h3 => ?_)
        · rw [if_neg (by decide)]
          have s3 := s2.trans (h3.scr i2)
          have hs := es.mp hs
          have g3 : A3 1243 = A2 1243 := h3.fr 1243 (by decide) (by decide) (by decide) (by decide)
          refine lp_up (fun m' a (z : pA) => fX10_ask_L70 (fun x0 x1 x2 x3 => fX10_ask_L38 Q m x0 x1 x2 x3) Q m' (Int32.ofNat k) (Int32.ofNat (c + 1)) (Int32.ofNat i) a z) x.T.pe (by omega) (fun a z => SCR x.R A z ∧ (∀ b, b < a → z 1243 b = Int32.ofNat (nNum (fbP x.T x.R A k b) (i + 1))) ∧ (∀ b, a ≤ b → b < x.T.pe → z 1243 b = Int32.ofNat (nNum (fbP x.T x.R A k b) i)) ∧ (∀ q, q < 77 → z 1238 q = R3 q)) ?_ ?_ A3 ⟨s3, fun b hb => absurd hb (Nat.not_lt_zero b), fun b _ hb => by rw [g3]; exact f2 b hb, fun q hq => h3.row q hq⟩
          · intro m' a z ha ⟨sz, z1, z2, z3⟩ hn'
            have iz := h.scr sz
            unfold fX10_ask_L70
            simp (disch := omega) only [n_inT, n_nat, true_and, iz.mm.live, iz.mm.pe, n_le, n_addR, n_addL]
            rw [if_neg (by omega), z3 _ (by omega), r3 _ (by omega), z2 a (Nat.le_refl _) ha]
            intro A5 e5
            refine hn' A5 ⟨sz.p1243 e5, fun b hb => ?_, fun b hb hb2 => ?_, fun q hq => by rw [e5, pup_ne (by omega)]; exact z3 q hq⟩
            · rw [e5, pup_row]
              unfold wup
              by_cases cb : b = a
              · rw [if_pos cb, cb]
                show _ = Int32.ofNat (nNum _ i + ite _ _ _)
                rcases V.fet a (by omega) with e | e
                · have e' : ¬ fbP x.T x.R A k a i := fun hc => by
                    have := hc.2
                    rw [e] at this; exact absurd this (by decide)
                  rw [if_neg e', e, Int32.add_zero]; rfl
                · rw [if_pos ⟨hs, e⟩, e, n_addR]
              · rw [if_neg cb]; exact z1 b (by omega)
            · rw [e5, pup_row, wup_ne (by omega)]; exact z2 b (by omega) hb2
          · intro m' z ⟨sz, z1, z2, z3⟩
            have iz := h.scr sz
            unfold fX10_ask_L70 fX10_ask_J110
            simp (disch := omega) only [n_inT, n_nat, true_and, iz.mm.live, iz.mm.pe, Int32.le_refl, if_true, n_addR]
            refine hn (c + 1, z) ⟨sz, ?_, z1⟩
            show c + 1 = nNum _ i + ite _ _ _
            rw [if_pos hs, ec]
        · rw [if_pos rfl]
          exact stay (fun hc => hs (es.mpr hc)) A3 (s2.trans (h3.scr i2)) (fun a => by rw [h3.fr 1243 (by decide) (by decide) (by decide) (by decide)])
      · rw [if_pos rfl, n_addR]
        exact stay (fun hc => hj hc.1) A2 s2 (fun _ => rfl)
    · intro m ⟨c, A2⟩ ⟨s2, ec, f2⟩
      simp only at s2 ec f2
      unfold fX10_ask_L38
      rw [if_pos (by decide)]
      have hh := hQ A2 s2
      rw [← ec] at hh
      refine m_askL2 h (f := fun a => nNum (fbP x.T x.R A k a) 20) (by rw [ec]; exact nNum_le _ 20) (fun a => by rw [ec]; exact nNum_mono _ _ (fun j hj => hj.1) 20) s2 f2 hh
theorem c_askQ (h : INV B x n K A Lg G) {k : Nat} (hB : B ≤ 900000000) {Q : Int32 → pA → Prop} {A1 : pA} (s1 : SCR x.R A A1) (f1 : ∀ j, j < 20 → isP x.T j → A1 277 j = bits4 (kRow x.T x.R j))
    (hQ : Q (if nNum (soP x.T x.R A k) 20 = 0 then -2 else (iter (askF (nNum (soP x.T x.R A k) 20) (fun a => nNum (fbP x.T x.R A k a) 20)) x.T.pe (-2, 0)).1) A1) : ∃ m, fX0_ask_L31 x.tx n K G Q m (qBits (soP x.T x.R A k) 20) (-2) 1000000 0 A1 := by
  have := h.vt.pe
  have i1 := h.scr s1
  have lb := nBits_lt (soP x.T x.R A k) 20
  have ln := nNum_le (soP x.T x.R A k) 20
  have ez : (qBits (soP x.T x.R A k) 20 = 0) ↔ nNum (soP x.T x.R A k) 20 = 0 := by
    rw [qBits_nat _ 20 (by omega), n_eqR (by omega) (by simp)]
    exact nBits_zero _ 20
  by_cases c0 : nNum (soP x.T x.R A k) 20 = 0
  · refine ⟨1, ?_⟩
    unfold fX0_ask_L31
    refine c_people i1.cm.pe ?_
    rw [if_pos c0] at hQ
    rw [if_pos (ez.mpr c0)]
    split <;> exact hQ
  · rw [if_neg c0] at hQ
    refine lp_up (fun m i (y : (Int32 × Int32) × Int32) => fX0_ask_L31 x.tx n K G Q m (qBits (soP x.T x.R A k) 20) y.1.1 y.2 i A1) x.T.pe (by omega) (fun i y => y.1 = iter (askF (nNum (soP x.T x.R A k) 20) (fun a => nNum (fbP x.T x.R A k a) 20)) i (-2, 0) ∧ ((y.1.1 = -2 ∧ y.2 = 1000000) ∨ (¬ y.1.1 < 0 ∧ y.2 = y.1.2))) ?_ ?_ ((-2, 0), 1000000) ⟨rfl, Or.inl ⟨rfl, rfl⟩⟩
    · intro m i ⟨y, few⟩ hi ⟨hy, st⟩ hn
      simp only at hy st
      unfold fX0_ask_L31
      refine c_people i1.cm.pe ?_
      rw [if_neg (by rw [n_le (by omega) (by omega)]; omega), if_neg (fun hh => c0 (ez.mp hh))]
      refine lp_up (fun m' j (z : Nat) => fX0_ask_L50 x.tx n K G (fun x0 x1 x2 x3 x4 => fX0_ask_L31 x.tx n K G Q m x0 x1 x2 x3 x4) Q m' (qBits (soP x.T x.R A k) 20) y.1 few (Int32.ofNat i) (Int32.ofNat z) j A1) 20 (by omega) (fun j z => z = nNum (fbP x.T x.R A k i) j) ?_ ?_ 0 rfl
      · intro m' j z hj hz hn'
        have zl := nNum_le (fbP x.T x.R A k i) j
        unfold fX0_ask_L50 fX0_ask_J85
        rw [if_neg (by rw [n_leL (by simp) (by omega)]; omega)]
        simp (disch := omega) only [n_inT, n_nat, true_and, n_addR, n_m31]
        have eb := qBits_bit (soP x.T x.R A k) (k := j) (m := 20) hj (by omega)
        by_cases c1 : soP x.T x.R A k j
        · have V := h.vr.kRowV h.vt hB c1.1
          rw [if_pos (eb.mpr c1), f1 j hj c1.1, bits4_get V.fet (by omega)]
          rcases V.fet i (by omega) with e | e
          · rw [e, Int32.add_zero]
            refine hn' z ?_
            show z = nNum _ j + ite _ _ _
            rw [if_neg (fun hc => by have := hc.2; rw [e] at this; exact absurd this (by decide)), hz]; rfl
          · rw [e, n_addR]
            refine hn' (z + 1) ?_
            show z + 1 = nNum _ j + ite _ _ _
            rw [if_pos ⟨c1, e⟩, hz]
        · rw [if_neg (fun hh => c1 (eb.mp hh)), Nat.add_zero]
          refine hn' z ?_
          show z = nNum _ j + ite _ _ _
          rw [if_neg (fun hc => c1 hc.1), hz]; rfl
      · intro m' z hz
        unfold fX0_ask_L50 fX0_ask_J125
        rw [if_pos (by decide)]
        refine c_bitCountQ (soP x.T x.R A k) ?_
        rw [qNum_nat, n_addR]
        have fl : nNum (fbP x.T x.R A k i) 20 ≤ nNum (soP x.T x.R A k) 20 := nNum_mono _ _ (fun j hj => hj.1) 20
        have ew : pmax (Int32.ofNat z) (Int32.ofNat (nNum (soP x.T x.R A k) 20) - Int32.ofNat z) = askW (nNum (fbP x.T x.R A k i) 20) (nNum (soP x.T x.R A k) 20) := by
          rw [hz]; rfl
        rw [ew]
        have lw := askW_lt fl ln
        have sx : iter (askF (nNum (soP x.T x.R A k) 20) (fun a => nNum (fbP x.T x.R A k a) 20)) (i + 1) (-2, 0) = askF (nNum (soP x.T x.R A k) 20) (fun a => nNum (fbP x.T x.R A k a) 20) i y := by rw [hy]; rfl
        unfold askF at sx
        rcases st with ⟨e1, e2⟩ | ⟨e1, e2⟩
        · rw [e2, if_pos lw]
          rw [if_pos (Or.inl (by rw [e1]; decide))] at sx
          exact hn ((_, _), _) ⟨sx.symm, Or.inr ⟨by show ¬ Int32.ofNat i < 0; rw [n_ltR (by omega) (by simp)]; omega, rfl⟩⟩
        · rw [e2]
          by_cases c2 : askW (nNum (fbP x.T x.R A k i) 20) (nNum (soP x.T x.R A k) 20) < y.2
          · rw [if_pos c2]
            rw [if_pos (Or.inr c2)] at sx
            exact hn ((_, _), _) ⟨sx.symm, Or.inr ⟨by show ¬ Int32.ofNat i < 0; rw [n_ltR (by omega) (by simp)]; omega, rfl⟩⟩
          · rw [if_neg c2]
            rw [if_neg (fun hh => hh.elim e1 c2)] at sx
            exact hn (y, y.2) ⟨sx.symm, Or.inr ⟨e1, rfl⟩⟩
    · intro m ⟨y, few⟩ ⟨hy, st⟩
      simp only at hy st
      unfold fX0_ask_L31
      refine c_people i1.cm.pe ?_
      rw [if_pos (Int32.le_refl _), hy]
      exact hQ
theorem q_ask (h : INV B x n K A Lg G) (hB : B ≤ 900000000) (p : Int32) : fX0_ask x.tx n K A G p (fun r A1 => fX10_ask A1 p (fun r' A2 => r = r' ∧ SCR x.R A A2)) := by
  have := h.to20
  unfold fX0_ask
  refine c_inN x.to (by omega) h.cto (fun hp => ?_) (fun hp => ?_)
  · rw [if_neg (by decide)]
    have hp' := hp
    obtain ⟨k, hk, rfl⟩ := hp
    refine c_kicksBy h hB (by omega) (fun A1 s1 f1 => ?_)
    exact c_askQ h hB s1 f1 (m_askQ h hB (by omega) (fun A2 s2 => ⟨rfl, s2⟩) s1)
  · rw [if_pos rfl]
    unfold fX10_ask
    refine m_inN x.to (by omega) h.mto (fun hh => absurd hh hp) (fun _ => ?_)
    rw [if_pos rfl]
    exact ⟨rfl, h.same⟩
end I
