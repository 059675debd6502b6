set_option maxRecDepth 100000
set_option linter.all false
section I
variable {B : Nat} {x : St} {n : Nat} {K : Nat → pKd} {A A1 A' : pA} {Lg : pL} {G : pG}
theorem c_nextHour (h : INV B x n K A Lg G) (hB : B ≤ 900000000) {Q : pA → Prop} (hQ : ∀ A', CS A A' 48 (sNext x.T x.R) → Q A') : fX0_nextHour x.tx n K A G Q := by
  unfold fX0_nextHour
  refine h.takes (fun A3 h3 => ?_)
  have i3 := h.scr (h3.scrT h)
  refine c_tillHour i3.cm i3.cs ?_
  intro A5 e5
  rw [h3.tv.tim] at e5
  have h5 := h3.step0 e5 h3.tv.timU
  obtain ⟨t, u, b1, b2, b3, b4, b5, b6⟩ := sTill_nat h.vt h.vr (by omega)
  have v1 : VR x.T (B + 1440) (wup x.R 76 (x.R 76 + sTill x.T x.R)) := by
    refine h.vr.timU h.vt (by omega) ?_
    rw [b2, b5, n_add, n_int (by omega)]
    omega
  refine c_rests h.vt v1 oT48 h.cm h5 (fun A6 h6 => ?_)
  refine lp_up (fun m i (y : pA) => fX0_nextHour_L40 x.tx n K G Q m i y) 4 (by omega) (fun i y => CS A y 48 (iter (fun a (R : Rw) => wup R (19 + a) (-2)) i (sRest x.T (wup x.R 76 (x.R 76 + sTill x.T x.R))))) ?_ ?_ A6 h6
  · intro m i y hi hy hn
    unfold fX0_nextHour_L40
    rw [if_neg (by rw [n_leL (by simp) (by omega)]; omega)]
    simp (disch := omega) only [n_inT, n_nat, true_and, n_addR]
    intro A2 e2
    exact hn A2 (hy.step e2 (by omega) (hy.tv.goalU (by omega)))
  · intro m y hy
    unfold fX0_nextHour_L40
    rw [if_pos (by decide)]
    exact hQ y hy
theorem c_fetchedIn {A0 A : pA} {tx : Nat} {T : Tx} {B' : Nat} {R : Rw} (hT : VT T) (hF : VF T) (hV : VR T B' R) (hB : B' + 1440 < 1000000000) (hM : CM n K A0 G tx T) (h : CS A0 A 48 R) {Q : Int32 → pA → Prop} (hQ : ∀ A', CS A0 A' 48 (cHour T (T.ht - T.hf) R) → Q (bits4 (cHour T (T.ht - T.hf) R)) A') : fX0_fetchedIn tx n K A G Q := by
  have := hT.hf; have := hT.ht; have := hT.dg
  unfold fX0_fetchedIn
  rw [h.tx0 oT48 hM, hM.hf]
  refine lp_from (fun m i (y : pA) => fX0_fetchedIn_L8 tx n K G Q m i y) T.hf T.ht (by omega) (by omega) (fun i y => CS A0 y 48 (cHour T (i - T.hf) R)) ?_ ?_ A (by rw [Nat.sub_self]; exact h)
  · intro m i y hb hi hy hn
    unfold fX0_fetchedIn_L8
    rw [hy.tx0 oT48 hM, hM.ht, if_neg (by rw [n_le (by omega) (by omega)]; omega)]
    have V := hV.chour hT (i - T.hf) (by omega)
    refine lp_up (fun m' j (z : pA) => fX0_fetchedIn_L21 tx n K G (fun x0 x1 => fX0_fetchedIn_L8 tx n K G Q m x0 x1) Q m' (Int32.ofNat i) j z) T.dg (by omega) (fun j z => CS A0 z 48 (iter (fun d (R : Rw) => sDog T R d) j (cHour T (i - T.hf) R))) ?_ ?_ y hy
    · intro m' j z hj hz hn'
      unfold fX0_fetchedIn_L21
      have ed : z (tx + 2) 2 = Int32.ofNat T.dg := by rw [hz.txj oT48 hM (by omega)]; exact hM.dg
      refine c_dogs ed ?_
      rw [if_neg (by rw [n_le (by omega) (by omega)]; omega)]
      refine c_hunts hT hF (V.dogs hT (n := j) (by omega)) oT48 hM hz hj (fun A2 h2 => ?_)
      rw [n_addR]
      exact hn' A2 h2
    · intro m' z hz
      unfold fX0_fetchedIn_L21
      have ed : z (tx + 2) 2 = Int32.ofNat T.dg := by rw [hz.txj oT48 hM (by omega)]; exact hM.dg
      refine c_dogs ed ?_
      rw [if_pos (Int32.le_refl _)]
      intro A2 e2
      rw [hz.tv.tim] at e2
      rw [n_addR]
      refine hn A2 ?_
      rw [show i + 1 - T.hf = (i - T.hf) + 1 by omega]
      exact hz.step0 e2 hz.tv.timU
  · intro m y hy
    unfold fX0_fetchedIn_L8
    rw [hy.tx0 oT48 hM, hM.ht, if_pos (Int32.le_refl _), hy.tv.fet]
    exact hQ y hy
theorem m_nextHour {A0 A : pA} {T : Tx} {s B' : Nat} {R : Rw} (hT : VT T) (hV : VR T B' R) (hB : B' ≤ 900000000) (hM : MM A0 T s) (h : MS A0 A R) {Q : pA → Prop} (hQ : ∀ A', MS A0 A' (sGoes T (T.ht - T.hf) (sNext T R)) → Q A') : fX10_nextHour A Q := by
  have := hT.hf; have := hT.ht; have := hT.dg; have := hM.slt
  unfold fX10_nextHour
  refine m_tillNext hM h ?_
  intro A7 e7
  rw [h.row 76 (by omega)] at e7
  have h7 := h.putE e7
  refine m_dogsRest hT hM h7 (fun A8 h8 => ?_)
  refine lp_up (fun m i (y : pA) => fX10_nextHour_L20 Q m i y) 4 (by omega) (fun i y => MS A0 y (iter (fun a (R : Rw) => wup R (19 + a) (-2)) i (sRest T (wup R 76 (R 76 + sTill T R))))) ?_ ?_ A8 h8
  · intro m i y hi hy hn
    unfold fX10_nextHour_L20
    rw [if_neg (by rw [n_leL (by simp) (by omega)]; omega)]
    simp (disch := omega) only [n_inT, n_nat, true_and, n_addR, n_addL]
    intro A2 e2
    exact hn A2 (hy.putE e2)
  · intro m y hy
    unfold fX10_nextHour_L20
    rw [if_pos (by decide)]
    simp (disch := omega) only [n_inT, n_nat, true_and, hy.fr, hy.fi, hM.live, hM.hf, hM.ht]
    rw [n_sub (by omega)]
    exact m_goes hT (hV.next hT hB) hM hy (by omega) hQ
/-- both hours end alike -/
theorem hour_both {T : Tx} {B : Nat} {R R1 : Rw} (hT : VT T) (hV : VR T B R) (hB : B ≤ 900000000) (h1 : R1 76 = sNext T R 76) (h2 : ∀ a, a < 4 → R1 (19 + a) = -2) : ∀ k, k < 35 → sGoes T (T.ht - T.hf) R1 k = cHour T (T.ht - T.hf) R1 k := by
  obtain ⟨t, b1, b2, b3⟩ := sNext_time hT hV hB
  exact hour_end hT h2 (t := t) (by rw [h1, b2]) (by omega) b3
/-- one place tried -/
def qTry (T : Tx) (R : Rw) (a p : Nat) : Rw := cHour T (T.ht - T.hf) (wup (sNext T R) (15 + a) (Int32.ofNat p))
def qSafe (T : Tx) (R : Rw) (a m : Nat) : Int32 := qBits (fun p => qTry T R a p (27 + a) = 0) m
theorem c_safeFor (h : INV B x n K A Lg G) (hB : B ≤ 900000000) {a : Nat} (ha : a < x.T.pe) {Q : Int32 → pA → Prop} (hQ : ∀ A', SCR x.R A A' → Q (qSafe x.T x.R a x.T.pl) A') : fX0_safeFor x.tx n K A G (Int32.ofNat a) Q := by
  have := h.vt.pl; have := h.vt.pe; have := h.vt.hf; have := h.vt.ht
  unfold fX0_safeFor
  refine lp_up (fun m i (y : Int32 × pA) => fX0_safeFor_L4 x.tx n K G Q m (Int32.ofNat a) y.1 i y.2) x.T.pl (by omega) (fun i y => y.1 = qSafe x.T x.R a i ∧ SCR x.R A y.2) ?_ ?_ (0, A) ⟨rfl, h.same⟩
  · intro m i ⟨y, A2⟩ hi ⟨hy, s2⟩ hn
    simp only at hy s2
    have i2 := h.scr s2
    unfold fX0_safeFor_L4 fX0_safeFor_J46
    refine c_places i2.cm.pl ?_
    rw [if_neg (by rw [n_le (by omega) (by omega)]; omega)]
    refine c_nextHour i2 hB (fun A3 h3 => ?_)
    simp (disch := omega) only [n_inT, n_nat, true_and, n_addR, n_m31]
    intro A4 e4
    have h4 := h3.step e4 (by omega) (h3.tv.at_U (by omega))
    have V4 : VR x.T (B + 1440) (wup (sNext x.T x.R) (15 + a) (Int32.ofNat i)) := (h.vr.next h.vt hB).atU h.vt (by omega) hi
    refine c_fetchedIn h.vt h.vf V4 (by omega) i2.cm h4 (fun A6 h6 => ?_)
    have V6 := V4.chour h.vt (x.T.ht - x.T.hf) (by omega)
    have s6 := s2.trans (h6.scrT i2)
    rw [bits4_get V6.fet (by omega)]
    rcases V6.fet a (by omega) with e | e
    · have e1 : ¬ cHour x.T (x.T.ht - x.T.hf) (wup (sNext x.T x.R) (15 + a) (Int32.ofNat i)) (27 + a) = 1 := by rw [e]; decide
      rw [if_neg e1]
      refine hn (_, A6) ⟨?_, s6⟩
      show _ = ite _ _ _
      rw [if_pos (show qTry x.T x.R a i (27 + a) = 0 from e), hy]; rfl
    · rw [if_pos e]
      refine hn (_, A6) ⟨?_, s6⟩
      show _ = ite _ _ _
      have e0 : ¬ qTry x.T x.R a i (27 + a) = 0 := by
        have : qTry x.T x.R a i (27 + a) = 1 := e
        rw [this]; decide
      rw [if_neg e0, i_or0, hy]; rfl
  · intro m ⟨y, A2⟩ ⟨hy, s2⟩
    simp only at hy s2
    have i2 := h.scr s2
    unfold fX0_safeFor_L4
    refine c_places i2.cm.pl ?_
    rw [if_pos (Int32.le_refl _), hy]
    exact hQ A2 s2
theorem m_safeBits (h : INV B x n K A Lg G) (hB : B ≤ 900000000) {a : Nat} (ha : a < x.T.pe) {Q : Int32 → pA → Prop} (hQ : ∀ A', SCR x.R A A' → Q (qSafe x.T x.R a x.T.pl) A') : fX10_safeBits A (Int32.ofNat a) Q := by
  have := h.vt.pl; have := h.vt.pe; have := h.vt.hf; have := h.vt.ht; have := h.mm.slt
  unfold fX10_safeBits
  refine lp_up (fun m i (y : Int32 × pA) => fX10_safeBits_L4 Q m (Int32.ofNat a) y.1 i y.2) x.T.pl (by omega) (fun i y => y.1 = qSafe x.T x.R a i ∧ SCR x.R A y.2) ?_ ?_ (0, A) ⟨rfl, h.same⟩
  · intro m i ⟨y, A2⟩ hi ⟨hy, s2⟩ hn
    simp only at hy s2
    have i2 := h.scr s2
    unfold fX10_safeBits_L4 fX10_safeBits_J53
    simp (disch := omega) only [n_inT, n_nat, true_and, i2.mm.live, i2.mm.pl, n_le, n_addR, n_addL, n_m31]
    rw [if_neg (by omega)]
    refine i2.copies (fun A3 h3 => ?_)
    intro A4 e4
    have h4 := h3.putE e4
    have V4 : VR x.T B (wup x.R (15 + a) (Int32.ofNat i)) := h.vr.atU h.vt (by omega) hi
    refine m_nextHour h.vt V4 hB i2.mm h4 (fun A6 h6 => ?_)
    have s6 := s2.trans (h6.scr i2)
    rw [h6.row _ (by omega)]
    rw [sNext_upd h.vt (by omega) (by omega) (by omega)]
    have eb := hour_both (R1 := wup (sNext x.T x.R) (15 + a) (Int32.ofNat i)) h.vt h.vr hB (by rw [wup_ne (by omega)]) (fun b hb => by rw [wup_ne (by omega)]; exact sNext_goal b hb) (27 + a) (by omega)
    rw [eb]
    by_cases c : qTry x.T x.R a i (27 + a) = 0
    · refine n_pos c (hn (_, A6) ⟨?_, s6⟩)
      show _ = ite _ _ _
      rw [if_pos c, hy]; rfl
    · refine n_neg c (hn (_, A6) ⟨?_, s6⟩)
      show _ = ite _ _ _
      rw [if_neg c, hy]; rfl
  · intro m ⟨y, A2⟩ ⟨hy, s2⟩
    simp only at hy s2
    have i2 := h.scr s2
    unfold fX10_safeBits_L4
    simp (disch := omega) only [n_inT, n_nat, true_and, i2.mm.live, i2.mm.pl, Int32.le_refl, if_true]
    rw [hy]
    exact hQ A2 s2
theorem q_safe (h : INV B x n K A Lg G) (hB : B ≤ 900000000) (p : Int32) : fX0_safe x.tx n K A G p (fun r A1 => fX10_safe A1 p (fun r' A2 => r = r' ∧ SCR x.R A A2)) := by
  unfold fX0_safe
  refine c_isPerson h.vt h.cm.pe (fun hp => ?_) (fun hp => ?_)
  · rw [if_neg (by decide)]
    have hp' := hp
    obtain ⟨a, ha, rfl⟩ := hp
    refine c_safeFor h hB ha (fun A1 s1 => ?_)
    have i1 := h.scr s1
    unfold fX10_safe
    refine m_isPerson h.vt i1.mm (fun _ => ?_) (fun hh => absurd hp' hh)
    rw [if_neg (by decide)]
    exact m_safeBits i1 hB ha (fun A2 s2 => ⟨rfl, s1.trans s2⟩)
  · rw [if_pos rfl]
    unfold fX10_safe
    refine m_isPerson h.vt h.mm (fun hh => absurd hh hp) (fun _ => ?_)
    rw [if_pos rfl]
    exact ⟨rfl, h.same⟩
def qRefF (T : Tx) (u : Nat) (set : Int32) (p : Nat) (s : Int32 × Nat) : Int32 × Nat := if (set >>> Int32.ofNat p) &&& 1 = 1 ∧ T.far u p < s.2 then (Int32.ofNat p, T.far u p) else s
theorem q_refuge (h : INV B x n K A Lg G) (hB : B ≤ 900000000) (p w : Int32) : fX0_refuge x.tx n K A G p w (fun r A1 => fX10_refuge A1 p w (fun r' A2 => r = r' ∧ SCR x.R A A2)) := by
  have := h.vt.pl; have := h.vt.pe; have := h.mm.slt
  unfold fX0_refuge
  refine c_isPerson h.vt h.cm.pe (fun hp => ?_) (fun hp => ?_)
  · rw [if_neg (by decide)]
    have hp' := hp
    obtain ⟨a, ha, rfl⟩ := hp
    refine c_inN 1 (by omega) rfl (fun hw => ?_) (fun hw => ?_)
    · rw [if_neg (by decide)]
      refine c_safeFor h hB ha (fun A1 s1 => ?_)
      have i1 := h.scr s1
      obtain ⟨u, hu, eu⟩ := h.vr.at_ h.vt a ha
      generalize es : qSafe x.T x.R a x.T.pl = set
      have M : ∀ v : Int32, v = (if (iter (qRefF x.T u set) x.T.pl (-2, 99)).1 < 0 then (iter (qRefF x.T u set) x.T.pl (-2, 99)).1 else if w = 0 then (iter (qRefF x.T u set) x.T.pl (-2, 99)).1 else Int32.ofNat (iter (qRefF x.T u set) x.T.pl (-2, 99)).2) → fX10_refuge A1 (Int32.ofNat a) w (fun r' A2 => v = r' ∧ SCR x.R A A2) := by
        intro v hv
        unfold fX10_refuge
        refine m_isPerson h.vt i1.mm (fun _ => ?_) (fun hh => absurd hp' hh)
        rw [if_neg (by decide)]
        refine m_inN 1 (by omega) rfl (fun _ => ?_) (fun hh => absurd hw hh)
        rw [if_neg (by decide)]
        refine m_safeBits i1 hB ha (fun A2 s2 => ?_)
        have i2 := i1.scr s2
        rw [es]
        refine lp_up (fun m i (y : Int32 × Nat) => fX10_refuge_L36 (fun r' A2 => v = r' ∧ SCR x.R A A2) m (Int32.ofNat a) w set y.1 (Int32.ofNat y.2) i A2) x.T.pl (by omega) (fun i y => y = iter (qRefF x.T u set) i (-2, 99) ∧ y.2 ≤ 99) ?_ ?_ (-2, 99) ⟨rfl, Nat.le_refl _⟩
        · intro m i y hi ⟨hy, hb⟩ hn
          have e2 := i2.mm.far u i (by omega) (by omega)
          have b2 := h.vt.far u i
          unfold fX10_refuge_L36 fX10_refuge_J99
          simp (disch := omega) only [n_inT, n_nat, true_and, i2.mm.live, i2.mm.pl, n_le, n_addR, n_addL, n_m31]
          rw [if_neg (by omega), i2.mr _ (by omega), eu]
          simp (disch := omega) only [n_inT, n_nat, true_and, n_mulL, n_add, e2, n_lt]
          by_cases c1 : (set >>> Int32.ofNat i) &&& 1 = 1
          · rw [if_neg (by rw [n_bit]; exact fun hh => hh c1)]
            by_cases c2 : x.T.far u i < y.2
            · rw [if_pos c2]
              refine hn (Int32.ofNat i, x.T.far u i) ⟨?_, b2⟩
              show _ = qRefF x.T u set i _
              rw [← hy]; unfold qRefF; rw [if_pos ⟨c1, c2⟩]
            · rw [if_neg c2]
              refine hn y ⟨?_, hb⟩
              show _ = qRefF x.T u set i _
              rw [← hy]; unfold qRefF; rw [if_neg (fun hh => c2 hh.2)]
          · rw [if_pos (by rw [n_bit]; exact c1)]
            refine hn y ⟨?_, hb⟩
            show _ = qRefF x.T u set i _
            rw [← hy]; unfold qRefF; rw [if_neg (fun hh => c1 hh.1)]
        · intro m y ⟨hy, hb⟩
          unfold fX10_refuge_L36
          simp (disch := omega) only [n_inT, n_nat, true_and, i2.mm.live, i2.mm.pl, Int32.le_refl, if_true]
          rw [← hy] at hv
          by_cases c1 : y.1 < 0
          · rw [if_pos c1] at hv ⊢; exact ⟨hv, s1.trans s2⟩
          · rw [if_neg c1] at hv ⊢
            by_cases c2 : w = 0
            · rw [if_pos c2] at hv ⊢; exact ⟨hv, s1.trans s2⟩
            · rw [if_neg c2] at hv ⊢; exact ⟨hv, s1.trans s2⟩
      refine lp_up (fun m i (y : Int32 × Nat) => fX0_refuge_L37 x.tx n K G (fun r A1 => fX10_refuge A1 (Int32.ofNat a) w (fun r' A2 => r = r' ∧ SCR x.R A A2)) m (Int32.ofNat a) w set y.1 (farC y.2) i A1) x.T.pl (by omega) (fun i y => y = iter (qRefF x.T u set) i (-2, 99) ∧ y.2 ≤ 99 ∧ (y.1 < 0 ∨ y.2 < 99)) ?_ ?_ (-2, 99) ⟨rfl, Nat.le_refl _, Or.inl (by decide)⟩
      · intro m i y hi ⟨hy, hb, hs⟩ hn
        have e2 := i1.cm.far u i (by omega) (by omega)
        have b2 := h.vt.far u i
        unfold fX0_refuge_L37 fX0_refuge_J82 fX0_refuge_J102
        refine c_places i1.cm.pl ?_
        rw [if_neg (by rw [n_le (by omega) (by omega)]; omega)]
        simp (disch := omega) only [n_inT, n_nat, true_and, n_addR, n_m31]
        rw [i1.tv.at_ a (by omega), eu]
        simp (disch := omega) only [n_inT, n_nat, true_and, e2]
        have ef := farC_lt b2 hb
        by_cases c1 : (set >>> Int32.ofNat i) &&& 1 = 1
        · rw [if_pos c1]
          by_cases c2 : x.T.far u i < y.2
          · refine n_pos (by rw [ef]; exact c2) ?_
            refine hn (Int32.ofNat i, x.T.far u i) ⟨?_, b2, Or.inr (by show x.T.far u i < 99; omega)⟩
            show _ = qRefF x.T u set i _
            rw [← hy]; unfold qRefF; rw [if_pos ⟨c1, c2⟩]
          · refine n_neg (by rw [ef]; exact c2) ?_
            refine hn y ⟨?_, hb, hs⟩
            show _ = qRefF x.T u set i _
            rw [← hy]; unfold qRefF; rw [if_neg (fun hh => c2 hh.2)]
        · rw [if_neg c1]
          have eg := farC_lt (Nat.le_refl 99) hb
          rw [farC_99] at eg
          refine n_neg (by rw [eg]; omega) ?_
          refine hn y ⟨?_, hb, hs⟩
          show _ = qRefF x.T u set i _
          rw [← hy]; unfold qRefF; rw [if_neg (fun hh => c1 hh.1)]
      · intro m y ⟨hy, hb, hs⟩
        unfold fX0_refuge_L37
        refine c_places i1.cm.pl ?_
        rw [if_pos (Int32.le_refl _)]
        rw [← hy] at M
        by_cases c1 : y.1 < 0
        · rw [if_pos c1] at M ⊢; exact M _ rfl
        · rw [if_neg c1] at M ⊢
          by_cases c2 : w = 0
          · rw [if_pos c2] at M ⊢; exact M _ rfl
          · rw [if_neg c2] at M ⊢
            refine M _ ?_
            have : y.2 < 99 := by
              rcases hs with hs | hs
              · exact absurd hs c1
              · exact hs
            unfold farC
            rw [if_pos this]
    · rw [if_pos rfl]
      unfold fX10_refuge
      refine m_isPerson h.vt h.mm (fun _ => ?_) (fun hh => absurd hp' hh)
      rw [if_neg (by decide)]
      refine m_inN 1 (by omega) rfl (fun hh => absurd hh hw) (fun _ => ?_)
      rw [if_pos rfl]
      exact ⟨rfl, h.same⟩
  · rw [if_pos rfl]
    unfold fX10_refuge
    refine m_isPerson h.vt h.mm (fun hh => absurd hh hp) (fun _ => ?_)
    rw [if_pos rfl]
    exact ⟨rfl, h.same⟩
theorem q_loses (h : INV B x n K A Lg G) (hB : B ≤ 900000000) (p : Int32) : fX0_loses x.tx n K A G p (fun r A1 => fX10_loses A1 p (fun r' A2 => r = r' ∧ SCR x.R A A2)) := by
  have := h.vt.pe; have := h.vt.hf; have := h.vt.ht
  unfold fX0_loses
  refine c_isPerson h.vt h.cm.pe (fun hp => ?_) (fun hp => ?_)
  · rw [if_neg (by decide)]
    have hp' := hp
    obtain ⟨a, ha, rfl⟩ := hp
    refine c_nextHour h hB (fun A2 h2 => ?_)
    refine c_fetchedIn h.vt h.vf (h.vr.next h.vt hB) (by omega) h.cm h2 (fun A4 h4 => ?_)
    have s4 := h4.scrT h
    have i4 := h.scr s4
    simp (disch := omega) only [n_inT, n_nat, true_and]
    rw [i4.tv.pok a (by omega), h4.tv.pok a (by omega)]
    unfold fX10_loses
    refine m_isPerson h.vt i4.mm (fun _ => ?_) (fun hh => absurd hp' hh)
    rw [if_neg (by decide)]
    refine i4.copies (fun A5 h5 => ?_)
    refine m_nextHour h.vt h.vr hB i4.mm h5 (fun A6 h6 => ?_)
    simp (disch := omega) only [n_inT, n_nat, true_and, n_addL, h6.row]
    rw [h6.fr 1237 (by decide) (by decide) (by decide) (by decide), i4.mr _ (by omega)]
    rw [hour_both h.vt h.vr hB rfl sNext_goal (23 + a) (by omega)]
    exact ⟨rfl, s4.trans (h6.scr i4)⟩
  · rw [if_pos rfl]
    unfold fX10_loses
    refine m_isPerson h.vt h.mm (fun hh => absurd hh hp) (fun _ => ?_)
    rw [if_pos rfl]
    exact ⟨rfl, h.same⟩
theorem bits4_q {T : Tx} {B : Nat} {R : Rw} (hT : VT T) (hV : VR T B R) : bits4 R = qBits (fun k => R (27 + k) = 1) T.pe := by
  have hpe := hT.pe
  have h0 := hV.fet 0 (by omega); have h1 := hV.fet 1 (by omega); have h2 := hV.fet 2 (by omega); have h3 := hV.fet 3 (by omega)
  have z0 := hV.fet0 0 (by omega); have z1 := hV.fet0 1 (by omega); have z2 := hV.fet0 2 (by omega); have z3 := hV.fet0 3 (by omega)
  simp only [Nat.reduceAdd] at h0 h1 h2 h3 z0 z1 z2 z3
  unfold bits4 qBits
  rcases (show T.pe = 0 ∨ T.pe = 1 ∨ T.pe = 2 ∨ T.pe = 3 ∨ T.pe = 4 by omega) with e | e | e | e | e <;> rw [e] at z0 z1 z2 z3 ⊢ <;> simp only [iter, Nat.reduceAdd]
  · have z0 := z0 (by omega); have z1 := z1 (by omega); have z2 := z2 (by omega); have z3 := z3 (by omega)
    simp only [z0, z1, z2, z3]; decide
  · have z1 := z1 (by omega); have z2 := z2 (by omega); have z3 := z3 (by omega)
    rcases h0 with h0 | h0 <;> simp only [h0, z1, z2, z3] <;> decide
  · have z2 := z2 (by omega); have z3 := z3 (by omega)
    rcases h0 with h0 | h0 <;> rcases h1 with h1 | h1 <;> simp only [h0, h1, z2, z3] <;> decide
  · have z3 := z3 (by omega)
    rcases h0 with h0 | h0 <;> rcases h1 with h1 | h1 <;> rcases h2 with h2 | h2 <;> simp only [h0, h1, h2, z3] <;> decide
  · rcases h0 with h0 | h0 <;> rcases h1 with h1 | h1 <;> rcases h2 with h2 | h2 <;> rcases h3 with h3 | h3 <;> simp only [h0, h1, h2, h3] <;> decide
theorem qBits_congr {f g : Nat → Prop} [DecidablePred f] [DecidablePred g] : ∀ m, (∀ k, k < m → (f k ↔ g k)) → qBits f m = qBits g m
  | 0, _ => rfl
  | m + 1, h => by
    have ih := qBits_congr (f := f) (g := g) m (fun k hk => h k (by omega))
    show (if f m then qBits f m ||| _ else qBits f m) = (if g m then qBits g m ||| _ else qBits g m)
    rw [ih]
    by_cases c : f m
    · rw [if_pos c, if_pos ((h m (by omega)).mp c)]
    · rw [if_neg c, if_neg (fun hh => c ((h m (by omega)).mpr hh))]
theorem q_fetched (h : INV B x n K A Lg G) (hB : B ≤ 900000000) : fX0_fetched x.tx n K A G (fun r A1 => fX10_fetched A1 (fun r' A2 => r = r' ∧ SCR x.R A A2)) := by
  have := h.vt.pe; have := h.vt.hf; have := h.vt.ht; have := h.mm.slt
  unfold fX0_fetched
  refine c_nextHour h hB (fun A2 h2 => ?_)
  have V2 := h.vr.next h.vt hB
  refine c_fetchedIn h.vt h.vf V2 (by omega) h.cm h2 (fun A4 h4 => ?_)
  have V4 := V2.chour h.vt (x.T.ht - x.T.hf) (by omega)
  have s4 := h4.scrT h
  have i4 := h.scr s4
  unfold fX10_fetched
  refine i4.copies (fun A5 h5 => ?_)
  refine m_nextHour h.vt h.vr hB i4.mm h5 (fun A6 h6 => ?_)
  simp (disch := omega) only [n_inT, n_nat, true_and, h6.fr, h6.fi, i4.mm.live, i4.mm.pe]
  refine m_bitsOf h6 (f := 27) (by omega) (by omega) ⟨?_, s4.trans (h6.scr i4)⟩
  rw [bits4_q h.vt V4]
  refine qBits_congr _ (fun k hk => ?_)
  rw [hour_both h.vt h.vr hB rfl sNext_goal (27 + k) (by omega)]
end I
