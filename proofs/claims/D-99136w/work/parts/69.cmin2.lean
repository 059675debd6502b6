set_option maxRecDepth 100000
set_option linter.all false
theorem cLaw_same {n : Nat} {K : Nat → pKd} {A A' : pA} {G : pG} {c : Nat} {l : LawT} (h : ∀ c, 1246 ≤ c → A' c = A c) (hl : cLaw n K A G c l) : cLaw n K A' G c l := by
  obtain ⟨e0, g0, lt0, k0, r0⟩ := hl.less
  obtain ⟨e1, g1, lt1, k1, r1⟩ := hl.than
  obtain ⟨e2, g2, lt2, k2, r2⟩ := hl.then_
  exact ⟨hl.lt, hl.ge, hl.lt2, hl.kd, by rw [h c hl.ge]; exact hl.ifs, hl.le, ⟨e0, g0, lt0, k0, cRow_same h _ _ r0⟩, ⟨e1, g1, lt1, k1, cRow_same h _ _ r1⟩, ⟨e2, g2, lt2, k2, cRow_same h _ _ r2⟩⟩
section C
variable {n : Nat} {K : Nat → pKd} {A0 A : pA} {G : pG} {tx o : Nat} {T : Tx} {B : Nat} {R : Rw}
theorem c_lawOf (ho : oT o) (hM : CM n K A0 G tx T) (h : CS A0 A o R) {c : Nat} {l : LawT} (hl : cLaw n K A0 G c l) {v : Nat → Int32} (hv : ∀ k, k < 9 → A (o + 22) k = v k) {Q : Int32 → pA → Prop} (hQ : ∀ A', CS A0 A' o R → A' (o + 20) = A (o + 20) → Q ((lawEv v l.2 l.1).getD 0) A') : fX11_of c o n K A G Q :=
  c_law ho (cLaw_same (fun c hc => h.hi ho hc) hl) hv (fun A' f => hQ A' (h.nouP f) (f _ (by omega)))
theorem c_wants (hT : VT T) (hV : VR T B R) (ho : oT o) (hM : CM n K A0 G tx T) (h : CS A0 A o R) {d a : Nat} (hd : d < T.dg) (ha : a < T.pe) {Q : Int32 → pA → Prop} (hQ : ∀ A', CS A0 A' o R → Q (sWants T R d a) A') : fX5_wants o tx n K A G (Int32.ofNat d) (Int32.ofNat a) Q := by
  have := hT.dg; have := hT.pe
  have hl := hM.law 0 (by omega)
  unfold sWants lawV at hQ
  unfold fX5_wants
  cases hw : T.law 0 with
  | none =>
    rw [hw] at hl hQ
    refine Or.inl ⟨hl, n_in (by omega) (by omega), n_in (by omega) (by omega), ?_⟩
    simp (disch := omega) only [n_nat]
    rw [h.tv.kik d a (by omega) (by omega)]
    exact hQ A h
  | some l =>
    rw [hw] at hl hQ
    obtain ⟨c, hc, hl⟩ := hl
    refine Or.inr ⟨c, hc, hl.lt2, c, hc, ?_⟩
    refine c_asks hT hV ho hM h hd ha (fun A5 h5 v5 _ => ⟨hl.lt, hl.kd, ?_⟩)
    exact c_lawOf ho hM h5 hl v5 (fun A' h' _ => hQ A' h')
theorem i_le_of_nn {x : Int32} (h : 0 ≤ x.toInt) : (0 : Int32) ≤ x := by
  rw [Int32.le_iff_toInt_le]; exact h
theorem c_takesOf (hT : VT T) (hV : VR T B R) (ho : oT o) (hM : CM n K A0 G tx T) (h : CS A0 A o R) {d a : Nat} (hd : d < T.dg) (ha : a < T.pe) {Q : Int32 → pA → Prop} (hQ : ∀ A', CS A0 A' o R → Q (sTakes T R d a) A') : fX5_takesOf o tx n K A G (Int32.ofNat d) (Int32.ofNat a) Q := by
  have := hT.dg; have := hT.pe
  have hl := hM.law 1 (by omega)
  have hp := i_le_of_nn (hV.pok a (by omega))
  have J : ∀ (x : Int32) A', CS A0 A' o R → x = lawV T 1 (sVar T R d a) (T.bit d) → fX5_takesOf_J42 o tx n K G Q (Int32.ofNat a) x A' := by
    intro x A' h' e
    unfold fX5_takesOf_J42 fX0_within
    refine ⟨n_in (by omega) (by omega), ?_⟩
    rw [n_nat (by omega), h'.tv.pok a (by omega), pmm_wth hp, e]
    exact hQ A' h'
  unfold lawV at J
  unfold fX5_takesOf
  cases hw : T.law 1 with
  | none =>
    rw [hw] at hl J
    refine Or.inl ⟨hl, ?_⟩
    refine c_dog hT ho hM h hd (fun r r1 r2 r3 r4 r5 => ⟨r1, r2, J _ A h r4⟩)
  | some l =>
    rw [hw] at hl J
    obtain ⟨c, hc, hl⟩ := hl
    refine Or.inr ⟨c, hc, hl.lt2, c, hc, ?_⟩
    refine c_asks hT hV ho hM h hd ha (fun A5 h5 v5 _ => ⟨hl.lt, hl.kd, ?_⟩)
    exact c_lawOf ho hM h5 hl v5 (fun A' h' _ => J _ A' h' rfl)
theorem c_fades (hT : VT T) (hV : VR T B R) (ho : oT o) (hM : CM n K A0 G tx T) (h : CS A0 A o R) {d a : Nat} (hd : d < T.dg) (ha : a < T.pe) {Q : Int32 → pA → Prop} (hQ : ∀ A', CS A0 A' o R → A' (o + 20) = A (o + 20) → Q (sFades T R d a) A') : fX5_fades o tx n K A G (Int32.ofNat d) (Int32.ofNat a) Q := by
  have := hT.dg; have := hT.pe
  have hl := hM.law 2 (by omega)
  unfold sFades lawV at hQ
  unfold fX5_fades
  cases hw : T.law 2 with
  | none =>
    rw [hw] at hl hQ
    exact Or.inl ⟨hl, hQ A h rfl⟩
  | some l =>
    rw [hw] at hl hQ
    obtain ⟨c, hc, hl⟩ := hl
    refine Or.inr ⟨c, hc, hl.lt2, c, hc, ?_⟩
    refine c_asks hT hV ho hM h hd ha (fun A5 h5 v5 f5 => ⟨hl.lt, hl.kd, ?_⟩)
    refine c_lawOf ho hM h5 hl v5 (fun A' h' f' => ?_)
    unfold fX0_within
    rw [pmm_wth (by decide)]
    exact hQ A' h' (by rw [f', f5])
theorem c_dues (hT : VT T) (hV : VR T B R) (ho : oT o) (hM : CM n K A0 G tx T) (h : CS A0 A o R) {d : Nat} (hd : d < T.dg) {Q : Int32 → pA → Prop} (hQ : ∀ A', CS A0 A' o R → Q (sDues T R d) A') : fX5_dues o tx n K A G (Int32.ofNat d) Q := by
  have := hT.dg; have := hT.pe
  have hl := hM.law 3 (by omega)
  unfold sDues lawV at hQ
  unfold fX5_dues
  cases hw : T.law 3 with
  | none =>
    rw [hw] at hl hQ
    refine Or.inl ⟨hl, n_in (by omega) (by omega), ?_⟩
    rw [n_nat (by omega), h.tv.tak d (by omega)]
    have e : pmin 99 (R (5 + d)) = wth (R (5 + d)) 0 99 := by
      rw [← pmm_wth (by decide)]
      have := hV.tak d (by omega)
      unfold pmax
      by_cases c : 0 < pmin 99 (R (5 + d))
      · rw [if_pos c]
      · rw [if_neg c]
        rw [Int32.lt_iff_toInt_lt] at c
        apply Int32.toInt_inj.mp
        unfold pmin at c ⊢
        by_cases c2 : R (5 + d) < 99
        · rw [if_pos c2] at c ⊢
          have e0 : (0 : Int32).toInt = 0 := rfl
          rw [e0] at c ⊢
          omega
        · rw [if_neg c2] at c
          exact absurd (by decide) c
    rw [e]
    exact hQ A h
  | some l =>
    rw [hw] at hl hQ
    obtain ⟨c, hc, hl⟩ := hl
    refine Or.inr ⟨c, hc, hl.lt2, ?_⟩
    refine lp_up (fun m i (x : pA) => fX5_dues_L23 o tx n K G Q m (Int32.ofNat d) i x) 9 (by omega) (fun i x => CS A0 x o R ∧ ∀ k, k < i → x (o + 22) k = 0) ?_ ?_ A ⟨h, fun k hk => absurd hk (Nat.not_lt_zero k)⟩
    · intro m i x hi ⟨h, hz⟩ hn
      unfold fX5_dues_L23
      rw [if_neg (by rw [n_leL (by simp) (by omega)]; omega)]
      simp (disch := omega) only [n_inT, n_nat, true_and, n_addR]
      intro A21 e21
      refine hn A21 ⟨h.askP e21, fun k hk => ?_⟩
      rw [e21, pup_row]
      unfold wup
      by_cases c : k = i
      · rw [if_pos c]
      · rw [if_neg c]; exact hz k (by omega)
    · intro m x ⟨h, hz⟩
      unfold fX5_dues_L23
      rw [if_pos (by decide)]
      refine c_dog hT ho hM h hd (fun r r1 r2 r3 r4 r5 => ⟨r1, r2, ?_⟩)
      intro A4 e4
      have h4 : CS A0 A4 o R := h.askP e4
      refine c_dog hT ho hM h4 hd (fun s s1 s2 s3 s4 s5 => ⟨s1, s2, ?_⟩)
      intro A8 e8
      have h8 : CS A0 A8 o R := h4.askP e8
      refine c_minute ho hM h8 ?_
      intro A10 e10
      have h10 : CS A0 A10 o R := h8.askP e10
      intro A11 e11
      have h11 : CS A0 A11 o R := h10.askP e11
      refine ⟨n_in (by omega) (by omega), ?_⟩
      intro A13 e13
      have h13 : CS A0 A13 o R := h11.askP e13
      refine ⟨c, hc, hl.lt, hl.kd, ?_⟩
      refine c_lawOf ho hM h13 hl (v := sVarD T R d) (fun k hk => ?_) (fun A' h' _ => ?_)
      · rw [n_nat (by omega), h11.tv.tak d (by omega)] at e13
        rw [s5] at e8
        rw [r4] at e4
        rw [e13, e11, e10, e8, e4]
        simp only [pup_row, wup, sVarD]
        rcases (show k = 0 ∨ k = 1 ∨ k = 2 ∨ k = 3 ∨ k = 4 ∨ k = 5 ∨ k = 6 ∨ k = 7 ∨ k = 8 by omega) with rfl | rfl | rfl | rfl | rfl | rfl | rfl | rfl | rfl <;> simp <;> exact hz _ (by omega)
      · unfold fX0_within
        rw [pmm_wth (by decide)]
        exact hQ A' h'
theorem c_minds (hT : VT T) (hV : VR T B R) (ho : oT o) (hM : CM n K A0 G tx T) (h : CS A0 A o R) {d : Nat} (hd : d < T.dg) {Q : Int32 → pA → Prop} (hQ : ∀ A', CS A0 A' o R → Q (sMinds T R d) A') : fX5_minds o tx n K A G (Int32.ofNat d) Q := by
  have := hT.dg; have := hT.pe; have := hT.pl
  unfold fX5_minds
  refine lp_up (fun m i (x : (Int32 × Int32) × pA) => fX5_minds_L9 o tx n K G Q m (Int32.ofNat d) x.1.1 x.1.2 i x.2) T.pe (by omega) (fun i x => x.1 = iter (sMindsF T R d) i (-2, 0) ∧ CS A0 x.2 o R) ?_ ?_ ((-2, 0), A) ⟨rfl, h⟩
  · intro m i ⟨x, A⟩ hi ⟨e, h⟩ hn
    simp only at e h
    obtain ⟨u, hu, eu⟩ := hV.dog hT d hd
    obtain ⟨w, hw, ew⟩ := hV.at_ hT i hi
    have hfar := hT.far u w
    unfold fX5_minds_L9 fX5_minds_J81 fX5_minds_J88
    refine c_size3 ho hM h ?_
    rw [if_neg (by rw [n_le (by omega) (by omega)]; omega)]
    simp (disch := omega) only [n_addR]
    have nx : ∀ y A', y = sMindsF T R d i x → CS A0 A' o R → fX5_minds_L9 o tx n K G Q m (Int32.ofNat d) y.1 y.2 (Int32.ofNat (i + 1)) A' := fun y A' ey h' => hn (y, A') ⟨by rw [ey, e]; rfl, h'⟩
    refine c_isFetched h hV (by omega) ?_
    by_cases c1 : R (27 + i) = 1
    · rw [if_pos c1, if_neg (by decide)]
      exact nx x A (by unfold sMindsF; rw [if_pos (Or.inl c1)]) h
    · rw [if_neg c1, if_pos rfl]
      simp (disch := omega) only [n_inT, n_nat, true_and]
      rw [h.tv.dog d (by omega), h.tv.at_ i (by omega), eu, ew]
      simp (disch := omega) only [n_inT, n_nat, true_and]
      rw [h.tx8 ho hM (by omega), hM.far u w (by omega) (by omega)]
      have ef := farC_fin hfar
      unfold sMindsF at nx
      rw [eu, ew, n_ix (by omega), n_ix (by omega)] at nx
      by_cases c2 : T.far u w < 99
      · refine n_pos (by rw [ef]; exact c2) ?_
        have c2' : ¬ 99 ≤ T.far u w := by omega
        refine c_wants hT hV ho hM h hd hi (fun A5 h5 => ?_)
        by_cases c3 : x.1 < 0
        · rw [if_pos c3]
          refine nx (Int32.ofNat i, sWants T R d i) A5 ?_ h5
          rw [if_neg (by simp only [c1, c2']; simp), if_neg (fun hh => Int32.not_le.mpr c3 hh.1)]
        · rw [if_neg c3]
          by_cases c4 : x.2 < sWants T R d i
          · rw [if_pos c4]
            refine nx (Int32.ofNat i, sWants T R d i) A5 ?_ h5
            rw [if_neg (by simp only [c1, c2']; simp), if_neg (fun hh => Int32.not_le.mpr c4 hh.2)]
          · rw [if_neg c4]
            refine nx x A5 ?_ h5
            rw [if_neg (by simp only [c1, c2']; simp), if_pos ⟨Int32.not_lt.mp c3, Int32.not_lt.mp c4⟩]
      · refine n_neg (by rw [ef]; exact c2) ?_
        exact nx x A (by rw [if_pos (Or.inr (by omega))]) h
  · intro m ⟨x, A⟩ ⟨e, h⟩
    simp only at e h
    unfold fX5_minds_L9
    refine c_size3 ho hM h ?_
    rw [if_pos (Int32.le_refl _)]
    have := hQ A h
    unfold sMinds at this
    rw [← e] at this
    exact this
theorem c_walks (hT : VT T) (hF : VF T) (hV : VR T B R) (ho : oT o) (hM : CM n K A0 G tx T) (h : CS A0 A o R) {a : Nat} (ha : a < T.pe) {Q : pA → Prop} (hQ : ∀ A', CS A0 A' o (sPerson T R a) → Q A') : fX5_walks o tx n K A G (Int32.ofNat a) Q := by
  have := hT.pe; have := hT.pl; have := hT.er
  have tail : ∀ A1, CS A0 A1 o (sMove T R a) → fX5_walks_J46 o tx n K G Q (Int32.ofNat a) A1 := by
    intro A1 h1
    unfold fX5_walks_J46
    refine lp_up (fun m i (x : pA) => fX5_walks_L48 o tx n K G Q m (Int32.ofNat a) i x) T.er (by omega) (fun i x => CS A0 x o (iter (sErrF T a) i (sMove T R a))) ?_ ?_ A1 h1
    · intro m i x hi hx hn
      have e1 := hM.who i hi
      have e2 := hM.whr i hi
      have b1 := hT.who i hi
      have b2 := hT.whr i hi
      unfold fX5_walks_L48 fX5_walks_J93
      simp (disch := omega) only [n_addR, n_nat]
      rw [hx.tx0 ho hM, hM.er, hx.txj ho hM (by omega), e1, hx.txj ho hM (by omega), e2, hx.tv.at_ a (by omega), hx.tv.don, n_m31 (by omega)]
      simp (disch := omega) only [n_inT, n_nat, true_and]
      rw [if_neg (by rw [n_le (by omega) (by omega)]; omega)]
      by_cases c1 : T.who i = a
      · rw [if_pos (by rw [c1])]
        by_cases c2 : Int32.ofNat (T.whr i) = iter (sErrF T a) i (sMove T R a) (15 + a)
        · rw [if_pos c2]
          intro A5 e5
          refine hn A5 ?_
          show CS A0 A5 o (sErrF T a i _)
          unfold sErrF
          rw [if_pos ⟨c1, c2⟩]
          exact hx.step0 e5 hx.tv.donU
        · rw [if_neg c2]
          refine hn x ?_
          show CS A0 x o (sErrF T a i _)
          unfold sErrF
          rw [if_neg (fun hh => c2 hh.2)]
          exact hx
      · rw [if_neg (by rw [n_eq (by omega) (by omega)]; exact c1)]
        refine hn x ?_
        show CS A0 x o (sErrF T a i _)
        unfold sErrF
        rw [if_neg (fun hh => c1 hh.1)]
        exact hx
    · intro m x hx
      unfold fX5_walks_L48
      rw [hx.tx0 ho hM, hM.er, if_pos (Int32.le_refl _)]
      exact hQ x hx
  obtain ⟨k, hk, ek⟩ := hV.at_ hT a ha
  unfold fX5_walks
  simp (disch := omega) only [n_inT, n_nat, true_and]
  rw [h.tv.goal a (by omega), h.tv.at_ a (by omega)]
  unfold sMove at tail
  by_cases c1 : R (19 + a) < 0
  · rw [if_pos c1]
    refine tail A ?_
    rw [if_neg (fun hh => Int32.not_le.mpr c1 hh.1)]
    exact h
  · rw [if_neg c1]
    obtain ⟨g, hg, eg⟩ : ∃ g, g < T.pl ∧ R (19 + a) = Int32.ofNat g := by
      rcases hV.goal a (by omega) with e | e
      · rw [e] at c1; exact absurd (by decide) c1
      · exact e
    by_cases c2 : R (19 + a) = R (15 + a)
    · rw [if_pos c2]
      refine tail A ?_
      rw [if_neg (fun hh => hh.2.1 c2)]
      exact h
    · rw [if_neg c2]
      rw [ek, eg, n_ix (by omega), n_ix (by omega)] at tail
      rw [eg, ek] at c2
      rw [eg] at c1
      rw [eg, ek]
      refine c_stepC hT ho hM h hk hg ?_
      intro A14 e14
      refine tail A14 ?_
      by_cases c3 : T.far k g < 99
      · rw [if_pos ⟨Int32.not_lt.mp c1, c2, c3⟩]
        rw [cStep_eq hT hF hk hg (fun hh => c2 (by rw [hh])) c3] at e14
        exact h.step e14 (by omega) (h.tv.at_U (by omega))
      · rw [if_neg (fun hh => c3 hh.2.2)]
        rw [cStep_stay hT hF hk hg c3] at e14
        have := h.step e14 (by omega) (h.tv.at_U (by omega))
        rw [← ek, wup_same] at this
        exact this
theorem c_hunts (hT : VT T) (hF : VF T) (hV : VR T B R) (ho : oT o) (hM : CM n K A0 G tx T) (h : CS A0 A o R) {d : Nat} (hd : d < T.dg) {Q : pA → Prop} (hQ : ∀ A', CS A0 A' o (sDog T R d) → Q A') : fX5_hunts o tx n K A G (Int32.ofNat d) Q := by
  have := hT.pe; have := hT.pl; have := hT.dg
  unfold fX5_hunts
  refine c_minds hT hV ho hM h hd (fun A2 h2 => ?_)
  unfold sDog at hQ
  rcases sMinds_in (R := R) hT (d := d) with e | ⟨a, ha, e⟩
  · rw [e] at hQ ⊢
    rw [if_neg (by decide)]
    rw [if_pos (by decide)] at hQ
    exact hQ A2 h2
  · have em := e
    rw [e] at hQ ⊢
    rw [n_ix (by omega), if_neg (by rw [n_ltR (by omega) (by simp)]; omega)] at hQ
    rw [if_pos (by rw [n_leL (by simp) (by omega)]; omega)]
    obtain ⟨k, hk, ek⟩ := hV.at_ hT a ha
    obtain ⟨g, hg, eg⟩ := hV.dog hT d hd
    simp (disch := omega) only [n_inT, n_nat, true_and]
    rw [h2.tv.dog d (by omega), h2.tv.at_ a (by omega), h2.tv.kik d a (by omega) (by omega), h2.tv.fed d a (by omega) (by omega)]
    by_cases c1 : R d = R (15 + a)
    · rw [if_pos c1] at hQ ⊢
      by_cases c2 : R (35 + (4 * d + a)) < R (55 + (4 * d + a))
      · rw [if_pos c2] at hQ
        rw [if_neg (Int32.not_le.mpr c2), n_m31 (by omega)]
        intro A20 e20
        rw [h2.tv.fet, bits4_set hV.fet (by omega)] at e20
        have h20 : CS A0 A20 o (wup R (27 + a) 1) := h2.step0 e20 (h2.tv.fetU rfl (fun k hk hc => by rw [wup_ne (by omega)]))
        intro A23 e23
        rw [h20.tv.oft a (by omega), wup_ne (by omega)] at e23
        have h23 := h20.step e23 (by omega) (h20.tv.oftU (by omega))
        intro A25 e25
        have h25 := h23.step e25 (by omega) (h23.tv.at_U (by omega))
        intro A27 e27
        have h27 := h25.step e27 (by omega) (h25.tv.goalU (by omega))
        refine hQ A27 ?_
        have : sCatch R a = wup (wup (wup (wup R (27 + a) 1) (31 + a) (R (31 + a) + 1)) (15 + a) 0) (19 + a) (-2) := by
          funext k
          unfold sCatch wup
          by_cases k1 : k = 31 + a
          · rw [if_pos k1, if_neg (by omega), if_neg (by omega), if_pos k1]
          · rw [if_neg k1]
            by_cases k2 : k = 27 + a
            · rw [if_pos k2, if_neg (by omega), if_neg (by omega), if_neg (by omega), if_pos k2]
            · rw [if_neg k2, if_neg k1, if_neg k2]
        rw [this]
        exact h27
      · rw [if_neg c2] at hQ
        rw [if_pos (Int32.not_lt.mp c2)]
        refine c_takesOf hT hV ho hM h2 hd ha (fun A10 h10 => ?_)
        intro A13 e13
        rw [h10.tv.pok a (by omega)] at e13
        have h13 := h10.step e13 (by omega) (h10.tv.pokU (by omega))
        intro A16 e16
        rw [h13.tv.tak d (by omega), wup_ne (by omega)] at e16
        have h16 := h13.step e16 (by omega) (h13.tv.takU (by omega))
        intro A19 e19
        rw [h16.tv.too d (by omega), wup_ne (by omega), wup_ne (by omega)] at e19
        have h19 := h16.step e19 (by omega) (h16.tv.tooU (by omega))
        exact hQ A19 h19
    · rw [if_neg c1] at hQ ⊢
      rw [ek, eg, n_ix (by omega), n_ix (by omega)] at hQ
      rw [ek, eg] at c1 ⊢
      have hfar : T.far g k < 99 := by
        have key : ∀ i, i ≤ T.pe → ∀ a, (iter (sMindsF T R d) i (-2, 0)).1 = Int32.ofNat a → a < T.pe → T.far (ix (R d)) (ix (R (15 + a))) < 99 := by
          intro i
          induction i with
          | zero => intro _ a e ha; exact absurd e (by
              intro hh
              have := congrArg Int32.toInt hh
              rw [n_int (by omega)] at this
              have e2 : (iter (sMindsF T R d) 0 (-2, 0)).1.toInt = -2 := rfl
              omega)
          | succ i ih =>
            intro hi a e ha
            simp only [iter] at e
            unfold sMindsF at e
            split at e
            · exact ih (by omega) a e ha
            · rename_i c0
              split at e
              · exact ih (by omega) a e ha
              · simp only at e
                rw [n_eq (by omega) (by omega)] at e
                subst e
                have := fun hh => c0 (Or.inr hh)
                omega
        have := key T.pe (Nat.le_refl _) a em ha
        rw [eg, ek, n_ix (by omega), n_ix (by omega)] at this
        exact this
      refine c_stepC hT ho hM h2 hg hk ?_
      intro A30 e30
      rw [cStep_eq hT hF hg hk (fun hh => c1 (by rw [hh])) hfar] at e30
      refine hQ A30 ?_
      exact h2.step e30 (by omega) (h2.tv.dogU (by omega))
end C
