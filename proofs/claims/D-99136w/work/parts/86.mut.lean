set_option maxRecDepth 100000
set_option linter.all false
section I
variable {B : Nat} {x : St} {n : Nat} {K : Nat → pKd} {A A1 A' : pA} {Lg : pL} {G : pG}
/-- kept, then changed by both: the component's town to R', the model's row to R' -/
theorem INV.pushed (h : INV B x n K A Lg G) {R' : Rw} {B' : Nat} (hB : B ≤ B') (hV : VR x.T B' R') {A2 A3 A4 : pA}
    (k1 : ∀ c, c ≠ 0 → (c < 278 + 23 * x.w ∨ 278 + 23 * x.w + 23 ≤ c) → A2 c = A c) (k2 : ∀ j, j ≠ 5 → j ≠ 6 → A2 0 j = A 0 j) (k3 : A2 0 5 = Int32.ofNat (min 40 (x.u + 1))) (k4 : A2 0 6 = Int32.ofNat ((x.w + 1) % 40)) (k5 : TV (278 + 23 * x.w) A2 x.R)
    (hc : CS A2 A3 25 R') (hm : MS A3 A4 R') {Q : pA → Prop} (hQ : ∀ A5, (∀ k, k < 77 → A5 1237 k = R' k) → INV B' (pushS x R') n K A5 Lg G → Q A5) : fX10_records A4 Q := by
  have hw := h.w40
  have g98 : A3 1198 = A 1198 := by rw [hc.fr 1198 (by omega), k1 1198 (by omega) (by omega)]
  have g37 : A3 1237 = A 1237 := by rw [hc.fr 1237 (by omega), k1 1237 (by omega) (by omega)]
  have g39 : A3 1239 = A 1239 := by rw [hc.fr 1239 (by omega), k1 1239 (by omega) (by omega)]
  refine m_records (R := x.R) (R' := R') (u := x.u) h.u40 (by rw [hm.fi 58 (by omega), g98]; exact h.mu) (fun k hk => by rw [hm.fr 1237 (by decide) (by decide) (by decide) (by decide), g37]; exact h.mr k hk) hm.row (fun A5 r1 r2 r3 r4 r5 => ?_)
  refine hQ A5 r4 (h.push hB hV (A1 := A3) ?_ ?_ ?_ ?_ ?_ hc.tv ?_ ?_ r3 r4 ?_)
  · intro c c0 c1 c2
    rw [hc.fr c (by omega), k1 c c0 c1]
  · intro j h5 h6; rw [hc.fr 0 (by omega)]; exact k2 j h5 h6
  · rw [hc.fr 0 (by omega)]; exact k3
  · rw [hc.fr 0 (by omega)]; exact k4
  · exact k5.same (fun j hj => hc.fr _ (by omega))
  · intro c a1 a2 a3 a4 a5 a6
    rw [r1 c a1 a4 a6, hm.fr c a2 a3 a5 a1]
  · intro j h1 h2
    rw [r2 j h2, hm.fi j h1]
  · intro j hj k hk
    rw [r5 j hj k hk, hm.fr 1239 (by decide) (by decide) (by decide) (by decide), g39]
theorem INV.kept (h : INV B x n K A Lg G) {Q : pA → Prop} (hQ : ∀ A2, (∀ c, c ≠ 0 → (c < 278 + 23 * x.w ∨ 278 + 23 * x.w + 23 ≤ c) → A2 c = A c) → (∀ j, j ≠ 5 → j ≠ 6 → A2 0 j = A 0 j) → A2 0 5 = Int32.ofNat (min 40 (x.u + 1)) → A2 0 6 = Int32.ofNat ((x.w + 1) % 40) → TV (278 + 23 * x.w) A2 x.R → CS A2 A2 25 x.R → CM n K A2 G x.tx x.T → Q A2) : fX0_keeps x.tx A Q := by
  have hw := h.w40
  refine c_keeps h.u40 h.w40 h.cu h.cw h.tv (fun A2 k1 k2 k3 k4 k5 => hQ A2 k1 k2 k3 k4 k5 ⟨fun _ _ => rfl, h.tv.same (fun j hj => k1 _ (by omega) (by omega))⟩ ?_)
  exact h.cm.same (fun j hj => k1 _ (by rcases h.cm.tc with c | c <;> omega) (by rcases h.cm.tc with c | c <;> omega)) (fun c hc => k1 c (by omega) (by omega))
/-- the model's side, behind the component's -/
theorem INV.mid (h : INV B x n K A Lg G) {R' : Rw} {A2 A3 : pA} (k1 : ∀ c, c ≠ 0 → (c < 278 + 23 * x.w ∨ 278 + 23 * x.w + 23 ≤ c) → A2 c = A c) (hc : CS A2 A3 25 R') : MM A3 x.T x.s ∧ (∀ k, k < 77 → A3 1237 k = x.R k) ∧ MS A3 A3 (A3 1238) := by
  have hw := h.w40
  have g : ∀ c, 1198 ≤ c → A3 c = A c := fun c hc' => by rw [hc.fr c (by omega), k1 c (by omega) (by omega)]
  exact ⟨h.mm.same (fun c h1 h2 => g c (by omega)) (g 1236 (by omega)) (by rw [g 1198 (by omega)]), fun k hk => by rw [g 1237 (by omega)]; exact h.mr k hk, fun _ _ _ _ _ => rfl, fun _ _ => rfl, fun _ _ => rfl⟩
abbrev DONE (B' : Nat) (n : Nat) (K : Nat → pKd) (A : pA) (Lg : pL) (G : pG) : Prop := ∃ x', INV B' x' n K A Lg G
theorem d_minutes (h : INV B x n K A Lg G) (hB : B ≤ 900000000) (p : Int32) : fX0_minutes x.tx n K A G p (fun r A1 => fX10_minutes A1 p (fun r' A2 => r = r' ∧ DONE (B + 1440) n K A2 Lg G)) := by
  unfold fX0_minutes
  refine c_isAhead (fun hp => ?_) (fun hp => ?_)
  · rw [if_neg (by decide)]
    have hp' := hp
    obtain ⟨m, hm, rfl⟩ := hp
    by_cases c : m = 0
    · subst c
      rw [if_pos (show Int32.ofNat 0 ≤ 0 from by decide)]
      unfold fX0_minutes_J17 fX0_runs
      refine ⟨1, ?_⟩
      unfold fX0_runs_L2
      rw [if_pos (by decide)]
      unfold fX10_minutes
      refine m_inN 1440 (by omega) rfl (fun _ => ?_) (fun hh => absurd hp' hh)
      rw [if_neg (by decide), if_pos (show Int32.ofNat 0 = 0 from rfl), h.mr 76 (by omega), h.tv.tim]
      exact ⟨rfl, x, h.mono (by omega)⟩
    · rw [if_neg (by rw [n_leR (by omega) (by simp)]; omega)]
      refine h.kept (fun A2 k1 k2 k3 k4 k5 hc0 hM => ?_)
      unfold fX0_minutes_J17
      refine c_runs h.vt h.vf h.vr oT25 hM hc0 (by omega) (fun A3 hc => ?_)
      obtain ⟨mm, mr, ms⟩ := h.mid k1 hc
      unfold fX10_minutes
      refine m_inN 1440 (by omega) rfl (fun _ => ?_) (fun hh => absurd hp' hh)
      rw [if_neg (by decide), if_neg (by rw [n_eqR (by omega) (by simp)]; exact c)]
      refine m_copies ms mr (fun A5 h5 => ?_)
      refine m_goes h.vt h.vr mm h5 (by omega) (fun A6 h6 => ?_)
      have V := (h.vr.goes h.vt m (by omega)).mono (show B + m ≤ B + 1440 by omega)
      refine h.pushed (by omega) V k1 k2 k3 k4 k5 hc h6 (fun A7 r7 i7 => ?_)
      rw [r7 76 (by omega), hc.tv.tim]
      exact ⟨rfl, _, i7⟩
  · rw [if_pos rfl]
    unfold fX10_minutes
    refine m_inN 1440 (by omega) rfl (fun hh => absurd hh hp) (fun _ => ?_)
    rw [if_pos rfl]
    exact ⟨rfl, x, h.mono (by omega)⟩
theorem d_go (h : INV B x n K A Lg G) (p q : Int32) : fX0_go x.tx A p q (fun r A1 => fX10_go A1 p q (fun r' A2 => r = r' ∧ DONE B n K A2 Lg G)) := by
  have := h.vt.pe; have := h.vt.pl
  unfold fX0_go
  refine c_isPerson h.vt h.cm.pe (fun hp => ?_) (fun hp => ?_)
  · rw [if_neg (by decide)]
    have hp' := hp
    obtain ⟨a, ha, rfl⟩ := hp
    -- what is told when all may be: goal v
    have J : ∀ (v : Int32), (v = -2 ∨ ∃ p, p < x.T.pl ∧ v = Int32.ofNat p) → (∀ A1 Q, MM A1 x.T x.s → (∀ k, k < 77 → A1 1237 k = x.R k) → x.R (27 + a) ≠ 1 → fX10_go_J47 Q (Int32.ofNat a) v A1 → fX10_go A1 (Int32.ofNat a) q Q) → x.R (27 + a) ≠ 1 → fX0_go_J45 x.tx (fun r A1 => fX10_go A1 (Int32.ofNat a) q (fun r' A2 => r = r' ∧ DONE B n K A2 Lg G)) (Int32.ofNat a) v A := by
      intro v hv hm hne
      unfold fX0_go_J45
      refine ⟨n_in (by omega) (by omega), ?_⟩
      rw [n_nat (by omega), h.tv.goal a (by omega)]
      by_cases c : x.R (19 + a) = v
      · rw [if_pos c]
        refine hm A _ h.mm h.mr hne ?_
        unfold fX10_go_J47
        simp (disch := omega) only [n_inT, n_nat, true_and, n_addL]
        rw [h.mr _ (by omega), if_pos c]
        exact ⟨x, h⟩
      · rw [if_neg c]
        refine h.kept (fun A2 k1 k2 k3 k4 k5 hc0 hM => ?_)
        refine ⟨n_in (by omega) (by omega), ?_⟩
        intro A3 e3
        have hc := hc0.step e3 (by omega) (hc0.tv.goalU (by omega))
        obtain ⟨mm, mr, ms⟩ := h.mid k1 hc
        refine hm A3 _ mm mr hne ?_
        unfold fX10_go_J47
        simp (disch := omega) only [n_inT, n_nat, true_and, n_addL]
        rw [mr _ (by omega), if_neg c]
        refine m_copies ms mr (fun A5 h5 => ?_)
        intro A6 e6
        have h6 := h5.putE e6
        exact h.pushed (Nat.le_refl _) (h.vr.goalU h.vt (by omega) hv) k1 k2 k3 k4 k5 hc h6 (fun A7 r7 i7 => ⟨_, i7⟩)
    -- fetched or not
    have F : (x.R (27 + a) ≠ 1 → fX0_go_J45 x.tx (fun r A1 => fX10_go A1 (Int32.ofNat a) q (fun r' A2 => r = r' ∧ DONE B n K A2 Lg G)) (Int32.ofNat a) (if q = -1 then -2 else q) A) → (x.R (27 + a) = 1 → fX10_go A (Int32.ofNat a) q (fun r' A2 => 0 = r' ∧ DONE B n K A2 Lg G)) → fX0_go_J21 x.tx (fun r A1 => fX10_go A1 (Int32.ofNat a) q (fun r' A2 => r = r' ∧ DONE B n K A2 Lg G)) (Int32.ofNat a) q A := by
      intro h1 h2
      unfold fX0_go_J21
      refine c_isFetched h.cs h.vr (by omega) ?_
      by_cases c : x.R (27 + a) = 1
      · rw [if_pos c, if_neg (by decide)]; exact h2 c
      · rw [if_neg c, if_pos rfl]
        have := h1 c
        by_cases cq : q = -1
        · rw [if_pos cq] at this ⊢; exact this
        · rw [if_neg cq] at this ⊢; exact this
    -- the model's head
    have MH : ∀ A1 Q, (q = -1 ∨ inR q x.T.pl) → MM A1 x.T x.s → (∀ k, k < 77 → A1 1237 k = x.R k) → (x.R (27 + a) = 1 → Q 0 A1) → (x.R (27 + a) ≠ 1 → fX10_go_J47 Q (Int32.ofNat a) (if q = -1 then -2 else q) A1) → fX10_go A1 (Int32.ofNat a) q Q := by
      intro A1 Q hq mm mr q1 q2
      have K21 : fX10_go_J21 Q (Int32.ofNat a) q A1 := by
        unfold fX10_go_J21
        simp (disch := omega) only [n_inT, n_nat, true_and, n_addL]
        rw [mr _ (by omega)]
        by_cases c : x.R (27 + a) = 1
        · rw [if_pos c]; exact q1 c
        · rw [if_neg c]
          have := q2 c
          by_cases cq : q = -1
          · rw [if_pos cq] at this ⊢; exact this
          · rw [if_neg cq] at this ⊢; exact this
      unfold fX10_go
      refine m_isPerson h.vt mm (fun _ => ?_) (fun hh => absurd hp' hh)
      rw [if_neg (by decide)]
      by_cases cq : q = -1
      · rw [if_pos cq]; exact K21
      · rw [if_neg cq]
        refine m_isPlace h.vt mm (fun _ => ?_) (fun hh => absurd (hq.resolve_left cq) hh)
        rw [if_neg (by decide)]; exact K21
    have body : (q = -1 ∨ inR q x.T.pl) → fX0_go_J21 x.tx (fun r A1 => fX10_go A1 (Int32.ofNat a) q (fun r' A2 => r = r' ∧ DONE B n K A2 Lg G)) (Int32.ofNat a) q A := by
      intro hq
      refine F (fun hne => J _ ?_ (fun A1 Q mm mr hne k => MH A1 Q hq mm mr (fun hh => absurd hh hne) (fun _ => k)) hne) (fun he => MH A _ hq h.mm h.mr (fun _ => ⟨rfl, x, h⟩) (fun hne => absurd he hne))
      rcases hq with hq | ⟨p, hp, e⟩
      · rw [if_pos hq]; exact Or.inl rfl
      · by_cases cq : q = -1
        · rw [if_pos cq]; exact Or.inl rfl
        · rw [if_neg cq]; exact Or.inr ⟨p, hp, e⟩
    by_cases cq : q = -1
    · rw [if_pos cq]; exact body (Or.inl cq)
    · rw [if_neg cq]
      refine c_isPlace h.vt h.cm.pl (fun hq => ?_) (fun hq => ?_)
      · rw [if_neg (by decide)]; exact body (Or.inr hq)
      · rw [if_pos rfl]
        unfold fX10_go
        refine m_isPerson h.vt h.mm (fun _ => ?_) (fun hh => absurd hp' hh)
        rw [if_neg (by decide), if_neg cq]
        refine m_isPlace h.vt h.mm (fun hh => absurd hh hq) (fun _ => ?_)
        rw [if_pos rfl]
        exact ⟨rfl, x, h⟩
  · rw [if_pos rfl]
    unfold fX10_go
    refine m_isPerson h.vt h.mm (fun hh => absurd hh hp) (fun _ => ?_)
    rw [if_pos rfl]
    exact ⟨rfl, x, h⟩
theorem c_together (h : INV B x n K A Lg G) {a d : Nat} (ha : a < 4) (hd : d < 5) {Q : Int32 → Prop} (h1 : x.R (27 + a) = 0 → x.R (15 + a) = x.R d → Q 1) (h0 : ¬ (x.R (27 + a) = 0 ∧ x.R (15 + a) = x.R d) → Q 0) : fX0_areTogether x.tx A (Int32.ofNat a) (Int32.ofNat d) Q := by
  unfold fX0_areTogether
  refine c_isFetched h.cs h.vr ha ?_
  simp (disch := omega) only [n_inT, n_nat, true_and]
  rw [h.tv.at_ a ha, h.tv.dog d hd]
  rcases h.vr.fet a ha with e | e
  · have e' : ¬ x.R (27 + a) = 1 := by rw [e]; decide
    rw [if_neg e', if_pos rfl]
    by_cases c : x.R (15 + a) = x.R d
    · rw [if_pos c]; exact h1 e c
    · rw [if_neg c]; exact h0 (fun hh => c hh.2)
  · rw [if_pos e, if_neg (by decide)]
    exact h0 (fun hh => by rw [e] at hh; exact absurd hh.1 (by decide))
theorem m_isWith {A1 : pA} {R : Rw} (mr : ∀ k, k < 77 → A1 1237 k = R k) {a d : Nat} (ha : a < 4) (hd : d < 5) {Q : Int32 → Prop} (h1 : R (27 + a) = 0 → R (15 + a) = R d → Q 1) (h0 : ¬ (R (27 + a) = 0 ∧ R (15 + a) = R d) → Q 0) : fX10_isWith A1 (Int32.ofNat a) (Int32.ofNat d) Q := by
  unfold fX10_isWith
  simp (disch := omega) only [n_inT, n_nat, true_and, n_addL]
  rw [mr _ (by omega), mr _ (by omega), mr _ (by omega)]
  by_cases e : R (27 + a) = 0
  · rw [if_pos e]
    by_cases c : R (15 + a) = R d
    · rw [if_pos c]; exact h1 e c
    · rw [if_neg c]; exact h0 (fun hh => c hh.2)
  · rw [if_neg e]; exact h0 (fun hh => e hh.1)
theorem d_kick (h : INV B x n K A Lg G) (p q : Int32) : fX0_kick x.tx A p q (fun r A1 => fX10_kick A1 p q (fun r' A2 => r = r' ∧ DONE B n K A2 Lg G)) := by
  have := h.vt.pe; have := h.vt.dg
  unfold fX0_kick
  refine c_isPerson h.vt h.cm.pe (fun hp => ?_) (fun hp => ?_)
  · rw [if_neg (by decide)]
    have hp' := hp
    obtain ⟨a, ha, rfl⟩ := hp
    refine c_isDog h.vt h.cm.dg (fun hq => ?_) (fun hq => ?_)
    · rw [if_neg (by decide)]
      have hq' := hq
      obtain ⟨d, hd, rfl⟩ := hq
      have MH : ∀ A1 Q, MM A1 x.T x.s → (∀ k, k < 77 → A1 1237 k = x.R k) → (¬ (x.R (27 + a) = 0 ∧ x.R (15 + a) = x.R d) → Q (-2) A1) → (x.R (27 + a) = 0 → x.R (15 + a) = x.R d → x.R (55 + (4 * d + a)) = 999 → Q (-2) A1) → (x.R (27 + a) = 0 → x.R (15 + a) = x.R d → ¬ x.R (55 + (4 * d + a)) = 999 → fX10_copies A1 (fun A5 => ∀ A8 : pA, A8 = pup A5 1238 (55 + (4 * d + a)) ((A5 1238 (55 + (4 * d + a))) + 1) → fX10_records A8 (fun A9 => Q (A9 1237 (55 + (4 * d + a))) A9))) → fX10_kick A1 (Int32.ofNat a) (Int32.ofNat d) Q := by
        intro A1 Q mm mr q1 q2 q3
        unfold fX10_kick
        refine m_isPerson h.vt mm (fun _ => ?_) (fun hh => absurd hp' hh)
        rw [if_neg (by decide)]
        refine m_isDog h.vt mm (fun _ => ?_) (fun hh => absurd hq' hh)
        rw [if_neg (by decide)]
        refine m_isWith mr (by omega) (by omega) (fun e1 e2 => ?_) (fun e => ?_)
        · rw [if_neg (by decide)]
          simp (disch := omega) only [n_inT, n_nat, true_and, n_addL, n_mulL, n_add]
          rw [show 55 + 4 * d + a = 55 + (4 * d + a) by omega, mr _ (by omega)]
          by_cases c : x.R (55 + (4 * d + a)) = 999
          · rw [if_pos c]; exact q2 e1 e2 c
          · rw [if_neg c]; exact q3 e1 e2 c
        · rw [if_pos rfl]; exact q1 e
      refine c_together h (by omega) (by omega) (fun e1 e2 => ?_) (fun e => ?_)
      · rw [if_neg (by decide)]
        simp (disch := omega) only [n_inT, n_nat, true_and]
        rw [h.tv.kik d a (by omega) (by omega)]
        by_cases c : x.R (55 + (4 * d + a)) = 999
        · rw [if_pos c]
          exact MH A _ h.mm h.mr (fun hh => absurd ⟨e1, e2⟩ hh) (fun _ _ _ => ⟨rfl, x, h⟩) (fun _ _ hh => absurd c hh)
        · rw [if_neg c]
          refine h.kept (fun A2 k1 k2 k3 k4 k5 hc0 hM => ?_)
          intro A3 e3
          rw [hc0.tv.kik d a (by omega) (by omega)] at e3
          have hc := hc0.stepD e3 (by omega) (hc0.tv.kikU (by omega) (by omega))
          obtain ⟨mm, mr, ms⟩ := h.mid k1 hc
          refine MH A3 _ mm mr (fun hh => absurd ⟨e1, e2⟩ hh) (fun _ _ hh => absurd hh c) (fun _ _ _ => ?_)
          refine m_copies ms mr (fun A5 h5 => ?_)
          intro A8 e8
          rw [h5.row _ (by omega)] at e8
          have h8 := h5.putE e8
          have kb := h.vr.kik (4 * d + a) (by omega)
          have e9 : (999 : Int32).toInt = 999 := rfl
          have ne9 : (x.R (55 + (4 * d + a))).toInt ≠ 999 := fun hh => c (Int32.toInt_inj.mp (by rw [hh]; rfl))
          have ea : (x.R (55 + (4 * d + a)) + 1).toInt = (x.R (55 + (4 * d + a))).toInt + 1 := i_add (by omega) (by omega) (by decide) (by decide)
          refine h.pushed (Nat.le_refl _) (h.vr.kikU h.vt (by omega) ⟨by omega, by omega⟩) k1 k2 k3 k4 k5 hc h8 (fun A9 r9 i9 => ?_)
          rw [r9 _ (by omega), hc.tv.kik d a (by omega) (by omega)]
          exact ⟨rfl, _, i9⟩
      · rw [if_pos rfl]
        exact MH A _ h.mm h.mr (fun _ => ⟨rfl, x, h⟩) (fun e1 e2 _ => absurd ⟨e1, e2⟩ e) (fun e1 e2 _ => absurd ⟨e1, e2⟩ e)
    · rw [if_pos rfl]
      unfold fX10_kick
      refine m_isPerson h.vt h.mm (fun _ => ?_) (fun hh => absurd hp' hh)
      rw [if_neg (by decide)]
      refine m_isDog h.vt h.mm (fun hh => absurd hh hq) (fun _ => ?_)
      rw [if_pos rfl]
      exact ⟨rfl, x, h⟩
  · rw [if_pos rfl]
    unfold fX10_kick
    refine m_isPerson h.vt h.mm (fun hh => absurd hh hp) (fun _ => ?_)
    rw [if_pos rfl]
    exact ⟨rfl, x, h⟩
theorem d_give (h : INV B x n K A Lg G) (p q r : Int32) : fX0_give x.tx A p q r (fun r' A1 => fX10_give A1 p q r (fun r'' A2 => r' = r'' ∧ DONE B n K A2 Lg G)) := by
  have := h.vt.pe; have := h.vt.dg
  unfold fX0_give
  refine c_isPerson h.vt h.cm.pe (fun hp => ?_) (fun hp => ?_)
  · rw [if_neg (by decide)]
    have hp' := hp
    obtain ⟨a, ha, rfl⟩ := hp
    refine c_isDog h.vt h.cm.dg (fun hq => ?_) (fun hq => ?_)
    · rw [if_neg (by decide)]
      have hq' := hq
      obtain ⟨d, hd, rfl⟩ := hq
      by_cases hr : 1 ≤ r ∧ r ≤ 99
      · have MH : ∀ A1 Q, MM A1 x.T x.s → (∀ k, k < 77 → A1 1237 k = x.R k) → (¬ (x.R (27 + a) = 0 ∧ x.R (15 + a) = x.R d) → Q (-2) A1) → ((x.R (27 + a) = 0 ∧ x.R (15 + a) = x.R d) → x.R (23 + a) < r → Q (-2) A1) → ((x.R (27 + a) = 0 ∧ x.R (15 + a) = x.R d) → ¬ x.R (23 + a) < r → ¬ x.R (35 + (4 * d + a)) + r ≤ 999 → Q (-2) A1) → ((x.R (27 + a) = 0 ∧ x.R (15 + a) = x.R d) → ¬ x.R (23 + a) < r → x.R (35 + (4 * d + a)) + r ≤ 999 → fX10_copies A1 (fun A7 => ∀ A10 : pA, A10 = pup A7 1238 (23 + a) ((A7 1238 (23 + a)) - r) → ∀ A13 : pA, A13 = pup A10 1238 (35 + (4 * d + a)) ((A10 1238 (35 + (4 * d + a))) + r) → fX10_records A13 (fun A14 => Q (A14 1237 (35 + (4 * d + a))) A14))) → fX10_give A1 (Int32.ofNat a) (Int32.ofNat d) r Q := by
          intro A1 Q mm mr q1 q2 q3 q4
          unfold fX10_give
          refine m_isPerson h.vt mm (fun _ => ?_) (fun hh => absurd hp' hh)
          rw [if_neg (by decide)]
          refine m_isDog h.vt mm (fun _ => ?_) (fun hh => absurd hq' hh)
          rw [if_neg (by decide)]
          refine m_in ?_
          rw [if_pos hr, if_neg (by decide)]
          refine m_isWith mr (by omega) (by omega) (fun e1 e2 => ?_) (fun e => ?_)
          · rw [if_neg (by decide)]
            simp (disch := omega) only [n_inT, n_nat, true_and, n_addL, n_mulL, n_add]
            rw [show 35 + 4 * d + a = 35 + (4 * d + a) by omega, mr _ (by omega), mr _ (by omega)]
            by_cases c : x.R (23 + a) < r
            · rw [if_pos c]; exact q2 ⟨e1, e2⟩ c
            · rw [if_neg c]
              by_cases c2 : x.R (35 + (4 * d + a)) + r ≤ 999
              · rw [if_pos c2]; exact q4 ⟨e1, e2⟩ c c2
              · rw [if_neg c2]; exact q3 ⟨e1, e2⟩ c c2
          · rw [if_pos rfl]; exact q1 e
        refine c_isIn ?_
        rw [if_pos hr, if_neg (by decide)]
        refine c_together h (by omega) (by omega) (fun e1 e2 => ?_) (fun e => ?_)
        · rw [if_neg (by decide)]
          simp (disch := omega) only [n_inT, n_nat, true_and]
          rw [h.tv.pok a (by omega), h.tv.fed d a (by omega) (by omega)]
          by_cases c : x.R (23 + a) < r
          · rw [if_pos c]
            exact MH A _ h.mm h.mr (fun hh => absurd ⟨e1, e2⟩ hh) (fun _ _ => ⟨rfl, x, h⟩) (fun _ hh => absurd c hh) (fun _ hh => absurd c hh)
          · rw [if_neg c]
            by_cases c2 : x.R (35 + (4 * d + a)) + r ≤ 999
            · rw [if_pos c2]
              refine h.kept (fun A2 k1 k2 k3 k4 k5 hc0 hM => ?_)
              intro A11 e11
              rw [hc0.tv.pok a (by omega)] at e11
              have hc1 := hc0.step e11 (by omega) (hc0.tv.pokU (by omega))
              intro A15 e15
              rw [hc1.tv.fed d a (by omega) (by omega), wup_ne (by omega)] at e15
              have hc := hc1.stepD e15 (by omega) (hc1.tv.fedU (by omega) (by omega))
              obtain ⟨mm, mr, ms⟩ := h.mid k1 hc
              refine MH A15 _ mm mr (fun hh => absurd ⟨e1, e2⟩ hh) (fun _ hh => absurd hh c) (fun _ _ hh => absurd c2 hh) (fun _ _ _ => ?_)
              refine m_copies ms mr (fun A5 h5 => ?_)
              intro A10 e10
              rw [h5.row _ (by omega)] at e10
              have h10 := h5.putE e10
              intro A13 e13
              rw [h10.row _ (by omega), wup_ne (by omega)] at e13
              have h13 := h10.putE e13
              have fb := h.vr.fed (4 * d + a) (by omega)
              have pb := h.vr.pok a (by omega)
              have r1 := hr.1
              have r2 := hr.2
              rw [Int32.le_iff_toInt_le] at r1 r2 c2
              rw [Int32.lt_iff_toInt_lt] at c
              have e9 : (999 : Int32).toInt = 999 := rfl
              have e99 : (99 : Int32).toInt = 99 := rfl
              have e1' : (1 : Int32).toInt = 1 := rfl
              rw [e99] at r2
              rw [e1'] at r1
              rw [e9] at c2
              have es : (x.R (23 + a) - r).toInt = (x.R (23 + a)).toInt - r.toInt := i_sub (by omega) (by omega)
              have ea : (x.R (35 + (4 * d + a)) + r).toInt = (x.R (35 + (4 * d + a))).toInt + r.toInt := i_add (by omega) (by omega) (by omega) (by omega)
              refine h.pushed (Nat.le_refl _) ((h.vr.pokU h.vt (by omega) ⟨by omega, by omega⟩).fedU h.vt (by omega) ⟨by omega, by omega⟩) k1 k2 k3 k4 k5 hc h13 (fun A9 r9 i9 => ?_)
              rw [r9 _ (by omega), hc.tv.fed d a (by omega) (by omega)]
              exact ⟨rfl, _, i9⟩
            · rw [if_neg c2]
              exact MH A _ h.mm h.mr (fun hh => absurd ⟨e1, e2⟩ hh) (fun _ hh => absurd hh c) (fun _ _ _ => ⟨rfl, x, h⟩) (fun _ _ hh => absurd hh c2)
        · rw [if_pos rfl]
          exact MH A _ h.mm h.mr (fun _ => ⟨rfl, x, h⟩) (fun e1 _ => absurd e1 e) (fun e1 _ _ => absurd e1 e) (fun e1 _ _ => absurd e1 e)
      · refine c_isIn ?_
        rw [if_neg hr, if_pos rfl]
        unfold fX10_give
        refine m_isPerson h.vt h.mm (fun _ => ?_) (fun hh => absurd hp' hh)
        rw [if_neg (by decide)]
        refine m_isDog h.vt h.mm (fun _ => ?_) (fun hh => absurd hq' hh)
        rw [if_neg (by decide)]
        refine m_in ?_
        rw [if_neg hr, if_pos rfl]
        exact ⟨rfl, x, h⟩
    · rw [if_pos rfl]
      unfold fX10_give
      refine m_isPerson h.vt h.mm (fun _ => ?_) (fun hh => absurd hp' hh)
      rw [if_neg (by decide)]
      refine m_isDog h.vt h.mm (fun hh => absurd hh hq) (fun _ => ?_)
      rw [if_pos rfl]
      exact ⟨rfl, x, h⟩
  · rw [if_pos rfl]
    unfold fX10_give
    refine m_isPerson h.vt h.mm (fun hh => absurd hh hp) (fun _ => ?_)
    rw [if_pos rfl]
    exact ⟨rfl, x, h⟩
end I
