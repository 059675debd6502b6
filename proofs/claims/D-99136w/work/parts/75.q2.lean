set_option maxRecDepth 100000
set_option linter.all false
theorem w_c5 (w : Int32) : w = 0 ∨ w = 1 ∨ w = 2 ∨ w = 3 ∨ w = 4 ∨ (¬ w = 0 ∧ ¬ w = 1 ∧ ¬ w = 2 ∧ ¬ w = 3 ∧ ¬ w = 4) := by
  by_cases h0 : w = 0
  · exact Or.inl h0
  by_cases h1 : w = 1
  · exact Or.inr (Or.inl h1)
  by_cases h2 : w = 2
  · exact Or.inr (Or.inr (Or.inl h2))
  by_cases h3 : w = 3
  · exact Or.inr (Or.inr (Or.inr (Or.inl h3)))
  by_cases h4 : w = 4
  · exact Or.inr (Or.inr (Or.inr (Or.inr (Or.inl h4))))
  exact Or.inr (Or.inr (Or.inr (Or.inr (Or.inr (⟨h0, h1, h2, h3, h4⟩)))))
theorem w_c7 (w : Int32) : w = 0 ∨ w = 1 ∨ w = 2 ∨ w = 3 ∨ w = 4 ∨ w = 5 ∨ w = 6 ∨ (¬ w = 0 ∧ ¬ w = 1 ∧ ¬ w = 2 ∧ ¬ w = 3 ∧ ¬ w = 4 ∧ ¬ w = 5 ∧ ¬ w = 6) := by
  by_cases h0 : w = 0
  · exact Or.inl h0
  by_cases h1 : w = 1
  · exact Or.inr (Or.inl h1)
  by_cases h2 : w = 2
  · exact Or.inr (Or.inr (Or.inl h2))
  by_cases h3 : w = 3
  · exact Or.inr (Or.inr (Or.inr (Or.inl h3)))
  by_cases h4 : w = 4
  · exact Or.inr (Or.inr (Or.inr (Or.inr (Or.inl h4))))
  by_cases h5 : w = 5
  · exact Or.inr (Or.inr (Or.inr (Or.inr (Or.inr (Or.inl h5)))))
  by_cases h6 : w = 6
  · exact Or.inr (Or.inr (Or.inr (Or.inr (Or.inr (Or.inr (Or.inl h6))))))
  exact Or.inr (Or.inr (Or.inr (Or.inr (Or.inr (Or.inr (Or.inr (⟨h0, h1, h2, h3, h4, h5, h6⟩)))))))
theorem w_c19 (w : Int32) : w = 0 ∨ w = 1 ∨ w = 2 ∨ w = 3 ∨ w = 4 ∨ w = 5 ∨ w = 6 ∨ w = 7 ∨ w = 8 ∨ w = 9 ∨ w = 10 ∨ w = 11 ∨ w = 12 ∨ w = 13 ∨ w = 14 ∨ w = 15 ∨ w = 16 ∨ w = 17 ∨ w = 18 ∨ (¬ w = 0 ∧ ¬ w = 1 ∧ ¬ w = 2 ∧ ¬ w = 3 ∧ ¬ w = 4 ∧ ¬ w = 5 ∧ ¬ w = 6 ∧ ¬ w = 7 ∧ ¬ w = 8 ∧ ¬ w = 9 ∧ ¬ w = 10 ∧ ¬ w = 11 ∧ ¬ w = 12 ∧ ¬ w = 13 ∧ ¬ w = 14 ∧ ¬ w = 15 ∧ ¬ w = 16 ∧ ¬ w = 17 ∧ ¬ w = 18) := by
  by_cases h0 : w = 0
  · exact Or.inl h0
  by_cases h1 : w = 1
  · exact Or.inr (Or.inl h1)
  by_cases h2 : w = 2
  · exact Or.inr (Or.inr (Or.inl h2))
  by_cases h3 : w = 3
  · exact Or.inr (Or.inr (Or.inr (Or.inl h3)))
  by_cases h4 : w = 4
  · exact Or.inr (Or.inr (Or.inr (Or.inr (Or.inl h4))))
  by_cases h5 : w = 5
  · exact Or.inr (Or.inr (Or.inr (Or.inr (Or.inr (Or.inl h5)))))
  by_cases h6 : w = 6
  · exact Or.inr (Or.inr (Or.inr (Or.inr (Or.inr (Or.inr (Or.inl h6))))))
  by_cases h7 : w = 7
  · exact Or.inr (Or.inr (Or.inr (Or.inr (Or.inr (Or.inr (Or.inr (Or.inl h7)))))))
  by_cases h8 : w = 8
  · exact Or.inr (Or.inr (Or.inr (Or.inr (Or.inr (Or.inr (Or.inr (Or.inr (Or.inl h8))))))))
  by_cases h9 : w = 9
  · exact Or.inr (Or.inr (Or.inr (Or.inr (Or.inr (Or.inr (Or.inr (Or.inr (Or.inr (Or.inl h9)))))))))
  by_cases h10 : w = 10
  · exact Or.inr (Or.inr (Or.inr (Or.inr (Or.inr (Or.inr (Or.inr (Or.inr (Or.inr (Or.inr (Or.inl h10))))))))))
  by_cases h11 : w = 11
  · exact Or.inr (Or.inr (Or.inr (Or.inr (Or.inr (Or.inr (Or.inr (Or.inr (Or.inr (Or.inr (Or.inr (Or.inl h11)))))))))))
  by_cases h12 : w = 12
  · exact Or.inr (Or.inr (Or.inr (Or.inr (Or.inr (Or.inr (Or.inr (Or.inr (Or.inr (Or.inr (Or.inr (Or.inr (Or.inl h12))))))))))))
  by_cases h13 : w = 13
  · exact Or.inr (Or.inr (Or.inr (Or.inr (Or.inr (Or.inr (Or.inr (Or.inr (Or.inr (Or.inr (Or.inr (Or.inr (Or.inr (Or.inl h13)))))))))))))
  by_cases h14 : w = 14
  · exact Or.inr (Or.inr (Or.inr (Or.inr (Or.inr (Or.inr (Or.inr (Or.inr (Or.inr (Or.inr (Or.inr (Or.inr (Or.inr (Or.inr (Or.inl h14))))))))))))))
  by_cases h15 : w = 15
  · exact Or.inr (Or.inr (Or.inr (Or.inr (Or.inr (Or.inr (Or.inr (Or.inr (Or.inr (Or.inr (Or.inr (Or.inr (Or.inr (Or.inr (Or.inr (Or.inl h15)))))))))))))))
  by_cases h16 : w = 16
  · exact Or.inr (Or.inr (Or.inr (Or.inr (Or.inr (Or.inr (Or.inr (Or.inr (Or.inr (Or.inr (Or.inr (Or.inr (Or.inr (Or.inr (Or.inr (Or.inr (Or.inl h16))))))))))))))))
  by_cases h17 : w = 17
  · exact Or.inr (Or.inr (Or.inr (Or.inr (Or.inr (Or.inr (Or.inr (Or.inr (Or.inr (Or.inr (Or.inr (Or.inr (Or.inr (Or.inr (Or.inr (Or.inr (Or.inr (Or.inl h17)))))))))))))))))
  by_cases h18 : w = 18
  · exact Or.inr (Or.inr (Or.inr (Or.inr (Or.inr (Or.inr (Or.inr (Or.inr (Or.inr (Or.inr (Or.inr (Or.inr (Or.inr (Or.inr (Or.inr (Or.inr (Or.inr (Or.inr (Or.inl h18))))))))))))))))))
  exact Or.inr (Or.inr (Or.inr (Or.inr (Or.inr (Or.inr (Or.inr (Or.inr (Or.inr (Or.inr (Or.inr (Or.inr (Or.inr (Or.inr (Or.inr (Or.inr (Or.inr (Or.inr (Or.inr (⟨h0, h1, h2, h3, h4, h5, h6, h7, h8, h9, h10, h11, h12, h13, h14, h15, h16, h17, h18⟩)))))))))))))))))))
theorem w_c3 (w : Int32) : w = 0 ∨ w = 1 ∨ w = 2 ∨ (¬ w = 0 ∧ ¬ w = 1 ∧ ¬ w = 2) := by
  by_cases h0 : w = 0
  · exact Or.inl h0
  by_cases h1 : w = 1
  · exact Or.inr (Or.inl h1)
  by_cases h2 : w = 2
  · exact Or.inr (Or.inr (Or.inl h2))
  exact Or.inr (Or.inr (Or.inr (⟨h0, h1, h2⟩)))
theorem n_litF {a b : Nat} (ha : (OfNat.ofNat a : Nat) < 2147483648) (hb : (OfNat.ofNat b : Nat) < 2147483648) (h : ¬ (OfNat.ofNat a : Nat) = (OfNat.ofNat b : Nat)) : ((no_index (OfNat.ofNat a) : Int32) = (no_index (OfNat.ofNat b) : Int32)) = False := by
  have e := n_eq ha hb
  exact e.trans (eq_false h)
section I
variable {B : Nat} {x : St} {n : Nat} {K : Nat → pKd} {A A1 A' : pA} {Lg : pL} {G : pG}
/-! a query that is answered alike: both give v, over stores that are as good -/
def qPerson (T : Tx) (R : Rw) (a : Nat) (w : Int32) : Int32 :=
  if w = 0 then Int32.ofNat (T.hom a) else if w = 1 then R (23 + a) else if w = 2 then R (15 + a) else if w = 3 then R (19 + a) else if w = 4 then R (27 + a) else if w = 5 then qLeft T R a else if w = 6 then R (31 + a) else -1
theorem c_personQ (h : INV B x n K A Lg G) {a : Nat} (ha : a < x.T.pe) {w : Int32} {Q : Int32 → Prop} (hQ : Q (qPerson x.T x.R a w)) : fX0_person x.tx n K A G (Int32.ofNat a) w Q := by
  have := h.vt.pl; have := h.vt.dg; have := h.vt.pe; have := h.vt.er
  unfold fX0_person
  refine c_isPerson h.vt h.cm.pe (fun _ => ?_) (fun hh => absurd ⟨a, ha, rfl⟩ hh)
  rw [if_neg (by decide)]
  unfold qPerson at hQ
  have t1 := h.tv.pok a (by omega)
  have t2 := h.tv.at_ a (by omega)
  have t3 := h.tv.goal a (by omega)
  have t6 := h.tv.oft a (by omega)
  simp (disch := omega) only [n_inT, n_nat, true_and, t1, t2, t3, t6]
  rcases w_c7 w with rfl | rfl | rfl | rfl | rfl | rfl | rfl | ⟨h0, h1, h2, h3, h4, h5, h6⟩
  · simp (disch := decide) only [n_litF, eq_self, if_true, if_false] at hQ ⊢
    exact c_per h.vt oT25 h.cm h.cs ha (fun r r1 r2 r3 r4 => ⟨r1, r2, by rw [r3]; exact hQ⟩)
  · simp (disch := decide) only [n_litF, eq_self, if_true, if_false] at hQ ⊢; exact hQ
  · simp (disch := decide) only [n_litF, eq_self, if_true, if_false] at hQ ⊢; exact hQ
  · simp (disch := decide) only [n_litF, eq_self, if_true, if_false] at hQ ⊢; exact hQ
  · simp (disch := decide) only [n_litF, eq_self, if_true, if_false] at hQ ⊢
    refine c_isFetched h.cs h.vr (by omega) ?_
    rcases h.vr.fet a (by omega) with e | e
    · have e1 : ¬ x.R (27 + a) = 1 := by rw [e]; decide
      rw [if_neg e1, if_pos rfl]
      rw [e] at hQ; exact hQ
    · rw [if_pos e, if_neg (by decide)]
      rw [e] at hQ; exact hQ
  · simp (disch := decide) only [n_litF, eq_self, if_true, if_false] at hQ ⊢
    exact c_leftOf h.vt h.cm.er h.cm.who h.tv.don (by omega) hQ
  · simp (disch := decide) only [n_litF, eq_self, if_true, if_false] at hQ ⊢; exact hQ
  · simp only [h0, h1, h2, h3, h4, h5, h6, if_false] at hQ ⊢; exact hQ
theorem m_personQ (h : INV B x n K A Lg G) {a : Nat} (ha : a < x.T.pe) {w : Int32} {Q : Int32 → pA → Prop} (hQ : ∀ A', SCR x.R A A' → Q (qPerson x.T x.R a w) A') : fX10_person A (Int32.ofNat a) w Q := by
  have := h.vt.pl; have := h.vt.dg; have := h.vt.pe; have := h.vt.er; have := h.mm.slt
  unfold fX10_person
  refine m_isPerson h.vt h.mm (fun _ => ?_) (fun hh => absurd ⟨a, ha, rfl⟩ hh)
  rw [if_neg (by decide)]
  refine h.copies (fun A2 h2 => ?_)
  have hQ := hQ A2 (h2.scr h)
  unfold qPerson at hQ
  have e1 := h.mm.hom a ha
  simp (disch := omega) only [n_inT, n_nat, true_and, h2.fr, h2.fi, h2.row, h.mm.live, n_mulL, n_add, n_addL, e1]
  rcases w_c7 w with rfl | rfl | rfl | rfl | rfl | rfl | rfl | ⟨h0, h1, h2', h3, h4, h5, h6⟩
  · simp (disch := decide) only [n_litF, eq_self, if_true, if_false] at hQ ⊢
    exact hQ
  · simp (disch := decide) only [n_litF, eq_self, if_true, if_false] at hQ ⊢
    exact hQ
  · simp (disch := decide) only [n_litF, eq_self, if_true, if_false] at hQ ⊢
    exact hQ
  · simp (disch := decide) only [n_litF, eq_self, if_true, if_false] at hQ ⊢
    exact hQ
  · simp (disch := decide) only [n_litF, eq_self, if_true, if_false] at hQ ⊢
    exact hQ
  · simp (disch := decide) only [n_litF, eq_self, if_true, if_false] at hQ ⊢
    exact m_leftA h.vt h.mm h2 (by omega) hQ
  · simp (disch := decide) only [n_litF, eq_self, if_true, if_false] at hQ ⊢
    exact hQ
  · simp only [h0, h1, h2', h3, h4, h5, h6, if_false] at hQ ⊢; exact hQ
theorem q_person (h : INV B x n K A Lg G) (p w : Int32) : fX0_person x.tx n K A G p w (fun r => fX10_person A p w (fun r' A2 => r = r' ∧ SCR x.R A A2)) := by
  by_cases c : inR p x.T.pe
  · obtain ⟨k, hk, rfl⟩ := c
    exact c_personQ h hk (m_personQ h hk (fun A2 h2 => ⟨rfl, h2⟩))
  · unfold fX0_person
    refine c_isPerson h.vt h.cm.pe (fun hh => absurd hh c) (fun _ => ?_)
    rw [if_pos rfl]
    unfold fX10_person
    refine m_isPerson h.vt h.mm (fun hh => absurd hh c) (fun _ => ?_)
    rw [if_pos rfl]
    exact ⟨rfl, h.same⟩
def qMind (T : Tx) (R : Rw) (d a : Nat) (w : Int32) : Int32 :=
  if w = 0 then R (35 + (4 * d + a)) else if w = 1 then R (55 + (4 * d + a)) else if w = 2 then sWants T R d a else if w = 3 then sTakes T R d a else if w = 4 then sFades T R d a else -100000
theorem c_mindQ (h : INV B x n K A Lg G) {d a : Nat} (hd : d < x.T.dg) (ha : a < x.T.pe) {w : Int32} {Q : Int32 → pA → Prop} (hQ : ∀ A', SCR x.R A A' → Q (qMind x.T x.R d a w) A') : fX0_mind x.tx n K A G (Int32.ofNat d) (Int32.ofNat a) w Q := by
  have := h.vt.pl; have := h.vt.dg; have := h.vt.pe; have := h.vt.er
  unfold fX0_mind
  refine c_isDog h.vt h.cm.dg (fun _ => ?_) (fun hh => absurd ⟨d, hd, rfl⟩ hh)
  rw [if_neg (by decide)]
  refine c_isPerson h.vt h.cm.pe (fun _ => ?_) (fun hh => absurd ⟨a, ha, rfl⟩ hh)
  rw [if_neg (by decide)]
  unfold qMind at hQ
  have t1 := h.tv.fed d a (by omega) (by omega)
  have t2 := h.tv.kik d a (by omega) (by omega)
  simp (disch := omega) only [n_inT, n_nat, true_and, t1, t2]
  rcases w_c5 w with rfl | rfl | rfl | rfl | rfl | ⟨h0, h1, h2, h3, h4⟩
  · simp (disch := decide) only [n_litF, eq_self, if_true, if_false] at hQ ⊢
    exact hQ A h.same
  · simp (disch := decide) only [n_litF, eq_self, if_true, if_false] at hQ ⊢
    exact hQ A h.same
  · simp (disch := decide) only [n_litF, eq_self, if_true, if_false] at hQ ⊢
    exact c_wants h.vt h.vr oT25 h.cm h.cs hd ha (fun A' h' => hQ A' (h'.scrO h))
  · simp (disch := decide) only [n_litF, eq_self, if_true, if_false] at hQ ⊢
    exact c_takesOf h.vt h.vr oT25 h.cm h.cs hd ha (fun A' h' => hQ A' (h'.scrO h))
  · simp (disch := decide) only [n_litF, eq_self, if_true, if_false] at hQ ⊢
    exact c_fades h.vt h.vr oT25 h.cm h.cs hd ha (fun A' h' _ => hQ A' (h'.scrO h))
  · simp only [h0, h1, h2, h3, h4, if_false] at hQ ⊢; exact hQ A h.same
theorem m_mindQ (h : INV B x n K A Lg G) {d a : Nat} (hd : d < x.T.dg) (ha : a < x.T.pe) {w : Int32} {Q : Int32 → pA → Prop} (hQ : ∀ A', SCR x.R A A' → Q (qMind x.T x.R d a w) A') : fX10_mind A (Int32.ofNat d) (Int32.ofNat a) w Q := by
  have := h.vt.pl; have := h.vt.dg; have := h.vt.pe; have := h.vt.er; have := h.mm.slt
  unfold fX10_mind
  refine m_isDog h.vt h.mm (fun _ => ?_) (fun hh => absurd ⟨d, hd, rfl⟩ hh)
  rw [if_neg (by decide)]
  refine m_isPerson h.vt h.mm (fun _ => ?_) (fun hh => absurd ⟨a, ha, rfl⟩ hh)
  rw [if_neg (by decide)]
  refine h.copies (fun A2 h2 => ?_)
  unfold qMind at hQ
  simp (disch := omega) only [n_inT, n_nat, true_and, h2.fr, h2.fi, h2.row, n_mulL, n_add, n_addL]
  rw [show 35 + 4 * d + a = 35 + (4 * d + a) by omega, show 55 + 4 * d + a = 55 + (4 * d + a) by omega]
  rcases w_c5 w with rfl | rfl | rfl | rfl | rfl | ⟨h0, h1, h2', h3, h4⟩
  · simp (disch := decide) only [n_litF, eq_self, if_true, if_false] at hQ ⊢
    exact hQ A2 (h2.scr h)
  · simp (disch := decide) only [n_litF, eq_self, if_true, if_false] at hQ ⊢
    exact hQ A2 (h2.scr h)
  · simp (disch := decide) only [n_litF, eq_self, if_true, if_false] at hQ ⊢
    exact m_wantsOf h.vt h.vr h.mm h2 hd ha (fun A' h' => hQ A' (h'.scr h))
  · simp (disch := decide) only [n_litF, eq_self, if_true, if_false] at hQ ⊢
    exact m_takesOf h.vt h.vr h.mm h2 hd ha (fun A' h' => hQ A' (h'.scr h))
  · simp (disch := decide) only [n_litF, eq_self, if_true, if_false] at hQ ⊢
    exact m_fadesOf h.vt h.vr h.mm h2 hd ha (fun A' h' => hQ A' (h'.scr h))
  · simp only [h0, h1, h2', h3, h4, if_false] at hQ ⊢; exact hQ A2 (h2.scr h)
theorem q_mind (h : INV B x n K A Lg G) (p q w : Int32) : fX0_mind x.tx n K A G p q w (fun r A1 => fX10_mind A1 p q w (fun r' A2 => r = r' ∧ SCR x.R A A2)) := by
  by_cases c : inR p x.T.dg
  · obtain ⟨k, hk, rfl⟩ := c
    by_cases c : inR q x.T.pe
    · obtain ⟨a, ha, rfl⟩ := c
      exact c_mindQ h hk ha (fun A1 h1 => m_mindQ (h.scr h1) hk ha (fun A2 h2 => ⟨rfl, h1.trans h2⟩))
    · unfold fX0_mind fX0_mind_J16
      refine c_isDog h.vt h.cm.dg (fun _ => ?_) (fun hh => absurd ⟨k, hk, rfl⟩ hh)
      rw [if_neg (by decide)]
      refine c_isPerson h.vt h.cm.pe (fun hh => absurd hh c) (fun _ => ?_)
      rw [if_pos rfl]
      unfold fX10_mind fX10_mind_J16
      refine m_isDog h.vt h.mm (fun _ => ?_) (fun hh => absurd ⟨k, hk, rfl⟩ hh)
      rw [if_neg (by decide)]
      refine m_isPerson h.vt h.mm (fun hh => absurd hh c) (fun _ => ?_)
      rw [if_pos rfl]
      exact ⟨rfl, h.same⟩
  · unfold fX0_mind fX0_mind_J16
    refine c_isDog h.vt h.cm.dg (fun hh => absurd hh c) (fun _ => ?_)
    rw [if_pos rfl]
    unfold fX10_mind fX10_mind_J16
    refine m_isDog h.vt h.mm (fun hh => absurd hh c) (fun _ => ?_)
    rw [if_pos rfl]
    exact ⟨rfl, h.same⟩
theorem q_far (h : INV B x n K A Lg G) (p q : Int32) : fX0_far x.tx A p q (fun r => fX10_far A p q (fun r' => r = r')) := by
  have := h.vt.pl
  unfold fX0_far
  refine c_isPlace h.vt h.cm.pl (fun hp => ?_) (fun hp => ?_)
  · rw [if_neg (by decide)]
    refine c_isPlace h.vt h.cm.pl (fun hq => ?_) (fun hq => ?_)
    · rw [if_neg (by decide)]
      have hp' := hp; have hq' := hq
      obtain ⟨a, ha, rfl⟩ := hp
      obtain ⟨b, hb, rfl⟩ := hq
      simp (disch := omega) only [n_inT, n_nat, true_and]
      have e1 := h.cm.far a b (by omega) (by omega)
      have e2 := h.mm.far a b (by omega) (by omega)
      have ef := farC_fin (h.vt.far a b)
      rw [e1]
      have M : ∀ v : Int32, (if x.T.far a b < 99 then v = Int32.ofNat (x.T.far a b) else v = -2) → fX10_far A (Int32.ofNat a) (Int32.ofNat b) (fun r' => v = r') := by
        intro v hv
        unfold fX10_far
        refine m_isPlace h.vt h.mm (fun _ => ?_) (fun hh => absurd hp' hh)
        rw [if_neg (by decide)]
        refine m_isPlace h.vt h.mm (fun _ => ?_) (fun hh => absurd hq' hh)
        rw [if_neg (by decide)]
        have := h.vt.far a b
        simp (disch := omega) only [n_inT, n_nat, true_and, n_mulL, n_add, e2, n_ltR]
        exact hv
      by_cases c : x.T.far a b < 99
      · refine n_pos (by rw [ef]; exact c) (M _ ?_)
        rw [if_pos c]; unfold farC; rw [if_pos c]
      · refine n_neg (by rw [ef]; exact c) (M _ ?_)
        rw [if_neg c]
    · rw [if_pos rfl]
      unfold fX10_far
      refine m_isPlace h.vt h.mm (fun _ => ?_) (fun hh => absurd hp hh)
      rw [if_neg (by decide)]
      refine m_isPlace h.vt h.mm (fun hh => absurd hh hq) (fun _ => ?_)
      rw [if_pos rfl]
  · rw [if_pos rfl]
    unfold fX10_far
    refine m_isPlace h.vt h.mm (fun hh => absurd hh hp) (fun _ => ?_)
    rw [if_pos rfl]
def sTill (T : Tx) (R : Rw) : Int32 := if md (Int32.ofNat T.hf - sMin T R + 1440) = 0 then 1440 else md (Int32.ofNat T.hf - sMin T R + 1440)
theorem c_tillHour {A0 A : pA} {n : Nat} {K : Nat → pKd} {G : pG} {tx : Nat} {T : Tx} {R : Rw} (hM : CM n K A0 G tx T) (h : CS A0 A 25 R) {Q : Int32 → Prop} (hQ : Q (sTill T R)) : fX0_tillHour tx A Q := by
  unfold fX0_tillHour
  refine c_minute oT25 hM h ?_
  rw [h.tx0 oT25 hM, hM.hf]
  unfold sTill md at hQ
  split
  · rename_i c; rw [if_pos c] at hQ; exact hQ
  · rename_i c; rw [if_neg c] at hQ; exact hQ
theorem m_tillNext {A0 A : pA} {T : Tx} {s : Nat} {R : Rw} (hM : MM A0 T s) (h : MS A0 A R) {Q : Int32 → Prop} (hQ : Q (sTill T R)) : fX10_tillNext A Q := by
  have s2 := hM.slt
  unfold fX10_tillNext
  simp (disch := omega) only [n_inT, n_nat, true_and, h.fr, h.fi, hM.live, hM.hf]
  refine m_minute hM h ?_
  unfold sTill md at hQ
  split
  · rename_i c; rw [if_pos c] at hQ; exact hQ
  · rename_i c; rw [if_neg c] at hQ; exact hQ
theorem q_till (h : INV B x n K A Lg G) : fX0_till x.tx A (fun r => fX10_till A (fun r' A2 => r = r' ∧ SCR x.R A A2)) := by
  unfold fX0_till
  refine c_tillHour h.cm h.cs ?_
  unfold fX10_till
  refine h.copies (fun A2 h2 => m_tillNext h.mm h2 ⟨rfl, h2.scr h⟩)
theorem q_minds (h : INV B x n K A Lg G) (p : Int32) : fX0_minds x.tx n K A G p (fun r A1 => fX10_minds A1 p (fun r' A2 => r = r' ∧ SCR x.R A A2)) := by
  unfold fX0_minds
  refine c_isDog h.vt h.cm.dg (fun hp => ?_) (fun hp => ?_)
  · rw [if_neg (by decide)]
    obtain ⟨d, hd, rfl⟩ := hp
    refine c_minds h.vt h.vr oT25 h.cm h.cs hd (fun A1 h1 => ?_)
    have s1 := h1.scrO h
    have i1 := h.scr s1
    unfold fX10_minds
    refine m_isDog h.vt i1.mm (fun _ => ?_) (fun hh => absurd ⟨d, hd, rfl⟩ hh)
    rw [if_neg (by decide)]
    refine i1.copies (fun A2 h2 => ?_)
    exact m_mindsNow h.vt h.vr i1.mm h2 hd (fun A3 h3 => ⟨rfl, s1.trans (h3.scr i1)⟩)
  · rw [if_pos rfl]
    unfold fX10_minds
    refine m_isDog h.vt h.mm (fun hh => absurd hh hp) (fun _ => ?_)
    rw [if_pos rfl]
    exact ⟨rfl, h.same⟩
end I
