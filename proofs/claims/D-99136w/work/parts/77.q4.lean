set_option maxRecDepth 100000
set_option linter.all false
section I
variable {B : Nat} {x : St} {n : Nat} {K : Nat → pKd} {A A1 A' : pA} {Lg : pL} {G : pG}
theorem c_isAhead {A : pA} {p : Int32} {Q : Int32 → Prop} (h1 : inR p 1441 → Q 1) (h0 : ¬ inR p 1441 → Q 0) : fX0_isAhead A p Q := by
  unfold fX0_isAhead
  refine c_isIn ?_
  have e : (0 ≤ p ∧ p ≤ 1440) ↔ inR p 1441 := inR_iff2 (m := 1440) (by omega)
  by_cases c : inR p 1441
  · rw [if_pos (e.mpr c)]; exact ⟨rfl, h1 c⟩
  · rw [if_neg (fun hh => c (e.mp hh))]; exact ⟨rfl, h0 c⟩
theorem m_isLong {A : pA} {p : Int32} {Q : Int32 → Prop} (h1 : inR p 1441 → Q 1) (h0 : ¬ inR p 1441 → Q 0) : fX10_isLong A p Q := by
  unfold fX10_isLong
  refine m_in ?_
  have e : (0 ≤ p ∧ p ≤ 1440) ↔ inR p 1441 := inR_iff2 (m := 1440) (by omega)
  by_cases c : inR p 1441
  · rw [if_pos (e.mpr c)]; exact ⟨rfl, h1 c⟩
  · rw [if_neg (fun hh => c (e.mp hh))]; exact ⟨rfl, h0 c⟩
theorem c_inN {A : pA} {p : Int32} (m : Nat) (hm : m < 900000) {hi : Int32} (eh : hi = Int32.ofNat m) {Q : Int32 → Prop} (h1 : inR p (m + 1) → Q 1) (h0 : ¬ inR p (m + 1) → Q 0) : fX0_isIn A p 0 hi Q := by
  subst eh
  refine c_isIn ?_
  have e := inR_iff2 (p := p) (m := m) (by omega)
  by_cases c : inR p (m + 1)
  · rw [if_pos (e.mpr c)]; exact h1 c
  · rw [if_neg (fun hh => c (e.mp hh))]; exact h0 c
theorem m_inN {A : pA} {p : Int32} (m : Nat) (hm : m < 900000) {hi : Int32} (eh : hi = Int32.ofNat m) {Q : Int32 → Prop} (h1 : inR p (m + 1) → Q 1) (h0 : ¬ inR p (m + 1) → Q 0) : fX10_in A p 0 hi Q := by
  subst eh
  refine m_in ?_
  have e := inR_iff2 (p := p) (m := m) (by omega)
  by_cases c : inR p (m + 1)
  · rw [if_pos (e.mpr c)]; exact h1 c
  · rw [if_neg (fun hh => c (e.mp hh))]; exact h0 c
def qThen (T : Tx) (R : Rw) (a : Nat) (w : Int32) : Int32 := if w = 0 then R (15 + a) else if w = 1 then R (23 + a) else if w = 2 then R (27 + a) else qLeft T R a
theorem q_then (h : INV B x n K A Lg G) (hB : B < 900000000) (p q w : Int32) : fX0_then x.tx n K A G p q w (fun r A1 => fX10_then A1 p q w (fun r' A2 => r = r' ∧ SCR x.R A A2)) := by
  have := h.vt.pe
  unfold fX0_then
  refine c_isPerson h.vt h.cm.pe (fun hp => ?_) (fun hp => ?_)
  · rw [if_neg (by decide)]
    have hp' := hp
    obtain ⟨a, ha, rfl⟩ := hp
    refine c_isAhead (fun hq => ?_) (fun hq => ?_)
    · rw [if_neg (by decide)]
      have hq' := hq
      obtain ⟨m, hm, rfl⟩ := hq
      refine c_inN 3 (by omega) rfl (fun hw => ?_) (fun hw => ?_)
      · rw [if_neg (by decide)]
        refine h.takes (fun A4 h4 => ?_)
        refine c_runs h.vt h.vf h.vr oT48 h.cm h4 (by omega) (fun A5 h5 => ?_)
        have s5 := h5.scrT h
        have i5 := h.scr s5
        have V := h.vr.goes h.vt m (by omega)
        have M : ∀ v : Int32, v = qThen x.T (sGoes x.T m x.R) a w → fX10_then A5 (Int32.ofNat a) (Int32.ofNat m) w (fun r' A2 => v = r' ∧ SCR x.R A A2) := by
          intro v hv
          unfold fX10_then
          refine m_isPerson h.vt i5.mm (fun _ => ?_) (fun hh => absurd hp' hh)
          rw [if_neg (by decide)]
          refine m_isLong (fun _ => ?_) (fun hh => absurd hq' hh)
          rw [if_neg (by decide)]
          refine m_inN 3 (by omega) rfl (fun _ => ?_) (fun hh => absurd hw hh)
          rw [if_neg (by decide)]
          refine i5.copies (fun A6 h6 => ?_)
          refine m_goes h.vt h.vr i5.mm h6 (by omega) (fun A7 h7 => ?_)
          have s7 := s5.trans (h7.scr i5)
          unfold qThen at hv
          simp (disch := omega) only [n_inT, n_nat, true_and, n_addL, h7.row]
          by_cases w0 : w = 0
          · rw [if_pos w0] at hv ⊢; exact ⟨hv, s7⟩
          · rw [if_neg w0] at hv ⊢
            by_cases w1 : w = 1
            · rw [if_pos w1] at hv ⊢; exact ⟨hv, s7⟩
            · rw [if_neg w1] at hv ⊢
              by_cases w2 : w = 2
              · rw [if_pos w2] at hv ⊢; exact ⟨hv, s7⟩
              · rw [if_neg w2] at hv ⊢
                exact m_leftA h.vt i5.mm h7 (by omega) ⟨hv, s7⟩
        unfold qThen at M
        simp (disch := omega) only [n_inT, n_nat, true_and]
        rw [h5.tv.at_ a (by omega), h5.tv.pok a (by omega)]
        by_cases w0 : w = 0
        · rw [if_pos w0] at M ⊢; exact M _ rfl
        · rw [if_neg w0] at M ⊢
          by_cases w1 : w = 1
          · rw [if_pos w1] at M ⊢; exact M _ rfl
          · rw [if_neg w1] at M ⊢
            by_cases w2 : w = 2
            · rw [if_pos w2] at M ⊢
              refine c_isFetched h5 V (by omega) ?_
              rcases V.fet a (by omega) with e | e
              · have e1 : ¬ sGoes x.T m x.R (27 + a) = 1 := by rw [e]; decide
                rw [if_neg e1, if_pos rfl]
                exact M _ e.symm
              · rw [if_pos e, if_neg (by decide)]
                exact M _ e.symm
            · rw [if_neg w2] at M ⊢
              exact c_leftOf h.vt i5.cm.er i5.cm.who h5.tv.don (by omega) (M _ rfl)
      · rw [if_pos rfl]
        unfold fX10_then
        refine m_isPerson h.vt h.mm (fun _ => ?_) (fun hh => absurd hp' hh)
        rw [if_neg (by decide)]
        refine m_isLong (fun _ => ?_) (fun hh => absurd hq' hh)
        rw [if_neg (by decide)]
        refine m_inN 3 (by omega) rfl (fun hh => absurd hh hw) (fun _ => ?_)
        rw [if_pos rfl]
        exact ⟨rfl, h.same⟩
    · rw [if_pos rfl]
      unfold fX10_then
      refine m_isPerson h.vt h.mm (fun _ => ?_) (fun hh => absurd hp' hh)
      rw [if_neg (by decide)]
      refine m_isLong (fun hh => absurd hh hq) (fun _ => ?_)
      rw [if_pos rfl]
      exact ⟨rfl, h.same⟩
  · rw [if_pos rfl]
    unfold fX10_then
    refine m_isPerson h.vt h.mm (fun hh => absurd hh hp) (fun _ => ?_)
    rw [if_pos rfl]
    exact ⟨rfl, h.same⟩
theorem q_dogIn (h : INV B x n K A Lg G) (hB : B < 900000000) (p q : Int32) : fX0_dogIn x.tx n K A G p q (fun r A1 => fX10_dogIn A1 p q (fun r' A2 => r = r' ∧ SCR x.R A A2)) := by
  have := h.vt.dg
  unfold fX0_dogIn
  refine c_isDog h.vt h.cm.dg (fun hp => ?_) (fun hp => ?_)
  · rw [if_neg (by decide)]
    have hp' := hp
    obtain ⟨d, hd, rfl⟩ := hp
    refine c_isAhead (fun hq => ?_) (fun hq => ?_)
    · rw [if_neg (by decide)]
      have hq' := hq
      obtain ⟨m, hm, rfl⟩ := hq
      refine h.takes (fun A4 h4 => ?_)
      refine c_runs h.vt h.vf h.vr oT48 h.cm h4 (by omega) (fun A5 h5 => ?_)
      have s5 := h5.scrT h
      have i5 := h.scr s5
      simp (disch := omega) only [n_inT, n_nat, true_and]
      rw [h5.tv.dog d (by omega)]
      unfold fX10_dogIn
      refine m_isDog h.vt i5.mm (fun _ => ?_) (fun hh => absurd hp' hh)
      rw [if_neg (by decide)]
      refine m_isLong (fun _ => ?_) (fun hh => absurd hq' hh)
      rw [if_neg (by decide)]
      refine i5.copies (fun A6 h6 => ?_)
      refine m_goes h.vt h.vr i5.mm h6 (by omega) (fun A7 h7 => ?_)
      simp (disch := omega) only [n_inT, n_nat, true_and, h7.row]
      exact s5.trans (h7.scr i5)
    · rw [if_pos rfl]
      unfold fX10_dogIn
      refine m_isDog h.vt h.mm (fun _ => ?_) (fun hh => absurd hp' hh)
      rw [if_neg (by decide)]
      refine m_isLong (fun hh => absurd hh hq) (fun _ => ?_)
      rw [if_pos rfl]
      exact ⟨rfl, h.same⟩
  · rw [if_pos rfl]
    unfold fX10_dogIn
    refine m_isDog h.vt h.mm (fun hh => absurd hh hp) (fun _ => ?_)
    rw [if_pos rfl]
    exact ⟨rfl, h.same⟩
/-- who of the people from a on was fetched anew -/
def qWho (R0 R : Rw) : Nat → Nat → Option Nat
  | 0, _ => none
  | m + 1, a => if R0 (27 + a) = 0 ∧ R0 (31 + a) < R (31 + a) then some a else qWho R0 R m (a + 1)
def qFirst (T : Tx) (R0 : Rw) (w : Int32) : Nat → Nat → Rw → Int32
  | 0, _, _ => -2
  | m + 1, k, R => match qWho R0 (sMinute T R) T.pe 0 with
    | some a => if w = 0 then Int32.ofNat a else Int32.ofNat k
    | none => qFirst T R0 w m (k + 1) (sMinute T R)
theorem c_whoL (h : INV B x n K A Lg G) {w : Int32} {k : Nat} {R : Rw} {k24 : Int32 → Int32 → pA → Prop} {Q : Int32 → pA → Prop} (h1 : CS A A1 48 R) :
    ∀ (m a : Nat), a + m = x.T.pe → (qWho x.R R m a = none → k24 w (Int32.ofNat (k + 1)) A1) → (∀ b, qWho x.R R m a = some b → Q (if w = 0 then Int32.ofNat b else Int32.ofNat k) A1) → fX0_first_L48 x.tx n K G k24 Q (m + 1) w (Int32.ofNat k) (Int32.ofNat a) A1 := by
  have := h.vt.pe
  have i1 := h.scr (h1.scrT h)
  intro m
  induction m with
  | zero =>
    intro a ha e1 e2
    unfold fX0_first_L48
    refine c_people i1.cm.pe ?_
    rw [if_pos (by rw [n_le (by omega) (by omega)]; omega), n_addR]
    exact e1 rfl
  | succ m ih =>
    intro a ha e1 e2
    unfold fX0_first_L48 fX0_first_J98
    refine c_people i1.cm.pe ?_
    rw [if_neg (by rw [n_le (by omega) (by omega)]; omega)]
    refine c_isFetched i1.cs i1.vr (by omega) ?_
    simp (disch := omega) only [n_inT, n_nat, true_and, n_addR]
    rw [h1.tv.oft a (by omega), i1.tv.oft a (by omega)]
    unfold qWho at e1 e2
    have go : ¬ (x.R (27 + a) = 0 ∧ x.R (31 + a) < R (31 + a)) → fX0_first_L48 x.tx n K G k24 Q (m + 1) w (Int32.ofNat k) (Int32.ofNat (a + 1)) A1 := by
      intro c
      rw [if_neg c] at e1 e2
      exact ih (a + 1) (by omega) e1 e2
    rcases h.vr.fet a (by omega) with e | e
    · have e' : ¬ x.R (27 + a) = 1 := by rw [e]; decide
      rw [if_neg e', if_pos rfl]
      by_cases c : R (31 + a) ≤ x.R (31 + a)
      · rw [if_pos c]
        exact go (fun hh => Int32.not_lt.mpr c hh.2)
      · rw [if_neg c]
        rw [if_pos ⟨e, Int32.not_le.mp c⟩] at e2
        have := e2 a rfl
        by_cases w0 : w = 0
        · rw [if_pos w0] at this ⊢; exact this
        · rw [if_neg w0] at this ⊢; exact this
    · rw [if_pos e, if_neg (by decide)]
      exact go (fun hh => by rw [e] at hh; exact absurd hh.1 (by decide))
theorem m_whoL (h : INV B x n K A Lg G) {w : Int32} {k : Nat} {R : Rw} {k24 : Int32 → Int32 → pA → Prop} {Q : Int32 → pA → Prop} (h1 : MS A A1 R) :
    ∀ (m a : Nat), a + m = x.T.pe → (qWho x.R R m a = none → k24 w (Int32.ofNat (k + 1)) A1) → (∀ b, qWho x.R R m a = some b → Q (if w = 0 then Int32.ofNat b else Int32.ofNat k) A1) → fX10_first_L30 k24 Q (m + 1) w (Int32.ofNat k) (Int32.ofNat a) A1 := by
  have := h.vt.pe; have := h.mm.slt
  intro m
  induction m with
  | zero =>
    intro a ha e1 e2
    unfold fX10_first_L30
    simp (disch := omega) only [n_inT, n_nat, true_and, h1.fr, h1.fi, h.mm.live, h.mm.pe, n_le, n_addR]
    rw [if_pos (by omega)]
    exact e1 rfl
  | succ m ih =>
    intro a ha e1 e2
    unfold fX10_first_L30 fX10_first_J86
    simp (disch := omega) only [n_inT, n_nat, true_and, h1.fr, h1.fi, h1.row, h.mm.live, h.mm.pe, n_le, n_addR, n_addL]
    rw [if_neg (by omega), h.mr _ (by omega), h.mr _ (by omega)]
    unfold qWho at e1 e2
    by_cases c0 : x.R (27 + a) = 0
    · rw [if_pos c0]
      by_cases c : R (31 + a) ≤ x.R (31 + a)
      · rw [if_pos c]
        rw [if_neg (fun hh => Int32.not_lt.mpr c hh.2)] at e1 e2
        exact ih (a + 1) (by omega) e1 e2
      · rw [if_neg c]
        rw [if_pos ⟨c0, Int32.not_le.mp c⟩] at e2
        have := e2 a rfl
        by_cases w0 : w = 0
        · rw [if_pos w0] at this ⊢; exact this
        · rw [if_neg w0] at this ⊢; exact this
    · rw [if_neg c0]
      rw [if_neg (fun hh => c0 hh.1)] at e1 e2
      exact ih (a + 1) (by omega) e1 e2
theorem c_firstL (h : INV B x n K A Lg G) {w : Int32} {Q : Int32 → pA → Prop} : ∀ (m k B' : Nat) (A1 : pA) (R : Rw), k + m = 1441 → B' + m < 1000000000 → VR x.T B' R → CS A A1 48 R → (∀ A' R', CS A A' 48 R' → Q (qFirst x.T x.R w m k R) A') → fX0_first_L24 x.tx n K G Q (m + 1) w (Int32.ofNat k) A1 := by
  intro m
  induction m with
  | zero =>
    intro k B' A1 R hk hB hV h1 hQ
    unfold fX0_first_L24
    rw [if_pos (by rw [n_ltL (by simp) (by omega)]; omega)]
    exact hQ A1 R h1
  | succ m ih =>
    intro k B' A1 R hk hB hV h1 hQ
    unfold fX0_first_L24
    rw [if_neg (by rw [n_ltL (by simp) (by omega)]; omega)]
    refine c_goesBy h.vt h.vf hV (by omega) oT48 h.cm h1 (fun A5 h5 => ⟨x.T.pe + 1, ?_⟩)
    unfold qFirst at hQ
    refine c_whoL h h5 x.T.pe 0 (by omega) (fun e => ?_) (fun b e => ?_)
    · rw [e] at hQ
      exact ih (k + 1) (B' + 1) A5 _ (by omega) (by omega) (hV.minute h.vt (by omega)) h5 hQ
    · rw [e] at hQ
      exact hQ A5 _ h5
theorem m_firstL (h : INV B x n K A Lg G) {w : Int32} {Q : Int32 → pA → Prop} : ∀ (m k B' : Nat) (A1 : pA) (R : Rw), k + m = 1441 → B' + m < 1000000000 → VR x.T B' R → MS A A1 R → (∀ A' R', MS A A' R' → Q (qFirst x.T x.R w m k R) A') → fX10_first_L17 Q (m + 1) w (Int32.ofNat k) A1 := by
  intro m
  induction m with
  | zero =>
    intro k B' A1 R hk hB hV h1 hQ
    unfold fX10_first_L17
    rw [if_pos (by rw [n_ltL (by simp) (by omega)]; omega)]
    exact hQ A1 R h1
  | succ m ih =>
    intro k B' A1 R hk hB hV h1 hQ
    unfold fX10_first_L17
    rw [if_neg (by rw [n_ltL (by simp) (by omega)]; omega)]
    refine m_minuteGoes h.vt hV (by omega) h.mm h1 (fun A5 h5 => ⟨x.T.pe + 1, ?_⟩)
    unfold qFirst at hQ
    refine m_whoL h h5 x.T.pe 0 (by omega) (fun e => ?_) (fun b e => ?_)
    · rw [e] at hQ
      exact ih (k + 1) (B' + 1) A5 _ (by omega) (by omega) (hV.minute h.vt (by omega)) h5 hQ
    · rw [e] at hQ
      exact hQ A5 _ h5
theorem q_first (h : INV B x n K A Lg G) (hB : B < 900000000) (p : Int32) : fX0_first x.tx n K A G p (fun r A1 => fX10_first A1 p (fun r' A2 => r = r' ∧ SCR x.R A A2)) := by
  unfold fX0_first
  refine c_inN 1 (by omega) rfl (fun hp => ?_) (fun hp => ?_)
  · rw [if_neg (by decide)]
    refine h.takes (fun A4 h4 => ⟨1441, c_firstL h 1440 1 B A4 x.R (by omega) (by omega) h.vr h4 (fun A5 R5 h5 => ?_)⟩)
    have s5 := h5.scrT h
    have i5 := h.scr s5
    unfold fX10_first
    refine m_inN 1 (by omega) rfl (fun _ => ?_) (fun hh => absurd hp hh)
    rw [if_neg (by decide)]
    refine i5.copies (fun A6 h6 => ⟨1441, m_firstL i5 1440 1 B A6 x.R (by omega) (by omega) h.vr h6 (fun A7 R7 h7 => ?_)⟩)
    exact ⟨rfl, s5.trans (h7.scr i5)⟩
  · rw [if_pos rfl]
    unfold fX10_first
    refine m_inN 1 (by omega) rfl (fun hh => absurd hh hp) (fun _ => ?_)
    rw [if_pos rfl]
    exact ⟨rfl, h.same⟩
end I
