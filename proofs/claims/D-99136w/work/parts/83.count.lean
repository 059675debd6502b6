set_option maxRecDepth 100000
set_option linter.all false
section I
variable {B : Nat} {x : St} {n : Nat} {K : Nat → pKd} {A A1 A' : pA} {Lg : pL} {G : pG}
theorem m_sumNow {A : pA} {R : Rw} (hr : ∀ k, k < 77 → A 1237 k = R k) {f m : Nat} (hf : f + m ≤ 77) {Q : Int32 → Prop} (hQ : Q (qSum R f m)) : fX10_sumNow A (Int32.ofNat f) (Int32.ofNat m) Q := by
  unfold fX10_sumNow
  refine lp_from (fun z i (y : Int32) => fX10_sumNow_L5 A Q z (Int32.ofNat f) (Int32.ofNat m) y i) f (f + m) (by omega) (by omega) (fun i y => y = qSum R f (i - f)) ?_ ?_ 0 (by rw [Nat.sub_self]; rfl)
  · intro z i y hb hi hy hn
    unfold fX10_sumNow_L5
    simp (disch := omega) only [n_inT, n_nat, true_and, n_add, n_addR, n_le]
    rw [if_neg (by omega), hr i (by omega)]
    refine hn _ ?_
    rw [show i + 1 - f = (i - f) + 1 by omega, hy]
    show _ = qSum R f (i - f) + R (f + (i - f))
    rw [show f + (i - f) = i by omega]
  · intro z y hy
    unfold fX10_sumNow_L5
    simp (disch := omega) only [n_add, Int32.le_refl, if_true]
    rw [hy, Nat.add_sub_cancel_left]; exact hQ
theorem qSum_split {R : Rw} {f a : Nat} : ∀ b, qSum R f (a + b) = qSum R f a + qSum R (f + a) b
  | 0 => (Int32.add_zero _).symm
  | b + 1 => by
    show qSum R f (a + b) + R (f + (a + b)) = qSum R f a + (qSum R (f + a) b + R (f + a + b))
    rw [qSum_split b, Int32.add_assoc, Nat.add_assoc]
def qCount (T : Tx) (R : Rw) (c : Int32 × Int32 × Int32 × Int32) (w : Int32) : Int32 :=
  if w = 0 then Int32.ofNat T.pl else if w = 1 then Int32.ofNat T.pa else if w = 2 then Int32.ofNat T.dg else if w = 3 then Int32.ofNat T.pe else if w = 4 then Int32.ofNat T.er else if w = 5 then sMin T R else if w = 6 then (if sHour T R then 1 else 0) else if w = 7 then R 76 else if w = 8 then bits4 R else if w = 9 then R 75 else if w = 10 then qSum R 5 5 else if w = 11 then c.1 else if w = 12 then c.2.1 else if w = 13 then c.2.2.1 else if w = 14 then c.2.2.2 else if w = 15 then qSum R 31 4 else if w = 16 then qSum R 23 4 else if w = 17 then qSum R 10 5 else if w = 18 then qSum R 55 20 else -1
def heldN (A : pA) : Int32 := (if A 145 0 = 0 then 0 else 1) + (if A 145 1 = 0 then 0 else 1) + (if A 145 2 = 0 then 0 else 1)
theorem c_countQ (h : INV B x n K A Lg G) {w : Int32} {Q : Int32 → Prop} (hQ : Q (qCount x.T x.R (A 2 2, A 0 5, A 0 14, heldN A) w)) : fX0_count x.tx A w Q := by
  have := h.vt.dg; have := h.vt.pe
  unfold fX0_count
  unfold qCount at hQ
  rw [h.cm.pa, h.cm.er, h.tv.tim, h.tv.fet, h.tv.don]
  rcases w_c19 w with rfl | rfl | rfl | rfl | rfl | rfl | rfl | rfl | rfl | rfl | rfl | rfl | rfl | rfl | rfl | rfl | rfl | rfl | rfl | ⟨h0, h1, h2, h3, h4, h5, h6, h7, h8, h9, h10, h11, h12, h13, h14, h15, h16, h17, h18⟩
  · simp (disch := decide) only [n_litF, eq_self, if_true, if_false] at hQ ⊢; exact c_places h.cm.pl hQ
  · simp (disch := decide) only [n_litF, eq_self, if_true, if_false] at hQ ⊢; exact hQ
  · simp (disch := decide) only [n_litF, eq_self, if_true, if_false] at hQ ⊢; exact c_dogs h.cm.dg hQ
  · simp (disch := decide) only [n_litF, eq_self, if_true, if_false] at hQ ⊢; exact c_people h.cm.pe hQ
  · simp (disch := decide) only [n_litF, eq_self, if_true, if_false] at hQ ⊢; exact hQ
  · simp (disch := decide) only [n_litF, eq_self, if_true, if_false] at hQ ⊢; exact c_minute oT25 h.cm h.cs hQ
  · simp (disch := decide) only [n_litF, eq_self, if_true, if_false] at hQ ⊢
    refine c_minute oT25 h.cm h.cs (c_isHour h.vt oT25 h.cm h.cs ?_)
    by_cases c : sHour x.T x.R
    · rw [if_pos c] at hQ ⊢; rw [if_neg (by decide)]; exact hQ
    · rw [if_neg c] at hQ ⊢; rw [if_pos rfl]; exact hQ
  · simp (disch := decide) only [n_litF, eq_self, if_true, if_false] at hQ ⊢; exact hQ
  · simp (disch := decide) only [n_litF, eq_self, if_true, if_false] at hQ ⊢; exact hQ
  · simp (disch := decide) only [n_litF, eq_self, if_true, if_false] at hQ ⊢; exact hQ
  · simp (disch := decide) only [n_litF, eq_self, if_true, if_false] at hQ ⊢; exact c_sum5 (f := 5) (by omega) (fun k hk => h.tv.tak k hk) hQ
  · simp (disch := decide) only [n_litF, eq_self, if_true, if_false] at hQ ⊢; exact hQ
  · simp (disch := decide) only [n_litF, eq_self, if_true, if_false] at hQ ⊢; exact hQ
  · simp (disch := decide) only [n_litF, eq_self, if_true, if_false] at hQ ⊢; exact hQ
  · simp (disch := decide) only [n_litF, eq_self, if_true, if_false] at hQ ⊢
    unfold fX0_count_J229 fX0_count_J243 fX0_count_J258
    unfold heldN at hQ
    by_cases c0 : A 145 0 = 0 <;> by_cases c1 : A 145 1 = 0 <;> by_cases c2 : A 145 2 = 0 <;> simp only [c0, c1, c2, if_true, if_false] at hQ ⊢ <;> exact hQ
  · simp (disch := decide) only [n_litF, eq_self, if_true, if_false] at hQ ⊢; exact c_sum5 (f := 31) (by omega) (fun k hk => h.tv.oft k hk) hQ
  · simp (disch := decide) only [n_litF, eq_self, if_true, if_false] at hQ ⊢; exact c_sum5 (f := 23) (by omega) (fun k hk => h.tv.pok k hk) hQ
  · simp (disch := decide) only [n_litF, eq_self, if_true, if_false] at hQ ⊢; exact c_sum5 (f := 10) (by omega) (fun k hk => h.tv.too k hk) hQ
  · simp (disch := decide) only [n_litF, eq_self, if_true, if_false] at hQ ⊢
    refine lp_up (fun m i (y : Int32) => fX0_count_L295 x.tx A Q m y i) x.T.dg (by omega) (fun i y => y = qSum x.R 55 (4 * i)) ?_ ?_ 0 rfl
    · intro m i y hi hy hn
      unfold fX0_count_L295
      refine c_dogs h.cm.dg ?_
      rw [if_neg (by rw [n_le (by omega) (by omega)]; omega)]
      simp (disch := omega) only [n_inT, n_nat, true_and, n_addR]
      refine c_sum5 (R := x.R) (f := 55 + 4 * i) (by omega) (fun k hk => ?_) ?_
      · rw [h.tv.kik i k (by omega) hk, Nat.add_assoc]
      · refine hn _ ?_
        rw [hy, show 4 * (i + 1) = 4 * i + 4 by omega]
        exact (qSum_split (R := x.R) (f := 55) (a := 4 * i) 4).symm
    · intro m y hy
      unfold fX0_count_L295
      refine c_dogs h.cm.dg ?_
      rw [if_pos (Int32.le_refl _), hy]
      have := qSum_pad (R := x.R) (f := 55) (m := 4 * x.T.dg) (20 - 4 * x.T.dg) (fun j h1 h2 => h.vr.kik0 j (by omega) (by omega))
      rw [show 4 * x.T.dg + (20 - 4 * x.T.dg) = 20 by omega] at this
      rw [← this]; exact hQ
  · simp only [h0, h1, h2, h3, h4, h5, h6, h7, h8, h9, h10, h11, h12, h13, h14, h15, h16, h17, h18, if_false] at hQ ⊢; exact hQ
theorem m_countQ (h : INV B x n K A Lg G) {w : Int32} {Q : Int32 → pA → Prop} (hQ : ∀ A', SCR x.R A A' → Q (qCount x.T x.R (A 2 2, A 0 5, A 0 14, heldN A) w) A') : fX10_count A w Q := by
  have := h.vt.dg; have := h.vt.pe; have := h.mm.slt
  unfold fX10_count
  refine h.copies (fun A2 h2 => ?_)
  have i2 := h.scr (h2.scr h)
  have hQ := hQ A2 (h2.scr h)
  unfold qCount at hQ
  have hin : vp_in (Int32.ofNat x.s) 2 := n_in (by omega) (by omega)
  rw [i2.mm.live, n_nat (by omega), i2.mm.pl, i2.mm.pa, i2.mm.dg, i2.mm.pe, i2.mm.er, h2.row 76 (by omega), h2.row 75 (by omega), i2.tp1, i2.mu, i2.mto, ← i2.cu, ← i2.cto, h2.fr 2 (by decide) (by decide) (by decide) (by decide), h2.fr 0 (by decide) (by decide) (by decide) (by decide)]
  rcases w_c19 w with rfl | rfl | rfl | rfl | rfl | rfl | rfl | rfl | rfl | rfl | rfl | rfl | rfl | rfl | rfl | rfl | rfl | rfl | rfl | ⟨h0, h1, h2', h3, h4, h5, h6, h7, h8, h9, h10, h11, h12, h13, h14, h15, h16, h17, h18⟩
  · simp (disch := decide) only [n_litF, eq_self, if_true, if_false] at hQ ⊢; exact ⟨hin, hQ⟩
  · simp (disch := decide) only [n_litF, eq_self, if_true, if_false] at hQ ⊢; exact ⟨hin, hQ⟩
  · simp (disch := decide) only [n_litF, eq_self, if_true, if_false] at hQ ⊢; exact ⟨hin, hQ⟩
  · simp (disch := decide) only [n_litF, eq_self, if_true, if_false] at hQ ⊢; exact ⟨hin, hQ⟩
  · simp (disch := decide) only [n_litF, eq_self, if_true, if_false] at hQ ⊢; exact ⟨hin, hQ⟩
  · simp (disch := decide) only [n_litF, eq_self, if_true, if_false] at hQ ⊢; exact m_minute h.mm h2 hQ
  · simp (disch := decide) only [n_litF, eq_self, if_true, if_false] at hQ ⊢
    refine m_isHour h.vt h.mm h2 ?_
    by_cases c : sHour x.T x.R
    · rw [if_pos c] at hQ ⊢; rw [if_neg (by decide)]; exact hQ
    · rw [if_neg c] at hQ ⊢; rw [if_pos rfl]; exact hQ
  · simp (disch := decide) only [n_litF, eq_self, if_true, if_false] at hQ ⊢; exact hQ
  · simp (disch := decide) only [n_litF, eq_self, if_true, if_false] at hQ ⊢
    rw [bits4_q h.vt h.vr] at hQ
    exact ⟨hin, m_bitsOf h2 (f := 27) (by omega) (by omega) hQ⟩
  · simp (disch := decide) only [n_litF, eq_self, if_true, if_false] at hQ ⊢; exact hQ
  · simp (disch := decide) only [n_litF, eq_self, if_true, if_false] at hQ ⊢; exact m_sumNow i2.mr (f := 5) (m := 5) (by omega) hQ
  · simp (disch := decide) only [n_litF, eq_self, if_true, if_false] at hQ ⊢; exact hQ
  · simp (disch := decide) only [n_litF, eq_self, if_true, if_false] at hQ ⊢; exact hQ
  · simp (disch := decide) only [n_litF, eq_self, if_true, if_false] at hQ ⊢; exact hQ
  · simp (disch := decide) only [n_litF, eq_self, if_true, if_false] at hQ ⊢
    unfold fX10_count_J233 fX10_count_J247 fX10_count_J262
    unfold heldN at hQ
    have g0 := (h.hel 0 (by omega)).1
    have g1 := (h.hel 1 (by omega)).1
    have g2 := (h.hel 2 (by omega)).1
    rw [h2.fr 1244 (by decide) (by decide) (by decide) (by decide), g0, g1, g2]
    by_cases c0 : A 145 0 = 0 <;> by_cases c1 : A 145 1 = 0 <;> by_cases c2 : A 145 2 = 0 <;> simp only [c0, c1, c2, if_true, if_false] at hQ ⊢ <;> exact hQ
  · simp (disch := decide) only [n_litF, eq_self, if_true, if_false] at hQ ⊢; exact m_sumNow i2.mr (f := 31) (m := 4) (by omega) hQ
  · simp (disch := decide) only [n_litF, eq_self, if_true, if_false] at hQ ⊢; exact m_sumNow i2.mr (f := 23) (m := 4) (by omega) hQ
  · simp (disch := decide) only [n_litF, eq_self, if_true, if_false] at hQ ⊢; exact m_sumNow i2.mr (f := 10) (m := 5) (by omega) hQ
  · simp (disch := decide) only [n_litF, eq_self, if_true, if_false] at hQ ⊢; exact m_sumNow i2.mr (f := 55) (m := 20) (by omega) hQ
  · simp only [h0, h1, h2', h3, h4, h5, h6, h7, h8, h9, h10, h11, h12, h13, h14, h15, h16, h17, h18, if_false] at hQ ⊢; exact hQ
theorem q_count (h : INV B x n K A Lg G) (w : Int32) : fX0_count x.tx A w (fun r => fX10_count A w (fun r' A2 => r = r' ∧ SCR x.R A A2)) :=
  c_countQ h (m_countQ h (fun A2 s2 => ⟨rfl, s2⟩))
end I
