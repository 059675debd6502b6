set_option maxRecDepth 100000
set_option linter.all false
/-- bits of those below m that are so -/
def qBits (f : Nat → Prop) [DecidablePred f] (m : Nat) : Int32 := iter (fun k s => if f k then s ||| ((1 : Int32) <<< Int32.ofNat k) else s) m 0
def qNum (f : Nat → Prop) [DecidablePred f] (m : Nat) : Int32 := iter (fun k s => if f k then s + 1 else s) m 0
abbrev isOpen (R : Rw) (e : Nat) : Prop := (R 75 >>> Int32.ofNat e) &&& 1 = 0
/-- how many errands are left: of a person -/
def qLeft (T : Tx) (R : Rw) (a : Nat) : Int32 := qNum (fun e => T.who e = a ∧ isOpen R e) T.er
def qLeftP (T : Tx) (R : Rw) (p : Nat) : Int32 := qNum (fun e => T.whr e = p ∧ isOpen R e) T.er
theorem i_or0 {x : Int32} : x ||| 0 = x := by
  apply Int32.toBitVec_inj.mp
  show x.toBitVec ||| 0#32 = x.toBitVec
  exact BitVec.or_zero
section C
variable {n : Nat} {K : Nat → pKd} {A0 A : pA} {G : pG} {tx o : Nat} {T : Tx} {B : Nat} {R R' : Rw} {s : Nat}
theorem c_leftOf (hT : VT T) (he : A tx 8 = Int32.ofNat T.er) (hw : ∀ e, e < T.er → A (tx + 4) e = Int32.ofNat (T.who e)) (hd : A o 10 = R 75) {a : Nat} (ha : a < 4) {Q : Int32 → Prop} (hQ : Q (qLeft T R a)) : fX0_leftOf tx o A (Int32.ofNat a) Q := by
  have := hT.er; have := hT.pe
  unfold fX0_leftOf
  refine lp_up (fun m i (x : Int32) => fX0_leftOf_L5 tx o A Q m (Int32.ofNat a) x i) T.er (by omega) (fun i x => x = qNum (fun e => T.who e = a ∧ isOpen R e) i) ?_ ?_ 0 rfl
  · intro m i x hi hx hn
    have b1 := hT.who i hi
    unfold fX0_leftOf_L5 fX0_leftOf_J48 fX0_leftOf_J49
    simp (disch := omega) only [n_nat, n_addR, n_m31, n_inT, true_and]
    rw [he, hw i hi, hd, if_neg (by rw [n_le (by omega) (by omega)]; omega)]
    by_cases c1 : T.who i = a
    · rw [if_pos (by rw [c1])]
      by_cases c2 : isOpen R i
      · refine n_pos c2 (hn _ ?_)
        show _ = ite _ _ _
        rw [if_pos ⟨c1, c2⟩, hx]; rfl
      · refine n_neg c2 (hn _ ?_)
        show _ = ite _ _ _
        rw [if_neg (fun hh => c2 hh.2), hx, Int32.add_zero]; rfl
    · rw [if_neg (by rw [n_eq (by omega) (by omega)]; exact c1)]
      refine hn _ ?_
      show _ = ite _ _ _
      rw [if_neg (fun hh => c1 hh.1), hx, Int32.add_zero]; rfl
  · intro m x hx
    unfold fX0_leftOf_L5
    rw [he, if_pos (Int32.le_refl _), hx]
    exact hQ
theorem m_leftA (hT : VT T) (hM : MM A0 T s) (h : MS A0 A R) {a : Nat} (ha : a < 4) {Q : Int32 → Prop} (hQ : Q (qLeft T R a)) : fX10_errandsLeft A (Int32.ofNat a) (-1) Q := by
  have := hT.er; have := hT.pe; have := hM.slt
  unfold fX10_errandsLeft
  refine lp_up (fun m i (x : Int32) => fX10_errandsLeft_L5 A Q m (Int32.ofNat a) (-1) x i) T.er (by omega) (fun i x => x = qNum (fun e => T.who e = a ∧ isOpen R e) i) ?_ ?_ 0 rfl
  · intro m i x hi hx hn
    have b1 := hT.who i hi
    have e1 := hM.who i hi
    unfold fX10_errandsLeft_L5 fX10_errandsLeft_J58 fX10_errandsLeft_J82 fX10_errandsLeft_J85
    simp (disch := omega) only [n_inT, n_nat, true_and, h.fr, h.fi, h.row, hM.live, hM.er, n_addL, n_addR, n_mulL, n_add, n_le, e1, n_m31]
    rw [if_neg (by omega)]
    by_cases c2 : isOpen R i
    · refine n_pos c2 ?_
      rw [if_neg (show ¬ Int32.ofNat a = -1 from fun hh => by
        have := congrArg Int32.toInt hh
        rw [n_int (by omega)] at this
        exact absurd this (by show ¬ (a : Int) = -1; omega))]
      by_cases c1 : T.who i = a
      · rw [if_pos (by rw [c1]), if_pos trivial]
        refine hn _ ?_
        show _ = ite _ _ _
        rw [if_pos ⟨c1, c2⟩, hx]; rfl
      · rw [if_neg (by rw [n_eq (by omega) (by omega)]; exact c1)]
        refine hn _ ?_
        show _ = ite _ _ _
        rw [if_neg (fun hh => c1 hh.1), hx]; rfl
    · refine n_neg c2 (hn _ ?_)
      show _ = ite _ _ _
      rw [if_neg (fun hh => c2 hh.2), hx]; rfl
  · intro m x hx
    unfold fX10_errandsLeft_L5
    simp (disch := omega) only [n_inT, n_nat, true_and, h.fr, h.fi, hM.live, hM.er, Int32.le_refl, if_true]
    rw [hx]; exact hQ
theorem m_leftP (hT : VT T) (hM : MM A0 T s) (h : MS A0 A R) {p : Nat} (hp : p < 7) {Q : Int32 → Prop} (hQ : Q (qLeftP T R p)) : fX10_errandsLeft A (-1) (Int32.ofNat p) Q := by
  have := hT.er; have := hT.pl; have := hM.slt
  unfold fX10_errandsLeft
  refine lp_up (fun m i (x : Int32) => fX10_errandsLeft_L5 A Q m (-1) (Int32.ofNat p) x i) T.er (by omega) (fun i x => x = qNum (fun e => T.whr e = p ∧ isOpen R e) i) ?_ ?_ 0 rfl
  · intro m i x hi hx hn
    have b1 := hT.whr i hi
    have e1 := hM.whr i hi
    unfold fX10_errandsLeft_L5 fX10_errandsLeft_J58 fX10_errandsLeft_J82 fX10_errandsLeft_J85
    simp (disch := omega) only [n_inT, n_nat, true_and, h.fr, h.fi, h.row, hM.live, hM.er, n_addL, n_addR, n_mulL, n_add, n_le, e1, n_m31]
    rw [if_neg (by omega)]
    by_cases c2 : isOpen R i
    · refine n_pos c2 ?_
      rw [if_pos trivial, if_neg (show ¬ Int32.ofNat p = -1 from fun hh => by
        have := congrArg Int32.toInt hh
        rw [n_int (by omega)] at this
        exact absurd this (by show ¬ (p : Int) = -1; omega))]
      by_cases c1 : T.whr i = p
      · rw [if_pos (by rw [c1])]
        refine hn _ ?_
        show _ = ite _ _ _
        rw [if_pos ⟨c1, c2⟩, hx]; rfl
      · rw [if_neg (by rw [n_eq (by omega) (by omega)]; exact c1)]
        refine hn _ ?_
        show _ = ite _ _ _
        rw [if_neg (fun hh => c1 hh.1), hx]; rfl
    · refine n_neg c2 (hn _ ?_)
      show _ = ite _ _ _
      rw [if_neg (fun hh => c2 hh.2), hx]; rfl
  · intro m x hx
    unfold fX10_errandsLeft_L5
    simp (disch := omega) only [n_inT, n_nat, true_and, h.fr, h.fi, hM.live, hM.er, Int32.le_refl, if_true]
    rw [hx]; exact hQ
theorem m_bitsOf (h : MS A0 A R) {f m : Nat} (hf : f + m ≤ 77) (hm : m < 31) {v : Int32} {Q : Int32 → Prop} (hQ : Q (qBits (fun k => R (f + k) = v) m)) : fX10_bitsOf A (Int32.ofNat f) (Int32.ofNat m) v Q := by
  unfold fX10_bitsOf
  refine lp_up (fun z i (x : Int32) => fX10_bitsOf_L6 A Q z (Int32.ofNat f) (Int32.ofNat m) v x i) m (by omega) (fun i x => x = qBits (fun k => R (f + k) = v) i) ?_ ?_ 0 rfl
  · intro z i x hi hx hn
    unfold fX10_bitsOf_L6 fX10_bitsOf_J34
    simp (disch := omega) only [n_inT, n_nat, true_and, h.row, n_addR, n_add, n_le, n_m31]
    rw [if_neg (by omega)]
    by_cases c : R (f + i) = v
    · rw [if_pos c]
      refine hn _ ?_
      show _ = ite _ _ _
      rw [if_pos c, hx]; rfl
    · rw [if_neg c]
      refine hn _ ?_
      show _ = ite _ _ _
      rw [if_neg c, hx]; rfl
  · intro z x hx
    unfold fX10_bitsOf_L6
    rw [if_pos (Int32.le_refl _), hx]
    exact hQ
end C
section I
variable {B : Nat} {x : St} {n : Nat} {K : Nat → pKd} {A A1 A' : pA} {Lg : pL} {G : pG}
theorem INV.ms (h : INV B x n K A Lg G) : MS A A (A 1238) := ⟨fun _ _ _ _ _ => rfl, fun _ _ => rfl, fun _ _ => rfl⟩
theorem INV.copies (h : INV B x n K A Lg G) {Q : pA → Prop} (hQ : ∀ A', MS A A' x.R → Q A') : fX10_copies A Q := m_copies h.ms h.mr hQ
theorem INV.takes (h : INV B x n K A Lg G) {Q : pA → Prop} (hQ : ∀ A', CS A A' 48 x.R → Q A') : fX5_takes 48 25 A Q := c_takes (by omega) h.tv hQ
def qSpot (T : Tx) (R : Rw) (p : Nat) (w : Int32) : Int32 :=
  if w = 0 then T.nx p else if w = 1 then qBits (fun d => R (0 + d) = Int32.ofNat p) T.dg else if w = 2 then qBits (fun a => R (15 + a) = Int32.ofNat p) T.pe else if w = 3 then qLeftP T R p else -1
theorem c_spotQ (h : INV B x n K A Lg G) {p : Nat} (hp : p < x.T.pl) {w : Int32} {Q : Int32 → Prop} (hQ : Q (qSpot x.T x.R p w)) : fX0_spot x.tx n K A G (Int32.ofNat p) w Q := by
  have := h.vt.pl; have := h.vt.dg; have := h.vt.pe; have := h.vt.er
  have hcs := h.cs
  unfold fX0_spot
  refine c_isPlace h.vt h.cm.pl (fun _ => ?_) (fun hh => absurd ⟨p, hp, rfl⟩ hh)
  rw [if_neg (by decide)]
  unfold qSpot at hQ
  by_cases w0 : w = 0
  · rw [if_pos w0] at hQ ⊢
    exact c_spot h.vt oT25 h.cm hcs hp (fun r r1 r2 r3 => ⟨r1, r2, by rw [r3]; exact hQ⟩)
  · rw [if_neg w0] at hQ ⊢
    by_cases w1 : w = 1
    · rw [if_pos w1] at hQ ⊢
      refine lp_up (fun m i (y : Int32) => fX0_spot_L65 x.tx n K A G Q m (Int32.ofNat p) y i) x.T.dg (by omega) (fun i y => y = qBits (fun d => x.R (0 + d) = Int32.ofNat p) i) ?_ ?_ 0 rfl
      · intro m i y hi hy hn
        unfold fX0_spot_L65 fX0_spot_J97
        refine c_dogs h.cm.dg ?_
        rw [if_neg (by rw [n_le (by omega) (by omega)]; omega)]
        simp (disch := omega) only [n_inT, n_nat, true_and, n_addR, n_m31]
        rw [h.tv.dog i (by omega)]
        by_cases c : x.R i = Int32.ofNat p
        · rw [if_pos c]
          refine hn _ ?_
          show _ = ite _ _ _
          rw [if_pos (by show x.R (0 + i) = _; rw [Nat.zero_add]; exact c), hy]; rfl
        · rw [if_neg c]
          refine hn _ ?_
          show _ = ite _ _ _
          rw [if_neg (by show ¬ x.R (0 + i) = _; rw [Nat.zero_add]; exact c), hy, i_or0]; rfl
      · intro m y hy
        unfold fX0_spot_L65
        refine c_dogs h.cm.dg ?_
        rw [if_pos (Int32.le_refl _), hy]; exact hQ
    · rw [if_neg w1] at hQ ⊢
      by_cases w2 : w = 2
      · rw [if_pos w2] at hQ ⊢
        refine lp_up (fun m i (y : Int32) => fX0_spot_L110 x.tx n K A G Q m (Int32.ofNat p) y i) x.T.pe (by omega) (fun i y => y = qBits (fun a => x.R (15 + a) = Int32.ofNat p) i) ?_ ?_ 0 rfl
        · intro m i y hi hy hn
          unfold fX0_spot_L110 fX0_spot_J142
          refine c_people h.cm.pe ?_
          rw [if_neg (by rw [n_le (by omega) (by omega)]; omega)]
          simp (disch := omega) only [n_inT, n_nat, true_and, n_addR, n_m31]
          rw [h.tv.at_ i (by omega)]
          by_cases c : x.R (15 + i) = Int32.ofNat p
          · rw [if_pos c]
            refine hn _ ?_
            show _ = ite _ _ _
            rw [if_pos c, hy]; rfl
          · rw [if_neg c]
            refine hn _ ?_
            show _ = ite _ _ _
            rw [if_neg c, hy, i_or0]; rfl
        · intro m y hy
          unfold fX0_spot_L110
          refine c_people h.cm.pe ?_
          rw [if_pos (Int32.le_refl _), hy]; exact hQ
      · rw [if_neg w2] at hQ ⊢
        by_cases w3 : w = 3
        · rw [if_pos w3] at hQ ⊢
          refine lp_up (fun m i (y : Int32) => fX0_spot_L155 x.tx n K A G Q m (Int32.ofNat p) y i) x.T.er (by omega) (fun i y => y = qNum (fun e => x.T.whr e = p ∧ isOpen x.R e) i) ?_ ?_ 0 rfl
          · intro m i y hi hy hn
            have b1 := h.vt.whr i hi
            unfold fX0_spot_L155 fX0_spot_J195 fX0_spot_J196 fX0_isDone
            simp (disch := omega) only [n_inT, n_nat, true_and, n_addR, n_m31]
            rw [h.cm.er, h.cm.whr i hi, h.tv.don, if_neg (by rw [n_le (by omega) (by omega)]; omega)]
            by_cases c1 : x.T.whr i = p
            · rw [if_pos (by rw [c1])]
              by_cases c2 : isOpen x.R i
              · have c3 : ¬ (x.R 75 >>> Int32.ofNat i) &&& 1 = 1 := by
                  have := n_bit (x := x.R 75) (y := Int32.ofNat i)
                  unfold isOpen at c2
                  rw [this] at c2; exact c2
                rw [if_neg c3, if_pos trivial]
                refine hn _ ?_
                show _ = ite _ _ _
                rw [if_pos ⟨c1, c2⟩, hy]; rfl
              · have c3 : (x.R 75 >>> Int32.ofNat i) &&& 1 = 1 := by
                  have := n_bit (x := x.R 75) (y := Int32.ofNat i)
                  unfold isOpen at c2
                  rw [this] at c2; exact Classical.not_not.mp c2
                rw [if_pos c3, if_neg (by decide)]
                refine hn _ ?_
                show _ = ite _ _ _
                rw [if_neg (fun hh => c2 hh.2), hy, Int32.add_zero]; rfl
            · rw [if_neg (by rw [n_eq (by omega) (by omega)]; exact c1)]
              refine hn _ ?_
              show _ = ite _ _ _
              rw [if_neg (fun hh => c1 hh.1), hy, Int32.add_zero]; rfl
          · intro m y hy
            unfold fX0_spot_L155
            rw [h.cm.er, if_pos (Int32.le_refl _), hy]; exact hQ
        · rw [if_neg w3] at hQ ⊢
          exact hQ
theorem m_spotQ (h : INV B x n K A Lg G) {p : Nat} (hp : p < x.T.pl) {w : Int32} {Q : Int32 → pA → Prop} (hQ : ∀ A', SCR x.R A A' → Q (qSpot x.T x.R p w) A') : fX10_spot A (Int32.ofNat p) w Q := by
  have := h.vt.pl; have := h.vt.dg; have := h.vt.pe; have := h.vt.er; have := h.mm.slt
  unfold fX10_spot
  refine m_isPlace h.vt h.mm (fun _ => ?_) (fun hh => absurd ⟨p, hp, rfl⟩ hh)
  rw [if_neg (by decide)]
  refine h.copies (fun A2 h2 => ?_)
  have hQ := hQ A2 (h2.scr h)
  unfold qSpot at hQ
  have e1 := h.mm.nx p (by omega)
  simp (disch := omega) only [n_inT, n_nat, true_and, h2.fr, h2.fi, h.mm.live, n_mulL, n_add, e1, h.mm.dg, h.mm.pe]
  by_cases w0 : w = 0
  · rw [if_pos w0] at hQ ⊢; exact hQ
  · rw [if_neg w0] at hQ ⊢
    by_cases w1 : w = 1
    · rw [if_pos w1] at hQ ⊢
      exact m_bitsOf h2 (f := 0) (by omega) (by omega) hQ
    · rw [if_neg w1] at hQ ⊢
      by_cases w2 : w = 2
      · rw [if_pos w2] at hQ ⊢
        exact m_bitsOf h2 (f := 15) (by omega) (by omega) hQ
      · rw [if_neg w2] at hQ ⊢
        by_cases w3 : w = 3
        · rw [if_pos w3] at hQ ⊢
          exact m_leftP h.vt h.mm h2 (by omega) hQ
        · rw [if_neg w3] at hQ ⊢; exact hQ
theorem q_spot (h : INV B x n K A Lg G) (p w : Int32) : fX0_spot x.tx n K A G p w (fun r => fX10_spot A p w (fun r' A2 => r = r' ∧ SCR x.R A A2)) := by
  by_cases c : inR p x.T.pl
  · obtain ⟨k, hk, rfl⟩ := c
    exact c_spotQ h hk (m_spotQ h hk (fun A2 h2 => ⟨rfl, h2⟩))
  · unfold fX0_spot
    refine c_isPlace h.vt h.cm.pl (fun hh => absurd hh c) (fun _ => ?_)
    rw [if_pos rfl]
    unfold fX10_spot
    refine m_isPlace h.vt h.mm (fun hh => absurd hh c) (fun _ => ?_)
    rw [if_pos rfl]
    exact ⟨rfl, h.same⟩
theorem q_place (h : INV B x n K A Lg G) : fX0_place x.tx A (fun r => fX10_place A (fun r' => r = r')) := h.plc.symm
theorem q_dog (h : INV B x n K A Lg G) (p w : Int32) : fX0_dog x.tx n K A G p w (fun r => fX10_dog A p w (fun r' => r = r')) := by
  have := h.vt.pl; have := h.vt.dg; have := h.vt.pe; have := h.vt.er; have := h.mm.slt
  unfold fX0_dog
  refine c_isDog h.vt h.cm.dg (fun hh => ?_) (fun hh => ?_)
  · obtain ⟨d, hd, rfl⟩ := hh
    rw [if_neg (by decide)]
    refine c_dog h.vt oT25 h.cm h.cs hd (fun r r1 r2 r3 r4 r5 => ⟨r1, r2, ?_⟩)
    have e1 := h.mm.ken d hd
    have e2 := h.mm.bit d hd
    have e3 := h.mm.hun d hd
    have M : ∀ v : Int32, (w = 0 → v = A r 1) → (w = 1 → v = A r 2) → (w = 2 → v = A r 3) → (w = 3 → v = x.R d) → (w = 4 → v = x.R (5 + d)) → (w = 5 → v = x.R (10 + d)) → (w ≠ 0 → w ≠ 1 → w ≠ 2 → w ≠ 3 → w ≠ 4 → w ≠ 5 → v = -1) → fX10_dog A (Int32.ofNat d) w (fun r' => v = r') := by
      intro v k0 k1 k2 k3 k4 k5 k6
      unfold fX10_dog
      refine m_isDog h.vt h.mm (fun _ => ?_) (fun hh => absurd ⟨d, hd, rfl⟩ hh)
      rw [if_neg (by decide)]
      simp (disch := omega) only [n_inT, n_nat, true_and, h.mm.live, n_mulL, n_add, e1, e2, e3]
      by_cases w0 : w = 0
      · rw [if_pos w0, k0 w0, r3]
      · rw [if_neg w0]
        by_cases w1 : w = 1
        · rw [if_pos w1, k1 w1, r4]
        · rw [if_neg w1]
          by_cases w2 : w = 2
          · rw [if_pos w2, k2 w2, r5]
          · rw [if_neg w2]
            by_cases w3 : w = 3
            · rw [if_pos w3, k3 w3]; subst w3
              rw [show (5 * ((3 : Int32) - 3)) = Int32.ofNat 0 from rfl, n_add, n_nat (by omega), h.mr _ (by omega), Nat.zero_add]
              exact ⟨n_in (by omega) (by omega), rfl⟩
            · rw [if_neg w3]
              by_cases w4 : w = 4
              · rw [if_pos w4, k4 w4]; subst w4
                rw [show (5 * ((4 : Int32) - 3)) = Int32.ofNat 5 from rfl, n_add, n_nat (by omega), h.mr _ (by omega)]
                exact ⟨n_in (by omega) (by omega), rfl⟩
              · rw [if_neg w4]
                by_cases w5 : w = 5
                · rw [if_pos w5, k5 w5]; subst w5
                  rw [show (5 * ((5 : Int32) - 3)) = Int32.ofNat 10 from rfl, n_add, n_nat (by omega), h.mr _ (by omega)]
                  exact ⟨n_in (by omega) (by omega), rfl⟩
                · rw [if_neg w5]; exact k6 w0 w1 w2 w3 w4 w5
    have t3 := h.tv.dog d (by omega)
    have t4 := h.tv.tak d (by omega)
    have t5 := h.tv.too d (by omega)
    simp (disch := omega) only [n_inT, n_nat, true_and, t3, t4, t5]
    by_cases w0 : w = 0
    · rw [if_pos w0]; subst w0; exact M _ (fun _ => rfl) (fun hh => absurd hh (by decide)) (fun hh => absurd hh (by decide)) (fun hh => absurd hh (by decide)) (fun hh => absurd hh (by decide)) (fun hh => absurd hh (by decide)) (by simp)
    · rw [if_neg w0]
      by_cases w1 : w = 1
      · rw [if_pos w1]; subst w1; exact M _ (fun hh => absurd hh (by decide)) (fun _ => rfl) (fun hh => absurd hh (by decide)) (fun hh => absurd hh (by decide)) (fun hh => absurd hh (by decide)) (fun hh => absurd hh (by decide)) (by simp)
      · rw [if_neg w1]
        by_cases w2 : w = 2
        · rw [if_pos w2]; subst w2; exact M _ (fun hh => absurd hh (by decide)) (fun hh => absurd hh (by decide)) (fun _ => rfl) (fun hh => absurd hh (by decide)) (fun hh => absurd hh (by decide)) (fun hh => absurd hh (by decide)) (by simp)
        · rw [if_neg w2]
          by_cases w3 : w = 3
          · rw [if_pos w3]; subst w3; exact M _ (fun hh => absurd hh (by decide)) (fun hh => absurd hh (by decide)) (fun hh => absurd hh (by decide)) (fun _ => rfl) (fun hh => absurd hh (by decide)) (fun hh => absurd hh (by decide)) (by simp)
          · rw [if_neg w3]
            by_cases w4 : w = 4
            · rw [if_pos w4]; subst w4; exact M _ (fun hh => absurd hh (by decide)) (fun hh => absurd hh (by decide)) (fun hh => absurd hh (by decide)) (fun hh => absurd hh (by decide)) (fun _ => rfl) (fun hh => absurd hh (by decide)) (by simp)
            · rw [if_neg w4]
              by_cases w5 : w = 5
              · rw [if_pos w5]; subst w5; exact M _ (fun hh => absurd hh (by decide)) (fun hh => absurd hh (by decide)) (fun hh => absurd hh (by decide)) (fun hh => absurd hh (by decide)) (fun hh => absurd hh (by decide)) (fun _ => rfl) (by simp)
              · rw [if_neg w5]; exact M _ (fun hh => absurd hh w0) (fun hh => absurd hh w1) (fun hh => absurd hh w2) (fun hh => absurd hh w3) (fun hh => absurd hh w4) (fun hh => absurd hh w5) (fun _ _ _ _ _ _ => rfl)
  · rw [if_pos rfl]
    unfold fX10_dog
    refine m_isDog h.vt h.mm (fun h2 => absurd h2 hh) (fun _ => ?_)
    rw [if_pos rfl]
end I
