set_option maxRecDepth 100000
set_option linter.all false
theorem farC_lt {a b : Nat} (ha : a ≤ 99) (hb : b ≤ 99) : (farC a < farC b) = (a < b) := by
  have h := farC_le hb ha
  have e : (farC a < farC b) = ¬ (farC b ≤ farC a) := propext Int32.not_le.symm
  rw [e, h]
  exact propext ⟨fun hh => by omega, fun hh => by omega⟩
theorem farC_99 : farC 99 = 1000000 := rfl
section I
variable {B : Nat} {x : St} {n : Nat} {K : Nat → pKd} {A A1 A' : pA} {Lg : pL} {G : pG}
def qFeed (R : Rw) (a m : Nat) : Int32 := iter (fun d s => s + pmax 0 (R (55 + (4 * d + a)) - R (35 + (4 * d + a)))) m 0
theorem q_feeding (h : INV B x n K A Lg G) (p : Int32) : fX0_feeding x.tx A p (fun r => fX10_feeding A p (fun r' => r = r')) := by
  have := h.vt.pl; have := h.vt.dg; have := h.vt.pe; have := h.mm.slt
  unfold fX0_feeding
  refine c_isPerson h.vt h.cm.pe (fun hp => ?_) (fun hp => ?_)
  · rw [if_neg (by decide)]
    have hp' := hp
    obtain ⟨a, ha, rfl⟩ := hp
    have M : ∀ v : Int32, v = qFeed x.R a x.T.dg → fX10_feeding A (Int32.ofNat a) (fun r' => v = r') := by
      intro v hv
      unfold fX10_feeding
      refine m_isPerson h.vt h.mm (fun _ => ?_) (fun hh => absurd hp' hh)
      rw [if_neg (by decide)]
      refine lp_up (fun m i (y : Int32) => fX10_feeding_L14 A (fun r' => v = r') m (Int32.ofNat a) y i) x.T.dg (by omega) (fun i y => y = qFeed x.R a i) ?_ ?_ 0 rfl
      · intro m i y hi hy hn
        unfold fX10_feeding_L14 fX10_feeding_J66
        simp (disch := omega) only [n_inT, n_nat, true_and, h.mm.live, h.mm.dg, n_mulL, n_add, n_addL, n_addR, n_le]
        rw [if_neg (by omega), h.mr _ (by omega), h.mr _ (by omega), show 35 + 4 * i + a = 35 + (4 * i + a) by omega, show 55 + 4 * i + a = 55 + (4 * i + a) by omega]
        by_cases c : x.R (55 + (4 * i + a)) - x.R (35 + (4 * i + a)) ≤ 0
        · rw [if_pos c]
          refine hn _ ?_
          show _ = qFeed x.R a i + pmax 0 _
          unfold pmax
          rw [if_neg (Int32.not_lt.mpr c), Int32.add_zero]; exact hy
        · rw [if_neg c]
          refine hn _ ?_
          show _ = qFeed x.R a i + pmax 0 _
          unfold pmax
          rw [if_pos (Int32.not_le.mp c), hy]
      · intro m y hy
        unfold fX10_feeding_L14
        simp (disch := omega) only [n_inT, n_nat, true_and, h.mm.live, h.mm.dg, Int32.le_refl, if_true]
        rw [hv, hy]
    refine lp_up (fun m i (y : Int32) => fX0_feeding_L14 x.tx A (fun r => fX10_feeding A (Int32.ofNat a) (fun r' => r = r')) m (Int32.ofNat a) y i) x.T.dg (by omega) (fun i y => y = qFeed x.R a i) ?_ ?_ 0 rfl
    · intro m i y hi hy hn
      unfold fX0_feeding_L14
      refine c_dogs h.cm.dg ?_
      rw [if_neg (by rw [n_le (by omega) (by omega)]; omega)]
      simp (disch := omega) only [n_inT, n_nat, true_and, n_addR]
      rw [h.tv.kik i a (by omega) (by omega), h.tv.fed i a (by omega) (by omega)]
      refine hn _ ?_
      rw [hy]; rfl
    · intro m y hy
      unfold fX0_feeding_L14
      refine c_dogs h.cm.dg ?_
      rw [if_pos (Int32.le_refl _)]
      exact M y hy
  · rw [if_pos rfl]
    unfold fX10_feeding
    refine m_isPerson h.vt h.mm (fun hh => absurd hh hp) (fun _ => ?_)
    rw [if_pos rfl]
def qHeldF (T : Tx) (p : Nat) (d : Nat) (s : Int32 × Nat) : Int32 × Nat := if T.far (T.ken d) p < s.2 then (Int32.ofNat d, T.far (T.ken d) p) else s
theorem q_held (h : INV B x n K A Lg G) (p : Int32) : fX0_held x.tx n K A G p (fun r => fX10_held A p (fun r' => r = r')) := by
  have := h.vt.pl; have := h.vt.dg; have := h.vt.pe; have := h.mm.slt
  unfold fX0_held
  refine c_isPlace h.vt h.cm.pl (fun hp => ?_) (fun hp => ?_)
  · rw [if_neg (by decide)]
    have hp' := hp
    obtain ⟨a, ha, rfl⟩ := hp
    have M : ∀ v : Int32, v = (iter (qHeldF x.T a) x.T.dg (-2, 99)).1 → fX10_held A (Int32.ofNat a) (fun r' => v = r') := by
      intro v hv
      unfold fX10_held
      refine m_isPlace h.vt h.mm (fun _ => ?_) (fun hh => absurd hp' hh)
      rw [if_neg (by decide)]
      refine lp_up (fun m i (y : Int32 × Nat) => fX10_held_L19 A (fun r' => v = r') m (Int32.ofNat a) y.1 (Int32.ofNat y.2) i) x.T.dg (by omega) (fun i y => y = iter (qHeldF x.T a) i (-2, 99) ∧ y.2 ≤ 99) ?_ ?_ (-2, 99) ⟨rfl, Nat.le_refl _⟩
      · intro m i y hi ⟨hy, hb⟩ hn
        have k1 := h.vt.ken i hi
        have e1 := h.mm.ken i hi
        have e2 := h.mm.far (x.T.ken i) a (by omega) (by omega)
        have b2 := h.vt.far (x.T.ken i) a
        unfold fX10_held_L19 fX10_held_J74
        simp (disch := omega) only [n_inT, n_nat, true_and, h.mm.live, h.mm.dg, n_mulL, n_add, n_addR, n_le, e1, e2, n_lt]
        rw [if_neg (by omega)]
        by_cases c : x.T.far (x.T.ken i) a < y.2
        · rw [if_pos c]
          refine hn (Int32.ofNat i, x.T.far (x.T.ken i) a) ⟨?_, b2⟩
          show _ = qHeldF x.T a i _
          rw [← hy]; unfold qHeldF; rw [if_pos c]
        · rw [if_neg c]
          refine hn y ⟨?_, hb⟩
          show _ = qHeldF x.T a i _
          rw [← hy]; unfold qHeldF; rw [if_neg c]
      · intro m y ⟨hy, hb⟩
        unfold fX10_held_L19
        simp (disch := omega) only [n_inT, n_nat, true_and, h.mm.live, h.mm.dg, Int32.le_refl, if_true]
        rw [hv, hy]
    refine lp_up (fun m i (y : Int32 × Nat) => fX0_held_L20 x.tx n K A G (fun r => fX10_held A (Int32.ofNat a) (fun r' => r = r')) m (Int32.ofNat a) y.1 (farC y.2) i) x.T.dg (by omega) (fun i y => y = iter (qHeldF x.T a) i (-2, 99) ∧ y.2 ≤ 99) ?_ ?_ (-2, 99) ⟨rfl, Nat.le_refl _⟩
    · intro m i y hi ⟨hy, hb⟩ hn
      have k1 := h.vt.ken i hi
      have e2 := h.cm.far (x.T.ken i) a (by omega) (by omega)
      have b2 := h.vt.far (x.T.ken i) a
      unfold fX0_held_L20 fX0_held_J74
      refine c_dogs h.cm.dg ?_
      rw [if_neg (by rw [n_le (by omega) (by omega)]; omega)]
      refine c_dog h.vt oT25 h.cm h.cs hi (fun r r1 r2 r3 r4 r5 => ⟨r1, r2, ?_⟩)
      rw [r3]
      simp (disch := omega) only [n_inT, n_nat, true_and, n_addR, e2]
      have ef := farC_lt b2 hb
      by_cases c : x.T.far (x.T.ken i) a < y.2
      · refine n_pos (by rw [ef]; exact c) ?_
        refine hn (Int32.ofNat i, x.T.far (x.T.ken i) a) ⟨?_, b2⟩
        show _ = qHeldF x.T a i _
        rw [← hy]; unfold qHeldF; rw [if_pos c]
      · refine n_neg (by rw [ef]; exact c) ?_
        refine hn y ⟨?_, hb⟩
        show _ = qHeldF x.T a i _
        rw [← hy]; unfold qHeldF; rw [if_neg c]
    · intro m y ⟨hy, hb⟩
      unfold fX0_held_L20
      refine c_dogs h.cm.dg ?_
      rw [if_pos (Int32.le_refl _)]
      exact M y.1 (by rw [hy])
  · rw [if_pos rfl]
    unfold fX10_held
    refine m_isPlace h.vt h.mm (fun hh => absurd hh hp) (fun _ => ?_)
    rw [if_pos rfl]
def qGr (T : Tx) (d a : Nat) : Nat → Nat → Rw → Int32
  | 0, _, _ => -2
  | m + 1, k, R => if R (35 + (4 * d + a)) < R (55 + (4 * d + a)) then qGr T d a m (k + 1) (sFade T d a R) else Int32.ofNat k
theorem c_grudgeL {tx : Nat} {T : Tx} {A0 : pA} (hT : VT T) (hM : CM n K A0 G tx T) {d a : Nat} (hd : d < T.dg) (ha : a < T.pe) {Q : Int32 → pA → Prop} : ∀ (m k : Nat) (A : pA) (R : Rw), k + m = 100 → VR T B R → CS A0 A 48 R → (∀ A' R', CS A0 A' 48 R' → Q (qGr T d a m k R) A') → fX0_grudge_L31 tx n K G Q (m + 1) (Int32.ofNat d) (Int32.ofNat a) (Int32.ofNat k) A := by
  have := hT.dg; have := hT.pe
  intro m
  induction m with
  | zero =>
    intro k A R hk hV h hQ
    unfold fX0_grudge_L31
    rw [if_pos (by rw [n_ltL (by simp) (by omega)]; omega)]
    exact hQ A R h
  | succ m ih =>
    intro k A R hk hV h hQ
    unfold fX0_grudge_L31
    rw [if_neg (by rw [n_ltL (by simp) (by omega)]; omega)]
    simp (disch := omega) only [n_inT, n_nat, true_and, n_addR]
    rw [h.tv.fed d a (by omega) (by omega), h.tv.kik d a (by omega) (by omega)]
    unfold qGr at hQ
    by_cases c : R (35 + (4 * d + a)) < R (55 + (4 * d + a))
    · rw [if_pos c] at hQ ⊢
      refine c_fades hT hV oT48 hM h hd ha (fun A6 h6 _ => ?_)
      intro A11 e11
      rw [h6.tv.fed d a (by omega) (by omega), pmax_wth (hV.fed _ (by omega)) sFades_in] at e11
      have h11 := h6.stepD e11 (by omega) (h6.tv.fedU (by omega) (by omega))
      intro A16 e16
      rw [h11.tv.kik d a (by omega) (by omega), wup_ne (by omega), pmax_wth (hV.kik _ (by omega)) sFades_in] at e16
      have h16 := h11.stepD e16 (by omega) (h11.tv.kikU (by omega) (by omega))
      exact ih (k + 1) A16 (sFade T d a R) (by omega) (hV.fade hT hd ha) h16 hQ
    · rw [if_neg c] at hQ ⊢
      exact hQ A R h
theorem m_grudgeL {T : Tx} {s : Nat} {A0 : pA} (hT : VT T) (hM : MM A0 T s) {d a : Nat} (hd : d < T.dg) (ha : a < T.pe) {Q : Int32 → pA → Prop} : ∀ (m k : Nat) (A : pA) (R : Rw), k + m = 100 → VR T B R → MS A0 A R → (∀ A' R', MS A0 A' R' → Q (qGr T d a m k R) A') → fX10_grudge_L24 Q (m + 1) (Int32.ofNat d) (Int32.ofNat a) (Int32.ofNat k) A := by
  have := hT.dg; have := hT.pe
  intro m
  induction m with
  | zero =>
    intro k A R hk hV h hQ
    unfold fX10_grudge_L24
    rw [if_pos (by rw [n_ltL (by simp) (by omega)]; omega)]
    exact hQ A R h
  | succ m ih =>
    intro k A R hk hV h hQ
    unfold fX10_grudge_L24
    rw [if_neg (by rw [n_ltL (by simp) (by omega)]; omega)]
    refine m_bears hT h hd ha ?_
    unfold qGr at hQ
    by_cases c : R (35 + (4 * d + a)) < R (55 + (4 * d + a))
    · rw [if_pos c] at hQ ⊢
      rw [if_neg (by decide)]
      refine m_fades hT hV hM h hd ha (fun A2 h2 => ?_)
      rw [n_addR]
      exact ih (k + 1) A2 (sFade T d a R) (by omega) (hV.fade hT hd ha) h2 hQ
    · rw [if_neg c] at hQ ⊢
      rw [if_pos rfl]
      exact hQ A R h
theorem q_grudge (h : INV B x n K A Lg G) (p q : Int32) : fX0_grudge x.tx n K A G p q (fun r A1 => fX10_grudge A1 p q (fun r' A2 => r = r' ∧ SCR x.R A A2)) := by
  unfold fX0_grudge
  refine c_isDog h.vt h.cm.dg (fun hp => ?_) (fun hp => ?_)
  · rw [if_neg (by decide)]
    have hp' := hp
    obtain ⟨d, hd, rfl⟩ := hp
    refine c_isPerson h.vt h.cm.pe (fun hq => ?_) (fun hq => ?_)
    · rw [if_neg (by decide)]
      have hq' := hq
      obtain ⟨a, ha, rfl⟩ := hq
      refine h.takes (fun A19 h19 => ⟨101, c_grudgeL h.vt h.cm hd ha 100 0 A19 x.R (by omega) h.vr h19 (fun A1 R1 h1 => ?_)⟩)
      have s1 := h1.scrT h
      have i1 := h.scr s1
      unfold fX10_grudge
      refine m_isDog h.vt i1.mm (fun _ => ?_) (fun hh => absurd hp' hh)
      rw [if_neg (by decide)]
      refine m_isPerson h.vt i1.mm (fun _ => ?_) (fun hh => absurd hq' hh)
      rw [if_neg (by decide)]
      refine i1.copies (fun A5 h5 => ⟨101, m_grudgeL h.vt i1.mm hd ha 100 0 A5 x.R (by omega) h.vr h5 (fun A2 R2 h2 => ?_)⟩)
      exact ⟨rfl, s1.trans (h2.scr i1)⟩
    · rw [if_pos rfl]
      unfold fX10_grudge
      refine m_isDog h.vt h.mm (fun _ => ?_) (fun hh => absurd hp' hh)
      rw [if_neg (by decide)]
      refine m_isPerson h.vt h.mm (fun hh => absurd hh hq) (fun _ => ?_)
      rw [if_pos rfl]
      exact ⟨rfl, h.same⟩
  · rw [if_pos rfl]
    unfold fX10_grudge
    refine m_isDog h.vt h.mm (fun hh => absurd hh hp) (fun _ => ?_)
    rw [if_pos rfl]
    exact ⟨rfl, h.same⟩
def qDues (T : Tx) (R : Rw) (m : Nat) : Int32 := iter (fun d s => s + sDues T R d) m 0
def qSum (R : Rw) (f m : Nat) : Int32 := iter (fun k s => s + R (f + k)) m 0
theorem c_sum5 {a z f : Nat} {R : Rw} {A : pA} (hz : z < 100) (hr : ∀ k, k < z → A a k = R (f + k)) {Q : Int32 → Prop} (hQ : Q (qSum R f z)) : fX0_sum a z A Q := by
  unfold fX0_sum
  refine lp_up (fun m i (y : Int32) => fX0_sum_L4 a z A Q m y i) z (by omega) (fun i y => y = qSum R f i) ?_ ?_ 0 rfl
  · intro m i y hi hy hn
    unfold fX0_sum_L4
    rw [if_neg (by rw [n_le (by omega) (by omega)]; omega)]
    simp (disch := omega) only [n_inT, n_nat, true_and, n_addR]
    refine hn _ ?_
    rw [hr i hi, hy]; rfl
  · intro m y hy
    unfold fX0_sum_L4
    rw [if_pos (Int32.le_refl _), hy]
    exact hQ
theorem qSum_pad {R : Rw} {f m : Nat} : ∀ k, (∀ j, m ≤ j → j < m + k → R (f + j) = 0) → qSum R f (m + k) = qSum R f m
  | 0, _ => rfl
  | k + 1, h => by
    show qSum R f (m + k) + R (f + (m + k)) = _
    rw [h (m + k) (by omega) (by omega), Int32.add_zero]
    exact qSum_pad k (fun j h1 h2 => h j h1 (by omega))
def qShare (T : Tx) (R : Rw) (d : Nat) : Int32 := if qDues T R T.dg = 0 then 0 else qSum R 5 T.dg * sDues T R d / qDues T R T.dg
theorem q_share (h : INV B x n K A Lg G) (p : Int32) : fX0_share x.tx n K A G p (fun r A1 => fX10_share A1 p (fun r' A2 => r = r' ∧ SCR x.R A A2)) := by
  have := h.vt.pl; have d5 := h.vt.dg; have := h.vt.pe; have := h.mm.slt
  unfold fX0_share
  refine c_isDog h.vt h.cm.dg (fun hp => ?_) (fun hp => ?_)
  · rw [if_neg (by decide)]
    have hp' := hp
    obtain ⟨d, hd, rfl⟩ := hp
    have M : ∀ (v : Int32) A1, SCR x.R A A1 → v = qShare x.T x.R d → fX10_share A1 (Int32.ofNat d) (fun r' A2 => v = r' ∧ SCR x.R A A2) := by
      intro v A1 s1 hv
      have i1 := h.scr s1
      unfold fX10_share
      refine m_isDog h.vt i1.mm (fun _ => ?_) (fun hh => absurd hp' hh)
      rw [if_neg (by decide)]
      refine i1.copies (fun A5 h5 => ?_)
      refine lp_up (fun m i (y : (Int32 × Int32) × pA) => fX10_share_L21 (fun r' A2 => v = r' ∧ SCR x.R A A2) m (Int32.ofNat d) y.1.1 y.1.2 i y.2) x.T.dg (by omega) (fun i y => y.1.1 = qDues x.T x.R i ∧ y.1.2 = qSum x.R 5 i ∧ MS A1 y.2 x.R) ?_ ?_ ((0, 0), A5) ⟨rfl, rfl, h5⟩
      · intro m i ⟨⟨y1, y2⟩, A6⟩ hi ⟨e1, e2, h6⟩ hn
        simp only at e1 e2 h6
        unfold fX10_share_L21
        simp (disch := omega) only [n_inT, n_nat, true_and, h6.fr, h6.fi, i1.mm.live, i1.mm.dg, n_le]
        rw [if_neg (by omega)]
        refine m_duesOf h.vt i1.mm h6 hi (fun A7 h7 => ?_)
        simp (disch := omega) only [n_inT, n_nat, true_and, n_addL, n_addR, h7.row]
        refine hn ((_, _), A7) ⟨?_, ?_, h7⟩
        · rw [e1]; rfl
        · rw [e2]; rfl
      · intro m ⟨⟨y1, y2⟩, A6⟩ ⟨e1, e2, h6⟩
        simp only at e1 e2 h6
        unfold fX10_share_L21
        simp (disch := omega) only [n_inT, n_nat, true_and, h6.fr, h6.fi, i1.mm.live, i1.mm.dg, Int32.le_refl, if_true]
        unfold qShare at hv
        rw [← e1, ← e2] at hv
        by_cases c : y1 = 0
        · rw [if_pos c] at hv ⊢
          exact ⟨hv, s1.trans (h6.scr i1)⟩
        · rw [if_neg c] at hv ⊢
          refine m_duesOf h.vt i1.mm h6 hd (fun A7 h7 => ⟨c, hv, s1.trans (h7.scr i1)⟩)
    refine lp_up (fun m i (y : Int32 × pA) => fX0_share_L14 x.tx n K G (fun r A1 => fX10_share A1 (Int32.ofNat d) (fun r' A2 => r = r' ∧ SCR x.R A A2)) m (Int32.ofNat d) y.1 i y.2) x.T.dg (by omega) (fun i y => y.1 = qDues x.T x.R i ∧ CS A y.2 25 x.R) ?_ ?_ (0, A) ⟨rfl, h.cs⟩
    · intro m i ⟨y, A6⟩ hi ⟨e1, h6⟩ hn
      simp only at e1 h6
      unfold fX0_share_L14
      have ed : A6 (x.tx + 2) 2 = Int32.ofNat x.T.dg := by rw [h6.txj oT25 h.cm (by omega)]; exact h.cm.dg
      refine c_dogs ed ?_
      rw [if_neg (by rw [n_le (by omega) (by omega)]; omega)]
      refine c_dues h.vt h.vr oT25 h.cm h6 hi (fun A7 h7 => ?_)
      rw [n_addR]
      refine hn (_, A7) ⟨?_, h7⟩
      rw [e1]; rfl
    · intro m ⟨y, A6⟩ ⟨e1, h6⟩
      simp only at e1 h6
      unfold fX0_share_L14
      have ed : A6 (x.tx + 2) 2 = Int32.ofNat x.T.dg := by rw [h6.txj oT25 h.cm (by omega)]; exact h.cm.dg
      refine c_dogs ed ?_
      rw [if_pos (Int32.le_refl _)]
      have es : qSum x.R 5 5 = qSum x.R 5 x.T.dg := by
        have := qSum_pad (R := x.R) (f := 5) (m := x.T.dg) (5 - x.T.dg) (fun j h1 h2 => h.vr.tak0 j (by omega) h1)
        rw [show x.T.dg + (5 - x.T.dg) = 5 by omega] at this
        exact this
      have hv : (if y = 0 then 0 else qSum x.R 5 5 * sDues x.T x.R d / y) = qShare x.T x.R d := by
        unfold qShare; rw [es, ← e1]
      by_cases c : y = 0
      · rw [if_pos c] at hv ⊢
        exact M _ A6 (h6.scrO h) hv
      · rw [if_neg c] at hv ⊢
        refine c_sum5 (f := 5) (by omega) (fun k hk => h6.tv.tak k hk) ?_
        refine c_dues h.vt h.vr oT25 h.cm h6 hd (fun A7 h7 => ⟨c, M _ A7 (h7.scrO h) hv⟩)
  · rw [if_pos rfl]
    unfold fX10_share
    refine m_isDog h.vt h.mm (fun hh => absurd hh hp) (fun _ => ?_)
    rw [if_pos rfl]
    exact ⟨rfl, h.same⟩
end I
