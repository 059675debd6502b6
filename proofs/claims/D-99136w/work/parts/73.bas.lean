set_option maxRecDepth 100000
set_option linter.all false
theorem n_cpy {α : Type} {f g : Nat → α} {N j : Nat} (hj : j < N) : va_cpy f g 0 0 N j = f j := by
  unfold va_cpy
  rw [if_pos ⟨Nat.zero_le _, by omega⟩]
  congr 1
  omega
def inR (p : Int32) (m : Nat) : Prop := ∃ k, k < m ∧ p = Int32.ofNat k
theorem inR_iff {p : Int32} {m : Nat} (hm : m < 1000000) : (0 ≤ p ∧ p ≤ Int32.ofNat m - 1) ↔ inR p m := by
  have e1 : (Int32.ofNat m).toInt = m := n_int (by omega)
  have e2 : (Int32.ofNat m - 1).toInt = (m : Int) - 1 := by
    rw [i_sub' (by omega) (by omega) (by decide) (by decide), e1]; rfl
  rw [Int32.le_iff_toInt_le, Int32.le_iff_toInt_le, e2]
  constructor
  · intro ⟨h1, h2⟩
    obtain ⟨k, hk, e⟩ := n_of_nn (i := p) h1
    rw [e, n_int hk] at h2
    exact ⟨k, by omega, e⟩
  · intro ⟨k, hk, e⟩
    rw [e, n_int (by omega)]
    exact ⟨by show (0 : Int) ≤ k; omega, by omega⟩
theorem inR_iff2 {p : Int32} {m : Nat} (hm : m < 1000000) : (0 ≤ p ∧ p ≤ Int32.ofNat m) ↔ inR p (m + 1) := by
  have e1 : (Int32.ofNat m).toInt = m := n_int (by omega)
  rw [Int32.le_iff_toInt_le, Int32.le_iff_toInt_le, e1]
  constructor
  · intro ⟨h1, h2⟩
    obtain ⟨k, hk, e⟩ := n_of_nn (i := p) h1
    rw [e, n_int hk] at h2
    exact ⟨k, by omega, e⟩
  · intro ⟨k, hk, e⟩
    rw [e, n_int (by omega)]
    exact ⟨by show (0 : Int) ≤ k; omega, by omega⟩
theorem c_isIn {A : pA} {x lo hi : Int32} {Q : Int32 → Prop} (hQ : Q (if lo ≤ x ∧ x ≤ hi then 1 else 0)) : fX0_isIn A x lo hi Q := by
  unfold fX0_isIn
  by_cases c1 : x < lo
  · rw [if_pos c1]
    rw [if_neg (fun h => Int32.not_le.mpr c1 h.1)] at hQ; exact hQ
  · rw [if_neg c1]
    by_cases c2 : hi < x
    · rw [if_pos c2]
      rw [if_neg (fun h => Int32.not_le.mpr c2 h.2)] at hQ; exact hQ
    · rw [if_neg c2]
      rw [if_pos ⟨Int32.not_lt.mp c1, Int32.not_lt.mp c2⟩] at hQ; exact hQ
theorem nar_1 : narrow .boolean (.int 1) = .int (1 : Int32) := rfl
theorem nar_0 : narrow .boolean (.int 0) = .int (0 : Int32) := rfl
section C
variable {n : Nat} {K : Nat → pKd} {A0 A : pA} {G : pG} {tx o : Nat} {T : Tx} {B : Nat} {R R' : Rw} {s : Nat}
theorem c_takes {a0 a1 : Nat} (hd : a0 + 23 ≤ a1 ∨ a1 + 23 ≤ a0) (ht : TV a1 A R) {Q : pA → Prop} (hQ : ∀ A', CS A A' a0 R → Q A') : fX5_takes a0 a1 A Q := by
  unfold fX5_takes fX5_copies
  simp only [n_nat (show 5 < 2147483648 by omega), n_nat (show 4 < 2147483648 by omega), show (0 : Int32).toNatClampNeg = 0 from rfl, Nat.zero_add, Nat.le_refl, true_and, show ¬ (Int32.ofNat 5 < 0) from by decide, show ¬ (Int32.ofNat 4 < 0) from by decide, not_false_eq_true]
  intro A10 e10 A11 e11 A12 e12 A13 e13 A14 e14 A15 e15 A16 e16
  have f16 : ∀ c, (c < a0 + 1 ∨ a0 + 8 ≤ c) → A16 c = A c := by
    intro c hc
    rw [e16, prow_ne (by omega), e15, prow_ne (by omega), e14, prow_ne (by omega), e13, prow_ne (by omega), e12, prow_ne (by omega), e11, prow_ne (by omega), e10, prow_ne (by omega)]
  have g1 : ∀ j, j < 5 → A16 (a0 + 1) j = R j := by
    intro j hj
    rw [e16, prow_ne (by omega), e15, prow_ne (by omega), e14, prow_ne (by omega), e13, prow_ne (by omega), e12, prow_ne (by omega), e11, prow_ne (by omega), e10, prow_self, n_cpy hj]
    exact ht.dog j hj
  have g2 : ∀ j, j < 5 → A16 (a0 + 2) j = R (5 + j) := by
    intro j hj
    rw [e16, prow_ne (by omega), e15, prow_ne (by omega), e14, prow_ne (by omega), e13, prow_ne (by omega), e12, prow_ne (by omega), e11, prow_self, n_cpy hj, e10, prow_ne (by omega)]
    exact ht.tak j hj
  have g3 : ∀ j, j < 5 → A16 (a0 + 3) j = R (10 + j) := by
    intro j hj
    rw [e16, prow_ne (by omega), e15, prow_ne (by omega), e14, prow_ne (by omega), e13, prow_ne (by omega), e12, prow_self, n_cpy hj, e11, prow_ne (by omega), e10, prow_ne (by omega)]
    exact ht.too j hj
  have g4 : ∀ j, j < 4 → A16 (a0 + 4) j = R (15 + j) := by
    intro j hj
    rw [e16, prow_ne (by omega), e15, prow_ne (by omega), e14, prow_ne (by omega), e13, prow_self, n_cpy hj, e12, prow_ne (by omega), e11, prow_ne (by omega), e10, prow_ne (by omega)]
    exact ht.at_ j hj
  have g5 : ∀ j, j < 4 → A16 (a0 + 5) j = R (19 + j) := by
    intro j hj
    rw [e16, prow_ne (by omega), e15, prow_ne (by omega), e14, prow_self, n_cpy hj, e13, prow_ne (by omega), e12, prow_ne (by omega), e11, prow_ne (by omega), e10, prow_ne (by omega)]
    exact ht.goal j hj
  have g6 : ∀ j, j < 4 → A16 (a0 + 6) j = R (23 + j) := by
    intro j hj
    rw [e16, prow_ne (by omega), e15, prow_self, n_cpy hj, e14, prow_ne (by omega), e13, prow_ne (by omega), e12, prow_ne (by omega), e11, prow_ne (by omega), e10, prow_ne (by omega)]
    exact ht.pok j hj
  have g7 : ∀ j, j < 4 → A16 (a0 + 7) j = R (31 + j) := by
    intro j hj
    rw [e16, prow_self, n_cpy hj, e15, prow_ne (by omega), e14, prow_ne (by omega), e13, prow_ne (by omega), e12, prow_ne (by omega), e11, prow_ne (by omega), e10, prow_ne (by omega)]
    exact ht.oft j hj
  refine lp_up (fun m i (x : pA) => fX5_takes_L79 a0 a1 Q m i x) 5 (by omega) (fun i x => (∀ c, (c < a0 + 9 ∨ a0 + 20 ≤ c) → x c = A16 c) ∧ (∀ d, d < i → ∀ a, a < 4 → x (a0 + 9 + d) a = R (35 + (4 * d + a)) ∧ x (a0 + 15 + d) a = R (55 + (4 * d + a)))) ?_ ?_ A16 ⟨fun _ _ => rfl, fun d hd => absurd hd (Nat.not_lt_zero d)⟩
  · intro m i x hi ⟨h1, h2⟩ hn
    unfold fX5_takes_L79 fX5_copies
    rw [if_neg (by rw [n_leL (by simp) (by omega)]; omega)]
    simp (disch := omega) only [n_inT, n_nat, true_and, n_addR, n_nat (show 4 < 2147483648 by omega), show (0 : Int32).toNatClampNeg = 0 from rfl, Nat.zero_add, Nat.le_refl, show ¬ (Int32.ofNat 4 < 0) from by decide, not_false_eq_true]
    intro A6 e6 A9 e9
    refine hn A9 ⟨fun c hc => ?_, fun d hd' a ha => ⟨?_, ?_⟩⟩
    · rw [e9, prow_ne (by omega), e6, prow_ne (by omega)]; exact h1 c hc
    · by_cases c : d = i
      · subst c
        rw [e9, prow_ne (by omega), e6, prow_self, n_cpy ha, h1 _ (by omega), f16 _ (by omega)]
        exact ht.fed d a (by omega) ha
      · rw [e9, prow_ne (by omega), e6, prow_ne (by omega)]; exact (h2 d (by omega) a ha).1
    · by_cases c : d = i
      · subst c
        rw [e9, prow_self, n_cpy ha, e6, prow_ne (by omega), h1 _ (by omega), f16 _ (by omega)]
        exact ht.kik d a (by omega) ha
      · rw [e9, prow_ne (by omega), e6, prow_ne (by omega)]; exact (h2 d (by omega) a ha).2
  · intro m x ⟨h1, h2⟩
    unfold fX5_takes_L79
    rw [if_pos (by decide)]
    intro A1 e1 A2 e2 A3 e3
    have x0 : x a1 = A a1 := by rw [h1 _ (by omega), f16 _ (by omega)]
    have y1 : A1 a1 = A a1 := by rw [e1, pup_ne (by omega), x0]
    have y2 : A2 a1 = A a1 := by rw [e2, pup_ne (by omega), y1]
    have f3 : ∀ c, c ≠ a0 → A3 c = x c := fun c hc => by rw [e3, pup_ne hc, e2, pup_ne hc, e1, pup_ne hc]
    refine hQ A3 ⟨fun c hc => by rw [f3 c (by omega), h1 c (by omega), f16 c (by omega)], ?_⟩
    exact ⟨(fun j hj => by rw [f3 _ (by omega), h1 _ (by omega)]; exact g1 j hj),
      (fun j hj => by rw [f3 _ (by omega), h1 _ (by omega)]; exact g2 j hj),
      (fun j hj => by rw [f3 _ (by omega), h1 _ (by omega)]; exact g3 j hj),
      (fun j hj => by rw [f3 _ (by omega), h1 _ (by omega)]; exact g4 j hj),
      (fun j hj => by rw [f3 _ (by omega), h1 _ (by omega)]; exact g5 j hj),
      (fun j hj => by rw [f3 _ (by omega), h1 _ (by omega)]; exact g6 j hj),
      (fun j hj => by rw [f3 _ (by omega), h1 _ (by omega)]; exact g7 j hj),
      (fun d a hd ha => by rw [f3 _ (by omega)]; exact (h2 d hd a ha).1),
      (fun d a hd ha => by rw [f3 _ (by omega)]; exact (h2 d hd a ha).2),
      (by rw [e3, pup_row, wup_ne (by omega), e2, pup_row, wup_ne (by omega), e1, pup_row, wup_self, x0]; exact ht.fet),
      (by rw [e3, pup_row, wup_ne (by omega), e2, pup_row, wup_self, y1]; exact ht.don),
      (by rw [e3, pup_row, wup_self, y2]; exact ht.tim)⟩
theorem CS.then (h : CS A0 A o R') {A' : pA} (h2 : CS A A' o R) : CS A0 A' o R := ⟨fun c hc => by rw [h2.fr c hc, h.fr c hc], h2.tv⟩
theorem m_copies (h : MS A0 A R') (hr : ∀ k, k < 77 → A0 1237 k = R k) {Q : pA → Prop} (hQ : ∀ A', MS A0 A' R → Q A') : fX10_copies A Q := by
  unfold fX10_copies
  refine lp_up (fun m i (x : pA) => fX10_copies_L2 Q m i x) 77 (by omega) (fun i x => MS A0 x (fun k => if k < i then R k else R' k)) ?_ ?_ A ⟨h.fr, h.fi, fun k hk => by
    show A 1238 k = (if k < 0 then R k else R' k)
    rw [if_neg (by omega)]; exact h.row k hk⟩
  · intro m i x hi hx hn
    unfold fX10_copies_L2
    rw [if_neg (by rw [n_leL (by simp) (by omega)]; omega)]
    simp (disch := omega) only [n_inT, n_nat, true_and, n_addR]
    intro A3 e3
    rw [hx.fr 1237 (by decide) (by decide) (by decide) (by decide), hr i hi] at e3
    have h3 := hx.putE e3
    refine hn A3 ⟨h3.fr, h3.fi, fun k hk => ?_⟩
    rw [h3.row k hk]
    show _ = (if k < i + 1 then R k else R' k)
    unfold wup
    by_cases c : k = i
    · rw [if_pos c, if_pos (by omega), c]
    · rw [if_neg c]
      show (if k < i then R k else R' k) = _
      by_cases c2 : k < i
      · rw [if_pos c2, if_pos (by omega)]
      · rw [if_neg c2, if_neg (by omega)]
  · intro m x hx
    unfold fX10_copies_L2
    rw [if_pos (by decide)]
    exact hQ x ⟨hx.fr, hx.fi, fun k hk => by rw [hx.row k hk, if_pos hk]⟩
/-! places, dogs, people -/
theorem c_places (hc : A (tx + 1) 2 = Int32.ofNat T.pl) {Q : Int32 → Prop} (hQ : Q (Int32.ofNat T.pl)) : fX0_places tx A Q := by
  unfold fX0_places fJ5_size; rw [hc]; exact hQ
theorem c_dogs (hc : A (tx + 2) 2 = Int32.ofNat T.dg) {Q : Int32 → Prop} (hQ : Q (Int32.ofNat T.dg)) : fX0_dogs tx A Q := by
  unfold fX0_dogs fJ5_size; rw [hc]; exact hQ
theorem c_people (hc : A (tx + 3) 2 = Int32.ofNat T.pe) {Q : Int32 → Prop} (hQ : Q (Int32.ofNat T.pe)) : fX0_people tx A Q := by
  unfold fX0_people fJ5_size; rw [hc]; exact hQ
theorem c_isPlace (hT : VT T) (hc : A (tx + 1) 2 = Int32.ofNat T.pl) {p : Int32} {Q : Int32 → Prop} (h1 : inR p T.pl → Q 1) (h0 : ¬ inR p T.pl → Q 0) : fX0_isPlace tx A p Q := by
  have := hT.pl
  unfold fX0_isPlace
  refine c_places hc (c_isIn ?_)
  by_cases c : inR p T.pl
  · rw [if_pos ((inR_iff (by omega)).mpr c)]; exact ⟨rfl, h1 c⟩
  · rw [if_neg (fun hh => c ((inR_iff (by omega)).mp hh))]; exact ⟨rfl, h0 c⟩
theorem c_isDog (hT : VT T) (hc : A (tx + 2) 2 = Int32.ofNat T.dg) {p : Int32} {Q : Int32 → Prop} (h1 : inR p T.dg → Q 1) (h0 : ¬ inR p T.dg → Q 0) : fX0_isDog tx A p Q := by
  have := hT.dg
  unfold fX0_isDog
  refine c_dogs hc (c_isIn ?_)
  by_cases c : inR p T.dg
  · rw [if_pos ((inR_iff (by omega)).mpr c)]; exact ⟨rfl, h1 c⟩
  · rw [if_neg (fun hh => c ((inR_iff (by omega)).mp hh))]; exact ⟨rfl, h0 c⟩
theorem c_isPerson (hT : VT T) (hc : A (tx + 3) 2 = Int32.ofNat T.pe) {p : Int32} {Q : Int32 → Prop} (h1 : inR p T.pe → Q 1) (h0 : ¬ inR p T.pe → Q 0) : fX0_isPerson tx A p Q := by
  have := hT.pe
  unfold fX0_isPerson
  refine c_people hc (c_isIn ?_)
  by_cases c : inR p T.pe
  · rw [if_pos ((inR_iff (by omega)).mpr c)]; exact ⟨rfl, h1 c⟩
  · rw [if_neg (fun hh => c ((inR_iff (by omega)).mp hh))]; exact ⟨rfl, h0 c⟩
theorem m_isPlace (hT : VT T) (hM : MM A T s) {p : Int32} {Q : Int32 → Prop} (h1 : inR p T.pl → Q 1) (h0 : ¬ inR p T.pl → Q 0) : fX10_isPlace A p Q := by
  have := hT.pl; have := hM.slt
  unfold fX10_isPlace
  rw [hM.live, n_nat (by omega), hM.pl]
  refine ⟨n_in (by omega) (by omega), m_in ?_⟩
  by_cases c : inR p T.pl
  · rw [if_pos ((inR_iff (by omega)).mpr c)]; exact ⟨rfl, h1 c⟩
  · rw [if_neg (fun hh => c ((inR_iff (by omega)).mp hh))]; exact ⟨rfl, h0 c⟩
theorem m_isDog (hT : VT T) (hM : MM A T s) {p : Int32} {Q : Int32 → Prop} (h1 : inR p T.dg → Q 1) (h0 : ¬ inR p T.dg → Q 0) : fX10_isDog A p Q := by
  have := hT.dg; have := hM.slt
  unfold fX10_isDog
  rw [hM.live, n_nat (by omega), hM.dg]
  refine ⟨n_in (by omega) (by omega), m_in ?_⟩
  by_cases c : inR p T.dg
  · rw [if_pos ((inR_iff (by omega)).mpr c)]; exact ⟨rfl, h1 c⟩
  · rw [if_neg (fun hh => c ((inR_iff (by omega)).mp hh))]; exact ⟨rfl, h0 c⟩
theorem m_isPerson (hT : VT T) (hM : MM A T s) {p : Int32} {Q : Int32 → Prop} (h1 : inR p T.pe → Q 1) (h0 : ¬ inR p T.pe → Q 0) : fX10_isPerson A p Q := by
  have := hT.pe; have := hM.slt
  unfold fX10_isPerson
  rw [hM.live, n_nat (by omega), hM.pe]
  refine ⟨n_in (by omega) (by omega), m_in ?_⟩
  by_cases c : inR p T.pe
  · rw [if_pos ((inR_iff (by omega)).mpr c)]; exact ⟨rfl, h1 c⟩
  · rw [if_neg (fun hh => c ((inR_iff (by omega)).mp hh))]; exact ⟨rfl, h0 c⟩
end C
