set_option maxRecDepth 100000
set_option linter.all false
/-! ===== who kicked whom ===== -/
theorem n_sshr {a k : Nat} (ha : a < 2147483648) (hk : k < 31) : Int32.ofNat a >>> Int32.ofNat k = Int32.ofNat (a / 2 ^ k) := by
  apply Int32.toInt_inj.mp
  have h2 : a / 2 ^ k ≤ a := Nat.div_le_self _ _
  have e : (Int32.ofNat a >>> Int32.ofNat k).toInt = ((BitVec.ofNat 32 a).sshiftRight (((BitVec.ofNat 32 k).smod 32#32)).toNat).toInt := rfl
  have e2 : ((BitVec.ofNat 32 k).smod 32#32).toNat = k := by
    have : ∀ q : Fin 31, ((BitVec.ofNat 32 q.1).smod 32#32).toNat = q.1 := by decide
    exact this ⟨k, hk⟩
  have e3 : (BitVec.ofNat 32 a).toInt = (a : Int) := n_int ha
  rw [e, e2, BitVec.toInt_sshiftRight, e3, n_int (by omega), Int.shiftRight_eq_div_pow]
  exact (Int.natCast_ediv a (2 ^ k)).symm
theorem nBits_bit (f : Nat → Prop) [DecidablePred f] {k m : Nat} (hk : k < m) : nBits f m / 2 ^ k % 2 = if f k then 1 else 0 := by
  obtain ⟨d, rfl⟩ : ∃ d, m = k + (1 + d) := ⟨m - k - 1, by omega⟩
  have l := nBits_lt f k
  rw [nBits_split f k (1 + d), Nat.add_mul_div_left _ _ (Nat.two_pow_pos k), Nat.div_eq_of_lt l, Nat.zero_add, nBits_split (fun j => f (k + j)) 1 d]
  show ((0 + if f (k + 0) then 2 ^ 0 else 0) + 2 ^ 1 * nBits (fun j => f (k + (1 + j))) d) % 2 = _
  rw [Nat.add_zero]
  split <;> omega
theorem qBits_bit (f : Nat → Prop) [DecidablePred f] {k m : Nat} (hk : k < m) (hm : m ≤ 30) : ((qBits f m >>> Int32.ofNat k) &&& 1 = 1) ↔ f k := by
  have l := nBits_lt f m
  have p : 2 ^ m ≤ 2 ^ 30 := Nat.pow_le_pow_right (by omega) hm
  have e1 : (1 : Int32) = Int32.ofNat 1 := rfl
  have b := nBits_bit f hk
  have d : nBits f m / 2 ^ k ≤ nBits f m := Nat.div_le_self _ _
  rw [qBits_nat f m (by omega), n_sshr (by omega) (by omega), e1, n_and, show (1 : Nat) = 2 ^ 1 - 1 from rfl, Nat.and_two_pow_sub_one_eq_mod, show (2 : Nat) ^ 1 = 2 from rfl, b]
  split
  · rename_i c; exact ⟨fun _ => c, fun _ => rfl⟩
  · rename_i c; exact ⟨fun hh => absurd hh (by decide), fun hh => absurd hh c⟩
theorem nBits_zero (f : Nat → Prop) [DecidablePred f] : ∀ m, (nBits f m = 0 ↔ nNum f m = 0)
  | 0 => ⟨fun _ => rfl, fun _ => rfl⟩
  | m + 1 => by
    have ih := nBits_zero f m
    have p := Nat.two_pow_pos m
    show nBits f m + (if f m then 2 ^ m else 0) = 0 ↔ nNum f m + (if f m then 1 else 0) = 0
    split
    · omega
    · omega
theorem nNum_mono (f g : Nat → Prop) [DecidablePred f] [DecidablePred g] (h : ∀ k, f k → g k) : ∀ m, nNum f m ≤ nNum g m
  | 0 => Nat.le_refl _
  | m + 1 => by
    have ih := nNum_mono f g h m
    show nNum f m + (if f m then 1 else 0) ≤ nNum g m + (if g m then 1 else 0)
    by_cases c : f m
    · rw [if_pos c, if_pos (h m c)]; omega
    · rw [if_neg c]; split <;> omega
theorem nNum_mono2 (f : Nat → Prop) [DecidablePred f] {a : Nat} : ∀ b, nNum f a ≤ nNum f (a + b)
  | 0 => Nat.le_refl _
  | b + 1 => by
    have := nNum_mono2 f (a := a) b
    show nNum f a ≤ nNum f (a + b) + (if f (a + b) then 1 else 0)
    omega
theorem nNum_none (f : Nat → Prop) [DecidablePred f] : ∀ m, nNum f m = 0 → ∀ k, k < m → ¬ f k
  | 0, _, k, hk => absurd hk (Nat.not_lt_zero k)
  | m + 1, h, k, hk => by
    have h : nNum f m + (if f m then 1 else 0) = 0 := h
    by_cases c : f m
    · rw [if_pos c] at h; omega
    · rw [if_neg c] at h
      by_cases c2 : k = m
      · rw [c2]; exact c
      · exact nNum_none f m (by omega) k (by omega)
theorem nNum_one (f : Nat → Prop) [DecidablePred f] : ∀ m, nNum f m = 1 → ∃ p, p < m ∧ f p ∧ ∀ q, q < m → f q → q = p
  | 0, h => absurd h (by show ¬ (0 = 1); omega)
  | m + 1, h => by
    have h : nNum f m + (if f m then 1 else 0) = 1 := h
    by_cases c : f m
    · rw [if_pos c] at h
      refine ⟨m, by omega, c, fun q hq hf => ?_⟩
      by_cases c2 : q = m
      · exact c2
      · exact absurd hf (nNum_none f m (by omega) q (by omega))
    · rw [if_neg c] at h
      obtain ⟨p, h1, h2, h3⟩ := nNum_one f m h
      refine ⟨p, by omega, h2, fun q hq hf => ?_⟩
      by_cases c2 : q = m
      · rw [c2] at hf; exact absurd hf c
      · exact h3 q (by omega) hf
def kRow (T : Tx) (R : Rw) (j : Nat) : Rw := cHour T (T.ht - T.hf) (wup (sNext T R) (55 + j) (pmin 999 (R (55 + j) + 1)))
abbrev soR (A : pA) (R : Rw) (k : Nat) : Prop := ∀ i, i < k → R (27 + ix (A 275 i)) = A 276 i
abbrev isP (T : Tx) (j : Nat) : Prop := j / 4 < T.dg ∧ j % 4 < T.pe
abbrev soP (T : Tx) (R : Rw) (A : pA) (k j : Nat) : Prop := isP T j ∧ soR A (kRow T R j) k
theorem kik_up {v : Int32} (h : 0 ≤ v.toInt ∧ v.toInt ≤ 999) : 0 ≤ (pmin 999 (v + 1)).toInt ∧ (pmin 999 (v + 1)).toInt ≤ 999 ∧ wth (v + 1) 0 999 = pmin 999 (v + 1) := by
  have e : (v + 1).toInt = v.toInt + 1 := i_add (by omega) (by omega) (by decide) (by decide)
  have e9 : (999 : Int32).toInt = 999 := rfl
  have e0 : (0 : Int32).toInt = 0 := rfl
  unfold pmin wth
  rw [if_neg (show ¬ v + 1 < 0 by rw [Int32.lt_iff_toInt_lt, e, e0]; omega)]
  by_cases c : v + 1 < 999
  · rw [if_pos c]
    rw [Int32.lt_iff_toInt_lt, e, e9] at c
    rw [if_neg (show ¬ 999 < v + 1 by rw [Int32.lt_iff_toInt_lt, e, e9]; omega)]
    exact ⟨by omega, by omega, rfl⟩
  · rw [if_neg c]
    rw [Int32.lt_iff_toInt_lt, e, e9] at c
    refine ⟨by rw [e9]; omega, by rw [e9]; omega, ?_⟩
    by_cases c2 : 999 < v + 1
    · rw [if_pos c2]
    · rw [if_neg c2]
      rw [Int32.lt_iff_toInt_lt, e, e9] at c2
      exact Int32.toInt_inj.mp (by rw [e, e9]; omega)
section I
variable {B : Nat} {x : St} {n : Nat} {K : Nat → pKd} {A A1 A' : pA} {Lg : pL} {G : pG}
theorem VR.kRow0 {T : Tx} {R : Rw} (hV : VR T B R) (hT : VT T) (hB : B ≤ 900000000) {j : Nat} (hj : isP T j) : VR T (B + 1440) (wup (sNext T R) (55 + j) (pmin 999 (R (55 + j) + 1))) := by
  have := hT.dg; have := hT.pe
  obtain ⟨h1, h2, h3⟩ := kik_up (hV.kik j (by omega))
  exact (hV.next hT hB).kikU hT (by omega) ⟨h1, h2⟩
theorem VR.kRowV {T : Tx} {R : Rw} (hV : VR T B R) (hT : VT T) (hB : B ≤ 900000000) {j : Nat} (hj : isP T j) : VR T (B + 1440 + (T.ht - T.hf)) (kRow T R j) := by
  have := hT.ht
  exact (hV.kRow0 hT hB hj).chour hT _ (by omega)
theorem c_isSo (h : INV B x n K A Lg G) {R : Rw} {B' : Nat} (hV : VR x.T B' R) {k : Nat} (hk : k ≤ x.to) {Q : Int32 → Prop} (h1 : soR A R k → Q 1) (h0 : ¬ soR A R k → Q 0) : fX0_isSo x.tx A (Int32.ofNat k) (bits4 R) Q := by
  have := h.to20; have := h.vt.pe
  unfold fX0_isSo
  refine lp_up (fun m i (y : Unit) => fX0_isSo_L2 x.tx A Q m (Int32.ofNat k) (bits4 R) i) k (by omega) (fun i y => soR A R i) ?_ ?_ () (fun i hi => absurd hi (Nat.not_lt_zero i))
  · intro m i y hi hy hn
    obtain ⟨a, ha, e1, e2, e3, e4⟩ := h.tel i (by omega)
    unfold fX0_isSo_L2 fX0_isSo_J26
    rw [if_neg (by rw [n_le (by omega) (by omega)]; omega)]
    simp (disch := omega) only [n_inT, n_nat, true_and, n_addR]
    rw [e1, n_m31 (by omega), bits4_get hV.fet (by omega)]
    have ex : ix (A 275 i) = a := by rw [e1]; exact n_nat (by omega)
    have fin : ∀ v : Int32, R (27 + a) = v → (if v = A 276 i then fX0_isSo_L2 x.tx A Q m (Int32.ofNat k) (bits4 R) (Int32.ofNat (i + 1)) else Q 0) := by
      intro v hv
      by_cases c : v = A 276 i
      · rw [if_pos c]
        refine hn () (fun j hj => ?_)
        by_cases c2 : j = i
        · rw [c2, ex, hv, c]
        · exact hy j (by omega)
      · rw [if_neg c]
        refine h0 (fun hh => c ?_)
        have := hh i hi
        rw [ex, hv] at this
        exact this
    rcases hV.fet a (by omega) with e | e
    · have e' : ¬ R (27 + a) = 1 := by rw [e]; decide
      rw [if_neg e']; exact fin 0 e
    · rw [if_pos e]; exact fin 1 e
  · intro m y hy
    unfold fX0_isSo_L2
    rw [if_pos (Int32.le_refl _)]
    exact h1 hy
theorem soR_scr (hs : SCR x.R A A') {R : Rw} {k : Nat} : soR A' R k ↔ soR A R k := by
  have e1 := hs.fr 275 (by omega) (by omega) (by omega) (by omega) (by omega) (by omega) (by omega) (by omega) (by omega)
  have e2 := hs.fr 276 (by omega) (by omega) (by omega) (by omega) (by omega) (by omega) (by omega) (by omega) (by omega)
  unfold soR
  rw [e1, e2]
theorem SCR.p277 (hs : SCR x.R A A1) {j : Nat} {v : Int32} (e : A' = pup A1 277 j v) : SCR x.R A A' := by
  refine ⟨fun c a1 a2 a3 a4 a5 a6 a7 a8 a9 => by rw [e, pup_ne a3]; exact hs.fr c a1 a2 a3 a4 a5 a6 a7 a8 a9, fun j hj => by rw [e, pup_ne (by omega)]; exact hs.fi j hj, hs.tv.same (fun j hj => by rw [e, pup_ne (by omega)])⟩
theorem SCR.p1243 (hs : SCR x.R A A1) {j : Nat} {v : Int32} (e : A' = pup A1 1243 j v) : SCR x.R A A' := by
  refine ⟨fun c a1 a2 a3 a4 a5 a6 a7 a8 a9 => by rw [e, pup_ne a9]; exact hs.fr c a1 a2 a3 a4 a5 a6 a7 a8 a9, fun j hj => by rw [e, pup_ne (by omega)]; exact hs.fi j hj, hs.tv.same (fun j hj => by rw [e, pup_ne (by omega)])⟩
theorem qBits_pad (f : Nat → Prop) [DecidablePred f] {m : Nat} : ∀ k, (∀ j, m ≤ j → j < m + k → ¬ f j) → qBits f (m + k) = qBits f m
  | 0, _ => rfl
  | k + 1, h => by
    show (if f (m + k) then _ else qBits f (m + k)) = _
    rw [if_neg (h (m + k) (by omega) (by omega))]
    exact qBits_pad f k (fun j h1 h2 => h j h1 (by omega))
theorem c_kicksBy (h : INV B x n K A Lg G) (hB : B ≤ 900000000) {k : Nat} (hk : k ≤ x.to) {Q : Int32 → pA → Prop} (hQ : ∀ A', SCR x.R A A' → (∀ j, j < 20 → isP x.T j → A' 277 j = bits4 (kRow x.T x.R j)) → Q (qBits (soP x.T x.R A k) 20) A') : fX0_kicksBy x.tx n K A G (Int32.ofNat k) Q := by
  have := h.vt.dg; have := h.vt.pe; have := h.vt.hf; have := h.vt.ht; have := h.to20
  unfold fX0_kicksBy
  refine lp_up (fun m i (y : Int32 × pA) => fX0_kicksBy_L4 x.tx n K G Q m (Int32.ofNat k) y.1 i y.2) x.T.dg (by omega) (fun i y => y.1 = qBits (soP x.T x.R A k) (4 * i) ∧ SCR x.R A y.2 ∧ (∀ j, j < 4 * i → isP x.T j → y.2 277 j = bits4 (kRow x.T x.R j))) ?_ ?_ (0, A) ⟨rfl, h.same, fun j hj => absurd hj (by omega)⟩
  · intro m d ⟨y, A2⟩ hd ⟨hy, s2, f2⟩ hn
    simp only at hy s2 f2
    have i2 := h.scr s2
    unfold fX0_kicksBy_L4
    refine c_dogs i2.cm.dg ?_
    rw [if_neg (by rw [n_le (by omega) (by omega)]; omega)]
    refine lp_up (fun m' p (z : Int32 × pA) => fX0_kicksBy_L15 x.tx n K G (fun x0 x1 x2 x3 => fX0_kicksBy_L4 x.tx n K G Q m x0 x1 x2 x3) Q m' (Int32.ofNat k) z.1 (Int32.ofNat d) p z.2) x.T.pe (by omega) (fun p z => z.1 = qBits (soP x.T x.R A k) (4 * d + p) ∧ SCR x.R A z.2 ∧ (∀ j, j < 4 * d + p → isP x.T j → z.2 277 j = bits4 (kRow x.T x.R j))) ?_ ?_ (y, A2) ⟨hy, s2, f2⟩
    · intro m' p ⟨z, A3⟩ hp ⟨hz, s3, f3⟩ hn'
      simp only at hz s3 f3
      have i3 := h.scr s3
      have hj : isP x.T (4 * d + p) := ⟨by omega, by omega⟩
      unfold fX0_kicksBy_L15 fX0_kicksBy_J103
      refine c_people i3.cm.pe ?_
      rw [if_neg (by rw [n_le (by omega) (by omega)]; omega)]
      refine c_nextHour i3 hB (fun A4 h4 => ?_)
      have em : Int32.ofNat d * 4 + Int32.ofNat p = Int32.ofNat (4 * d + p) := by
        rw [show (4 : Int32) = Int32.ofNat 4 from rfl, n_mul, n_add, Nat.mul_comm]
      simp (disch := omega) only [n_inT, n_nat, true_and, n_addR, em, n_m31]
      intro A7 e7
      have ek : sNext x.T x.R (55 + (4 * d + p)) = x.R (55 + (4 * d + p)) := sNext_at h.vt (by omega) (by omega) (by omega)
      rw [h4.tv.kik d p (by omega) (by omega), ek] at e7
      have h7 := h4.stepD e7 (by omega) (h4.tv.kikU (by omega) (by omega))
      refine c_fetchedIn h.vt h.vf (h.vr.kRow0 h.vt hB hj) (by omega) i3.cm h7 (fun A9 h9 => ?_)
      have s9 := s3.trans (h9.scrT i3)
      intro A11 e11
      have s11 := s9.p277 e11
      have i11 := h.scr s11
      have g9 : ∀ j, A9 277 j = A3 277 j := fun j => by rw [h9.fr 277 (by omega)]
      have f11 : ∀ j, j < 4 * d + (p + 1) → isP x.T j → A11 277 j = bits4 (kRow x.T x.R j) := by
        intro j hj1 hj2
        rw [e11, pup_row]
        unfold wup
        by_cases c : j = 4 * d + p
        · rw [if_pos c, c]; rfl
        · rw [if_neg c, g9]; exact f3 j (by omega) hj2
      rw [f11 (4 * d + p) (by omega) hj]
      have es := soR_scr s11 (R := kRow x.T x.R (4 * d + p)) (k := k)
      refine c_isSo i11 (h.vr.kRowV h.vt hB hj) hk (fun hh => ?_) (fun hh => ?_)
      · rw [if_neg (by decide)]
        refine hn' (_, A11) ⟨?_, s11, f11⟩
        show _ = ite _ _ _
        rw [if_pos ⟨hj, es.mp hh⟩, hz]; rfl
      · rw [if_pos rfl]
        refine hn' (_, A11) ⟨?_, s11, f11⟩
        show _ = ite _ _ _
        rw [if_neg (fun hc => hh (es.mpr hc.2)), hz, i_or0]; rfl
    · intro m' ⟨z, A3⟩ ⟨hz, s3, f3⟩
      simp only at hz s3 f3
      have i3 := h.scr s3
      unfold fX0_kicksBy_L15
      refine c_people i3.cm.pe ?_
      rw [if_pos (Int32.le_refl _), n_addR]
      refine hn (z, A3) ⟨?_, s3, fun j hj1 hj2 => f3 j (by have := hj2.2; omega) hj2⟩
      have := qBits_pad (soP x.T x.R A k) (m := 4 * d + x.T.pe) (4 - x.T.pe) (fun j h1 h2 hc => by have := hc.1.2; omega)
      rw [show 4 * d + x.T.pe + (4 - x.T.pe) = 4 * (d + 1) by omega] at this
      rw [this]; exact hz
  · intro m ⟨y, A2⟩ ⟨hy, s2, f2⟩
    simp only at hy s2 f2
    have i2 := h.scr s2
    unfold fX0_kicksBy_L4
    refine c_dogs i2.cm.dg ?_
    rw [if_pos (Int32.le_refl _)]
    have := qBits_pad (soP x.T x.R A k) (m := 4 * x.T.dg) (20 - 4 * x.T.dg) (fun j h1 h2 hc => by have := hc.1.1; omega)
    rw [show 4 * x.T.dg + (20 - 4 * x.T.dg) = 20 by omega] at this
    rw [hy, ← this]
    exact hQ A2 s2 (fun j h1 h2 => f2 j (by have := h2.1; omega) h2)
theorem m_isPair {A0 : pA} {T : Tx} {s : Nat} (hT : VT T) (hM : MM A0 T s) {j : Nat} (hj : j < 20) {Q : Int32 → Prop} (h1 : isP T j → Q 1) (h0 : ¬ isP T j → Q 0) : fX10_isPair A0 (Int32.ofNat j) Q := by
  have := hT.dg; have := hT.pe
  have e4 : (4 : Int32) = Int32.ofNat 4 := rfl
  have e1 : Int32.ofNat j / 4 = Int32.ofNat (j / 4) := by rw [e4, n_div (by omega) (by omega)]
  have e2 : Int32.ofNat j - Int32.ofNat j / 4 * 4 = Int32.ofNat (j % 4) := by
    rw [e1, e4, n_mul, n_sub (by omega)]
    congr 1; omega
  have ir : ∀ (v m : Nat), v < 100 → m < 100 → (inR (Int32.ofNat v) m ↔ v < m) := by
    intro v m hv hm
    constructor
    · intro ⟨k, hk, e⟩
      rw [n_eq (by omega) (by omega)] at e
      omega
    · intro hh; exact ⟨v, hh, rfl⟩
  unfold fX10_isPair
  rw [e2, e1]
  refine m_isDog hT hM (fun hh => ?_) (fun hh => ?_)
  · rw [if_neg (by decide)]
    have c1 := (ir (j / 4) T.dg (by omega) (by omega)).mp hh
    refine m_isPerson hT hM (fun hh2 => ?_) (fun hh2 => ?_)
    · rw [if_neg (by decide)]
      exact h1 ⟨c1, (ir (j % 4) T.pe (by omega) (by omega)).mp hh2⟩
    · rw [if_pos rfl]
      exact h0 (fun hc => hh2 ((ir (j % 4) T.pe (by omega) (by omega)).mpr hc.2))
  · rw [if_pos rfl]
    exact h0 (fun hc => hh ((ir (j / 4) T.dg (by omega) (by omega)).mpr hc.1))
theorem m_isSo (h : INV B x n K A Lg G) (hB : B ≤ 900000000) {k j : Nat} (hk : k ≤ x.to) (hj : isP x.T j) {Q : Int32 → pA → Prop} (h1 : soP x.T x.R A k j → ∀ A' R', MS A A' R' → (∀ i, i < 35 → R' i = kRow x.T x.R j i) → Q 1 A') (h0 : ¬ soP x.T x.R A k j → ∀ A' R', MS A A' R' → Q 0 A') : fX10_isSo A (Int32.ofNat j) (Int32.ofNat k) Q := by
  have := h.vt.dg; have := h.vt.pe; have := h.to20
  have j1 := hj.1; have j2 := hj.2
  obtain ⟨b1, b2, b3⟩ := kik_up (h.vr.kik j (by omega))
  unfold fX10_isSo
  refine h.copies (fun A4 h4 => ?_)
  simp (disch := omega) only [n_inT, n_nat, true_and, n_addL, h4.row]
  refine m_within ?_
  intro A8 e8
  have h8 := h4.putE e8
  rw [b3] at h8
  have V8 : VR x.T B (wup x.R (55 + j) (pmin 999 (x.R (55 + j) + 1))) := h.vr.kikU h.vt (by omega) ⟨b1, b2⟩
  refine m_nextHour h.vt V8 hB h.mm h8 (fun A9 h9 => ?_)
  rw [sNext_upd h.vt (by omega) (by omega) (by omega)] at h9
  have eb := hour_both (R1 := wup (sNext x.T x.R) (55 + j) (pmin 999 (x.R (55 + j) + 1))) h.vt h.vr hB (by rw [wup_ne (by omega)]) (fun b hb => by rw [wup_ne (by omega)]; exact sNext_goal b hb)
  have V9 := h.vr.kRowV h.vt hB hj
  generalize sGoes x.T (x.T.ht - x.T.hf) (wup (sNext x.T x.R) (55 + j) (pmin 999 (x.R (55 + j) + 1))) = R9 at *
  have eb : ∀ i, i < 35 → R9 i = kRow x.T x.R j i := eb
  refine lp_up (fun m i (y : Unit) => fX10_isSo_L37 Q m (Int32.ofNat k) i A9) k (by omega) (fun i y => soR A (kRow x.T x.R j) i) ?_ ?_ () (fun i hi => absurd hi (Nat.not_lt_zero i))
  · intro m i y hi hy hn
    obtain ⟨a, ha, e1, e2, e3, e4⟩ := h.tel i (by omega)
    unfold fX10_isSo_L37 fX10_isSo_J65
    rw [if_neg (by rw [n_le (by omega) (by omega)]; omega)]
    simp (disch := omega) only [n_inT, n_nat, true_and, n_addR, h9.fr, e2, e3, n_addL, h9.row]
    have ex : ix (A 275 i) = a := by rw [e1]; exact n_nat (by omega)
    rw [eb (27 + a) (by omega)]
    have fin : ∀ v : Int32, kRow x.T x.R j (27 + a) = v → (if v = A 276 i then fX10_isSo_L37 Q m (Int32.ofNat k) (Int32.ofNat (i + 1)) A9 else Q 0 A9) := by
      intro v hv
      by_cases c : v = A 276 i
      · rw [if_pos c]
        refine hn () (fun j' hj' => ?_)
        by_cases c2 : j' = i
        · rw [c2, ex, hv, c]
        · exact hy j' (by omega)
      · rw [if_neg c]
        refine h0 (fun hh => c ?_) A9 R9 h9
        have := hh.2 i hi
        rw [ex, hv] at this
        exact this
    rcases V9.fet a (by omega) with e | e
    · have e' : ¬ kRow x.T x.R j (27 + a) = 1 := by rw [e]; decide
      rw [if_neg e']; exact fin 0 e
    · rw [if_pos e]; exact fin 1 e
  · intro m y hy
    unfold fX10_isSo_L37
    rw [if_pos (Int32.le_refl _)]
    exact h1 ⟨hj, hy⟩ A9 R9 h9 eb
theorem soP_scr (hs : SCR x.R A A') {k j : Nat} : soP x.T x.R A' k j ↔ soP x.T x.R A k j := by
  have := soR_scr hs (R := kRow x.T x.R j) (k := k)
  exact ⟨fun hh => ⟨hh.1, this.mp hh.2⟩, fun hh => ⟨hh.1, this.mpr hh.2⟩⟩
theorem q_kicks (h : INV B x n K A Lg G) (hB : B ≤ 900000000) (p : Int32) : fX0_kicks x.tx n K A G p (fun r A1 => fX10_kicks A1 p (fun r' A2 => r = r' ∧ SCR x.R A A2)) := by
  have := h.to20
  unfold fX0_kicks
  refine c_inN x.to (by omega) h.cto (fun hp => ?_) (fun hp => ?_)
  · rw [if_neg (by decide)]
    have hp' := hp
    obtain ⟨k, hk, rfl⟩ := hp
    refine c_kicksBy h hB (by omega) (fun A1 s1 f1 => ?_)
    have i1 := h.scr s1
    refine c_bitCountQ (soP x.T x.R A k) ?_
    unfold fX10_kicks
    refine m_inN x.to (by omega) i1.mto (fun _ => ?_) (fun hh => absurd hp' hh)
    rw [if_neg (by decide)]
    refine lp_up (fun m i (y : Int32 × pA) => fX10_kicks_L18 (fun r' A2 => qNum (soP x.T x.R A k) 20 = r' ∧ SCR x.R A A2) m (Int32.ofNat k) y.1 i y.2) 20 (by omega) (fun i y => y.1 = qNum (soP x.T x.R A k) i ∧ SCR x.R A y.2) ?_ ?_ (0, A1) ⟨rfl, s1⟩
    · intro m i ⟨y, A2⟩ hi ⟨hy, s2⟩ hn
      simp only at hy s2
      have i2 := h.scr s2
      have es := soP_scr s2 (k := k) (j := i)
      unfold fX10_kicks_L18 fX10_kicks_J44
      rw [if_neg (by rw [n_leL (by simp) (by omega)]; omega)]
      refine m_isPair h.vt i2.mm hi (fun hj => ?_) (fun hj => ?_)
      · rw [if_neg (by decide), n_addR]
        refine m_isSo i2 hB (by omega) hj (fun hs A3 R3 h3 _ => ?_) (fun hs A3 R3 h3 => ?_)
        · rw [if_neg (by decide)]
          refine hn (_, A3) ⟨?_, s2.trans (h3.scr i2)⟩
          show _ = ite _ _ _
          rw [if_pos (es.mp hs), hy]; rfl
        · rw [if_pos rfl]
          refine hn (_, A3) ⟨?_, s2.trans (h3.scr i2)⟩
          show _ = ite _ _ _
          rw [if_neg (fun hc => hs (es.mpr hc)), hy]; rfl
      · rw [if_pos rfl, n_addR]
        refine hn (_, A2) ⟨?_, s2⟩
        show _ = ite _ _ _
        rw [if_neg (fun hc => hj hc.1), hy]; rfl
    · intro m ⟨y, A2⟩ ⟨hy, s2⟩
      simp only at hy s2
      unfold fX10_kicks_L18
      rw [if_pos (by decide)]
      exact ⟨hy.symm, s2⟩
  · rw [if_pos rfl]
    unfold fX10_kicks
    refine m_inN x.to (by omega) h.mto (fun hh => absurd hh hp) (fun _ => ?_)
    rw [if_pos rfl]
    exact ⟨rfl, h.same⟩
end I
