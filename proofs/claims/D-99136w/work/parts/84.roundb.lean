set_option maxRecDepth 100000
set_option linter.all false
theorem k_bt : ∀ s : Fin 128, ∀ q : Fin 7, ((Int32.ofNat (2 ^ q.1) &&& (Int32.ofNat s.1 ^^^ (-1))) = 0 ↔ has s.1 q.1) := by decide +kernel
theorem i_and0 {x : Int32} : (0 : Int32) &&& x = 0 := by
  apply Int32.toBitVec_inj.mp
  show 0#32 &&& x.toBitVec = 0#32
  exact BitVec.zero_and
theorem i_and3 {x y z : Int32} : (x &&& y) &&& z = (x &&& z) &&& y := by
  apply Int32.toBitVec_inj.mp
  show (x.toBitVec &&& y.toBitVec) &&& z.toBitVec = (x.toBitVec &&& z.toBitVec) &&& y.toBitVec
  rw [BitVec.and_assoc, BitVec.and_comm y.toBitVec, BitVec.and_assoc]
theorem n_bt {S s q : Nat} (hS : S < 128) (hs : s < 128) (hq : q < 7) : (((Int32.ofNat S &&& (Int32.ofNat s ^^^ (-1))) &&& ((1 : Int32) <<< Int32.ofNat q)) = 0) ↔ ¬ (has S q ∧ ¬ has s q) := by
  rw [i_and3, n_shl1 (by omega), n_and, k_and ⟨S, hS⟩ ⟨q, hq⟩]
  by_cases c : has S q
  · rw [if_pos c]
    have := k_bt ⟨s, hs⟩ ⟨q, hq⟩
    simp only at this
    rw [this]
    exact ⟨fun h hh => hh.2 h, fun h => Classical.not_not.mp (fun hh => h ⟨c, hh⟩)⟩
  · rw [if_neg c]
    exact ⟨fun _ hh => c hh.1, fun _ => i_and0⟩
theorem n_hasI {S q : Nat} (hS : S < 2147483648) (hq : q < 31) : ((Int32.ofNat S >>> Int32.ofNat q) &&& 1 = 1) ↔ has S q := by
  have e1 : (1 : Int32) = Int32.ofNat 1 := rfl
  have d : S / 2 ^ q ≤ S := Nat.div_le_self _ _
  rw [n_sshr hS hq, e1, n_and, show (1 : Nat) = 2 ^ 1 - 1 from rfl, Nat.and_two_pow_sub_one_eq_mod, n_eq (by omega) (by omega)]
theorem fCap_I {T : Tx} {p q : Nat} : farC (T.far p q) = Int32.ofNat (fCap T.far p q) := by
  unfold farC fCap
  split <;> rfl
theorem n_min {a b : Nat} (ha : a < 2147483648) (hb : b < 2147483648) : pmin (Int32.ofNat a) (Int32.ofNat b) = Int32.ofNat (min a b) := by
  unfold pmin
  by_cases c : b < a
  · rw [if_pos (by rw [n_lt (by omega) (by omega)]; exact c), Nat.min_eq_right (by omega)]
  · rw [if_neg (by rw [n_lt (by omega) (by omega)]; exact c), Nat.min_eq_left (by omega)]
abbrev erP (T : Tx) (R : Rw) (a q : Nat) : Prop := 0 < nNum (fun e => T.who e = a ∧ T.whr e = q ∧ isOpen R e) T.er
section I
variable {B : Nat} {x : St} {n : Nat} {K : Nat → pKd} {A A1 A' : pA} {Lg : pL} {G : pG}
theorem c_errLeft (h : INV B x n K A Lg G) {a : Nat} (ha : a < 4) {Q : Int32 → Prop} (hQ : ∀ m, m < 128 → (∀ q, q < 7 → (has m q ↔ erP x.T x.R a q)) → Q (Int32.ofNat m)) : fX0_errandsLeft x.tx A (Int32.ofNat a) Q := by
  have := h.vt.er; have := h.vt.pe; have := h.vt.pl
  unfold fX0_errandsLeft
  refine lp_up (fun f i (y : Nat) => fX0_errandsLeft_L4 x.tx A Q f (Int32.ofNat a) (Int32.ofNat y) i) x.T.er (by omega) (fun i y => y < 128 ∧ ∀ q, q < 7 → (has y q ↔ 0 < nNum (fun e => x.T.who e = a ∧ x.T.whr e = q ∧ isOpen x.R e) i)) ?_ ?_ 0 ⟨by omega, fun q hq => ⟨fun hh => absurd hh (k_zero ⟨q, hq⟩), fun hh => absurd hh (by show ¬ 0 < 0; omega)⟩⟩
  · intro f i y hi ⟨hy, hb⟩ hn
    have b1 := h.vt.who i hi
    have b2 := h.vt.whr i hi
    unfold fX0_errandsLeft_L4 fX0_errandsLeft_J51 fX0_errandsLeft_J52 fX0_isDone
    simp (disch := omega) only [n_nat, n_addR, n_m31, n_inT, true_and]
    rw [h.cm.er, h.cm.who i hi, h.cm.whr i hi, h.tv.don, if_neg (by rw [n_le (by omega) (by omega)]; omega)]
    have stay : ¬ (x.T.who i = a ∧ isOpen x.R i) → fX0_errandsLeft_L4 x.tx A Q f (Int32.ofNat a) (Int32.ofNat y ||| 0) (Int32.ofNat (i + 1)) := by
      intro hc
      rw [i_or0]
      refine hn y ⟨hy, fun q hq => ?_⟩
      show has y q ↔ 0 < nNum _ i + ite _ _ _
      rw [if_neg (fun hh => hc ⟨hh.1, hh.2.2⟩)]
      exact hb q hq
    by_cases c1 : x.T.who i = a
    · rw [if_pos (by rw [c1])]
      by_cases c2 : isOpen x.R i
      · have c3 : ¬ (x.R 75 >>> Int32.ofNat i) &&& 1 = 1 := by
          have := n_bit (x := x.R 75) (y := Int32.ofNat i)
          unfold isOpen at c2
          rw [this] at c2; exact c2
        rw [if_neg c3, if_pos trivial, n_m31 (by omega), n_shl1 (by omega), n_or]
        have ko := fun r : Fin 7 => k_or ⟨y, hy⟩ ⟨x.T.whr i, by omega⟩ r
        refine hn _ ⟨(ko ⟨0, by omega⟩).1, fun q hq => ?_⟩
        have e := (ko ⟨q, hq⟩).2
        have e : has (y ||| 2 ^ x.T.whr i) q ↔ (has y q ∨ q = x.T.whr i) := e
        rw [e]
        show _ ↔ 0 < nNum _ i + ite _ _ _
        by_cases c4 : x.T.whr i = q
        · rw [if_pos ⟨c1, c4, c2⟩]
          exact ⟨fun _ => by omega, fun _ => Or.inr c4.symm⟩
        · rw [if_neg (fun hh => c4 hh.2.1)]
          exact ⟨fun hh => hh.elim (fun hh => (hb q hq).mp hh) (fun hh => absurd hh.symm c4), fun hh => Or.inl ((hb q hq).mpr hh)⟩
      · have c3 : (x.R 75 >>> Int32.ofNat i) &&& 1 = 1 := by
          have := n_bit (x := x.R 75) (y := Int32.ofNat i)
          unfold isOpen at c2
          rw [this] at c2; exact Classical.not_not.mp c2
        rw [if_pos c3, if_neg (by decide)]
        exact stay (fun hh => c2 hh.2)
    · rw [if_neg (by rw [n_eq (by omega) (by omega)]; exact c1)]
      exact stay (fun hh => c1 hh.1)
  · intro f y ⟨hy, hb⟩
    unfold fX0_errandsLeft_L4
    rw [h.cm.er, if_pos (Int32.le_refl _)]
    exact hQ y hy hb
/-- the component's table in its cells -/
def tabC (A : pA) (t : Nat → Nat → Nat) : Prop := ∀ s p, s < 128 → p < 7 → A (147 + s) p = Int32.ofNat (t s p)
theorem tabC.set {A : pA} {t : Nat → Nat → Nat} (h : tabC A t) {s p v : Nat} (hs : s < 128) (hp : p < 7) (e : A' = pup A (147 + s) p (Int32.ofNat v)) : tabC A' (tset t s p v) := by
  intro a b ha hb
  unfold tset
  by_cases c : a = s ∧ b = p
  · rw [if_pos c, c.1, c.2, e, pup_row, wup_self]
  · rw [if_neg c]
    by_cases c1 : a = s
    · subst c1
      rw [e, pup_row, wup_ne (fun hh => c ⟨rfl, hh⟩)]; exact h a b ha hb
    · rw [e, pup_ne (by omega)]; exact h a b ha hb
theorem c_roundOf (h : INV B x n K A Lg G) {u S hm : Nat} (hu : u < x.T.pl) (hh : hm < x.T.pl) (hS : S < 128) (hSp : ∀ q, q < 7 → has S q → q < x.T.pl) {Q : Int32 → pA → Prop} (hQ : ∀ A' t, SCR x.R A A' → isTb 1000000 (stC u S) (fCap x.T.far) S t (fun _ _ _ => True) → Q (Int32.ofNat (minC t x.T.far S hm x.T.pl)) A') : fX0_roundOf x.tx A (Int32.ofNat u) (Int32.ofNat S) (Int32.ofNat hm) Q := by
  have p7 := h.vt.pl
  have frS : ∀ A2 : pA, (∀ c, c < 147 ∨ 275 ≤ c → A2 c = A c) → SCR x.R A A2 := fun A2 f => ⟨fun c a1 a2 a3 a4 a5 a6 a7 a8 a9 => f c (by omega), fun j hj => by rw [f 1198 (by omega)], h.tv.same (fun j hj => f _ (by omega))⟩
  have f1e : ∀ p q, fCap x.T.far p q ≤ 1000000 := by
    intro p q; unfold fCap; split <;> omega
  unfold fX0_roundOf
  refine lp_up (fun f i (y : pA) => fX0_roundOf_L8 x.tx Q f (Int32.ofNat u) (Int32.ofNat S) (Int32.ofNat hm) 1000000 i y) 128 (by omega) (fun i y => (∀ c, c < 147 ∨ 275 ≤ c → y c = A c) ∧ ∀ s p, s < i → p < 7 → y (147 + s) p = 1000000) ?_ ?_ A ⟨fun _ _ => rfl, fun s p hs => absurd hs (Nat.not_lt_zero s)⟩
  · intro f i y hi ⟨fy, zy⟩ hn
    unfold fX0_roundOf_L8
    rw [if_neg (by rw [n_leL (by simp) (by omega)]; omega)]
    refine lp_up (fun f' j (z : pA) => fX0_roundOf_L19 x.tx (fun x0 x1 x2 x3 x4 x5 => fX0_roundOf_L8 x.tx Q f x0 x1 x2 x3 x4 x5) Q f' (Int32.ofNat u) (Int32.ofNat S) (Int32.ofNat hm) 1000000 (Int32.ofNat i) j z) 7 (by omega) (fun j z => (∀ c, c < 147 ∨ 275 ≤ c → z c = A c) ∧ (∀ s p, s < i → p < 7 → z (147 + s) p = 1000000) ∧ ∀ p, p < j → z (147 + i) p = 1000000) ?_ ?_ y ⟨fy, zy, fun p hp => absurd hp (Nat.not_lt_zero p)⟩
    · intro f' j z hj ⟨g1, g2, g3⟩ hn'
      unfold fX0_roundOf_L19
      rw [if_neg (by rw [n_leL (by simp) (by omega)]; omega)]
      simp (disch := omega) only [n_inT, n_nat, true_and, n_addR]
      intro A3 e3
      refine hn' A3 ⟨fun c hc => by rw [e3, pup_ne (by omega)]; exact g1 c hc, fun s p hs hp => by rw [e3, pup_ne (by omega)]; exact g2 s p hs hp, fun p hp => ?_⟩
      rw [e3, pup_row]
      unfold wup
      by_cases c : p = j
      · rw [if_pos c]
      · rw [if_neg c]; exact g3 p (by omega)
    · intro f' z ⟨g1, g2, g3⟩
      unfold fX0_roundOf_L19
      rw [if_pos (by decide), n_addR]
      refine hn z ⟨g1, fun s p hs hp => ?_⟩
      by_cases c : s = i
      · rw [c]; exact g3 p hp
      · exact g2 s p (by omega) hp
  · intro f y ⟨fy, zy⟩
    unfold fX0_roundOf_L8
    rw [if_pos (by decide), n_m31 (by omega), n_shl1 (by omega), n_and, k_and ⟨S, hS⟩ ⟨u, by omega⟩]
    have hs0 : (if has S u then 2 ^ u else 0) < 128 := by
      split
      · exact (k_one ⟨u, by omega⟩ ⟨0, by omega⟩).1
      · omega
    generalize es : (if has S u then 2 ^ u else 0) = s0 at *
    simp (disch := omega) only [n_inT, n_nat, true_and]
    intro A25 e25
    -- the first table
    have T0 : tabC A25 (tset (fun _ _ => 1000000) s0 u 0) := by
      have : tabC y (fun _ _ => 1000000) := fun s p hs hp => zy s p hs hp
      exact this.set hs0 (by omega) e25
    have f25 : ∀ c, c < 147 ∨ 275 ≤ c → A25 c = A c := fun c hc => by rw [e25, pup_ne (by omega)]; exact fy c hc
    have I0 : isTb 1000000 (stC u S) (fCap x.T.far) S (tset (fun _ _ => 1000000) s0 u 0) (fun a b c => a < 0) := by
      refine ⟨fun s p => by (unfold tset; by_cases c : s = s0 ∧ p = u; (rw [if_pos c]; omega); (rw [if_neg c]; exact Nat.le_refl _)), fun s p hs hp hlt => ?_, fun s p c ⟨h1, h2, h3⟩ => ?_, fun s p q _ _ _ hd => absurd hd (Nat.not_lt_zero s)⟩
      · unfold tset at hlt ⊢
        by_cases c : s = s0 ∧ p = u
        · rw [if_pos c]
          exact ⟨0, by rw [es]; exact c.1, c.2, rfl⟩
        · rw [if_neg c] at hlt; exact absurd hlt (Nat.lt_irrefl _)
      · unfold tset
        rw [es] at h1
        rw [if_pos ⟨h1, h2⟩]; exact Nat.zero_le _
    refine lp_up (fun f s (y : Nat × pA) => fX0_roundOf_L67 x.tx Q f (Int32.ofNat S) (Int32.ofNat hm) (Int32.ofNat y.1) s y.2) 128 (by omega) (fun s y => (∀ c, c < 147 ∨ 275 ≤ c → y.2 c = A c) ∧ ∃ t, tabC y.2 t ∧ isTb 1000000 (stC u S) (fCap x.T.far) S t (fun a b c => a < s) ∧ y.1 = (if s ≤ S then 1000000 else minC t x.T.far S hm x.T.pl)) ?_ ?_ (1000000, A25) ⟨f25, _, T0, I0, by rw [if_pos (Nat.zero_le _)]⟩
    · intro f s ⟨lst, A2⟩ hs ⟨f2, t, tb, it, el⟩ hn
      simp only at f2 tb el
      unfold fX0_roundOf_L67
      rw [if_neg (by rw [n_leL (by simp) (by omega)]; omega)]
      refine lp_up (fun f' p (y : Nat × pA) => fX0_roundOf_L78 x.tx (fun x0 x1 x2 x3 x4 => fX0_roundOf_L67 x.tx Q f x0 x1 x2 x3 x4) Q f' (Int32.ofNat S) (Int32.ofNat hm) (Int32.ofNat y.1) (Int32.ofNat s) p y.2) x.T.pl (by omega) (fun p y => (∀ c, c < 147 ∨ 275 ≤ c → y.2 c = A c) ∧ ∃ t, tabC y.2 t ∧ isTb 1000000 (stC u S) (fCap x.T.far) S t (fun a b c => a < s ∨ (a = s ∧ b < p)) ∧ y.1 = (if s < S then 1000000 else if s = S then minC t x.T.far S hm p else minC t x.T.far S hm x.T.pl)) ?_ ?_ (lst, A2) ⟨f2, t, tb, it.ext (fun a b c _ _ _ _ _ hd => hd.elim id (fun hd => absurd hd.2 (Nat.not_lt_zero b))), ?_⟩
      · intro f' p ⟨lst, A3⟩ hp ⟨f3, t, tb, it, el⟩ hn'
        simp only at f3 tb el
        have i3 := h.scr (frS A3 f3)
        have ll : lst ≤ 1000000 := by
          rw [el]; split
          · omega
          · split <;> exact minC_top _
        unfold fX0_roundOf_L78 fX0_roundOf_J231 fX0_roundOf_J142
        refine c_places i3.cm.pl ?_
        rw [if_neg (by rw [n_le (by omega) (by omega)]; omega)]
        simp (disch := omega) only [n_inT, n_nat, true_and, n_addR]
        have b0 := it.1 s p
        rw [tb s p hs (by omega), i3.cm.far p hm (by omega) (by omega), fCap_I]
        have bf := f1e p hm
        -- the inner loop, with the least found
        have inner : ∀ l2 : Nat, l2 = (if s < S then 1000000 else if s = S then minC t x.T.far S hm (p + 1) else minC t x.T.far S hm x.T.pl) → t s p < 1000000 → ∃ m14, fX0_roundOf_L145 x.tx (fun x0 x1 x2 x3 x4 x5 => fX0_roundOf_L78 x.tx (fun x0 x1 x2 x3 x4 => fX0_roundOf_L67 x.tx Q f x0 x1 x2 x3 x4) Q f' x0 x1 x2 x3 x4 x5) Q m14 (Int32.ofNat S) (Int32.ofNat hm) (Int32.ofNat l2) (Int32.ofNat s) (Int32.ofNat p) 0 A3 := by
          intro l2 e2 hlt
          refine lp_up (fun f'' q (z : pA) => fX0_roundOf_L145 x.tx (fun x0 x1 x2 x3 x4 x5 => fX0_roundOf_L78 x.tx (fun x0 x1 x2 x3 x4 => fX0_roundOf_L67 x.tx Q f x0 x1 x2 x3 x4) Q f' x0 x1 x2 x3 x4 x5) Q f'' (Int32.ofNat S) (Int32.ofNat hm) (Int32.ofNat l2) (Int32.ofNat s) (Int32.ofNat p) q z) x.T.pl (by omega) (fun q z => (∀ c, c < 147 ∨ 275 ≤ c → z c = A c) ∧ ∃ t', tabC z t' ∧ (∀ a b, a ≤ s → t' a b = t a b) ∧ isTb 1000000 (stC u S) (fCap x.T.far) S t' (fun a b c => a < s ∨ (a = s ∧ (b < p ∨ (b = p ∧ c < q))))) ?_ ?_ A3 ⟨f3, t, tb, fun _ _ _ => rfl, it.ext (fun a b c _ _ _ _ _ hd => hd.elim Or.inl (fun hd => Or.inr ⟨hd.1, hd.2.elim id (fun e => absurd e.2 (Nat.not_lt_zero c))⟩))⟩
          · intro f'' q z hq ⟨fz, t', tz, eqt, iz⟩ hn''
            have i4 := h.scr (frS z fz)
            unfold fX0_roundOf_L145 fX0_roundOf_J225
            refine c_places i4.cm.pl ?_
            rw [if_neg (by rw [n_le (by omega) (by omega)]; omega), n_m31 (by omega)]
            have bt := n_bt hS hs (show q < 7 by omega)
            have dnle : ∀ a b c, (a < s ∨ (a = s ∧ (b < p ∨ (b = p ∧ c < q)))) → a ≤ s := fun a b c hd => by omega
            have cv : ∀ t2, isTb 1000000 (stC u S) (fCap x.T.far) S t2 (fun a b c => (a < s ∨ (a = s ∧ (b < p ∨ (b = p ∧ c < q)))) ∨ (a = s ∧ b = p ∧ c = q)) → isTb 1000000 (stC u S) (fCap x.T.far) S t2 (fun a b c => a < s ∨ (a = s ∧ (b < p ∨ (b = p ∧ c < q + 1)))) := fun t2 i2 => i2.ext (fun a b c _ _ _ _ _ hd => by
              rcases hd with hd | ⟨e1, hd | ⟨e2, hd⟩⟩
              · exact Or.inl (Or.inl hd)
              · exact Or.inl (Or.inr ⟨e1, Or.inl hd⟩)
              · by_cases cq : c = q
                · exact Or.inr ⟨e1, e2, cq⟩
                · exact Or.inl (Or.inr ⟨e1, Or.inr ⟨e2, by omega⟩⟩))
            by_cases cb : has S q ∧ ¬ has s q
            · rw [if_neg (fun hh => bt.mp hh cb)]
              obtain ⟨k1, k2, k3⟩ := k_add ⟨s, hs⟩ ⟨q, by omega⟩ cb.2
              simp only at k1 k2 k3
              have e1 := tz (s + 2 ^ q) q k2 (by omega)
              have e2 := tz s p hs (by omega)
              have bb1 := iz.1 (s + 2 ^ q) q
              have bb2 := iz.1 s p
              have bf2 := f1e p q
              rw [n_shl1 (by omega), n_or, k1]
              simp (disch := omega) only [n_inT, n_nat, true_and, n_addR]
              rw [e1, e2, i4.cm.far p q (by omega) (by omega), fCap_I, n_add, n_min (by omega) (by omega)]
              intro A13 e13
              have hlt' : t' s p < 1000000 := by rw [eqt s p (Nat.le_refl _)]; exact hlt
              refine hn'' A13 ⟨fun c hc => by rw [e13, pup_ne (by omega)]; exact fz c hc, _, tz.set k2 (by omega) e13, fun a b ha => ?_, cv _ (iz.step hs (by omega) (by omega) dnle cb.1 cb.2 hlt')⟩
              unfold tset
              have := Nat.two_pow_pos q
              rw [if_neg (fun hc => by omega)]
              exact eqt a b ha
            · rw [if_pos (bt.mpr cb), n_addR]
              refine hn'' z ⟨fz, t', tz, eqt, cv _ (iz.skip hs (by omega) (by omega) (fun hc => cb ⟨hc.1, hc.2.1⟩))⟩
          · intro f'' z ⟨fz, t', tz, eqt, iz⟩
            have i4 := h.scr (frS z fz)
            unfold fX0_roundOf_L145 fX0_roundOf_J231
            refine c_places i4.cm.pl ?_
            rw [if_pos (Int32.le_refl _), n_addR]
            refine hn' (l2, z) ⟨fz, t', tz, iz.ext (fun a b c _ _ _ hS2 _ hd => ?_), ?_⟩
            · rcases hd with hd | ⟨e1, hd⟩
              · exact Or.inl hd
              · by_cases cb : b = p
                · exact Or.inr ⟨e1, Or.inr ⟨cb, hSp c (by assumption) hS2⟩⟩
                · exact Or.inr ⟨e1, Or.inl (by omega)⟩
            · show l2 = _
              have em : ∀ m, S ≤ s → minC t' x.T.far S hm m = minC t x.T.far S hm m := by
                intro m hle
                unfold minC
                exact congrArg (fun g => iter g m 1000000) (by funext p b; rw [eqt S p hle])
              rw [e2]
              by_cases c1 : s < S
              · rw [if_pos c1, if_pos c1]
              · rw [if_neg c1, if_neg c1, em _ (by omega), em _ (by omega)]
        by_cases c0 : t s p < 1000000
        · rw [if_pos (by rw [n_ltR (by omega) (by simp)]; exact c0)]
          by_cases c1 : s = S
          · subst c1
            rw [if_pos rfl, n_add, n_min (by omega) (by omega)]
            refine inner _ ?_ c0
            rw [if_neg (by omega), if_pos rfl]
            show _ = (if t s p < 1000000 then min (minC t x.T.far s hm p) (t s p + fCap x.T.far p hm) else minC t x.T.far s hm p)
            rw [if_pos c0, el, if_neg (by omega), if_pos rfl]
          · rw [if_neg (by rw [n_eq (by omega) (by omega)]; exact c1)]
            refine inner _ ?_ c0
            rw [el, if_neg c1, if_neg c1]
        · rw [if_neg (by rw [n_ltR (by omega) (by simp)]; exact c0)]
          refine hn' (lst, A3) ⟨f3, t, tb, it.ext (fun a b c _ _ _ _ hl hd => ?_), ?_⟩
          · rcases hd with hd | ⟨e1, hd⟩
            · exact Or.inl hd
            · by_cases cb : b = p
              · rw [e1, cb] at hl; exact absurd hl c0
              · exact Or.inr ⟨e1, by omega⟩
          · show lst = _
            rw [el]
            by_cases c1 : s < S
            · rw [if_pos c1, if_pos c1]
            · rw [if_neg c1, if_neg c1]
              by_cases c2 : s = S
              · rw [if_pos c2, if_pos c2]
                show _ = (if t S p < 1000000 then _ else minC t x.T.far S hm p)
                rw [if_neg (by rw [← c2]; exact c0)]
              · rw [if_neg c2, if_neg c2]
      · intro f' ⟨lst, A3⟩ ⟨f3, t, tb, it, el⟩
        simp only at f3 tb el
        have i3 := h.scr (frS A3 f3)
        unfold fX0_roundOf_L78
        refine c_places i3.cm.pl ?_
        rw [if_pos (Int32.le_refl _), n_addR]
        refine hn (lst, A3) ⟨f3, t, tb, it.ext (fun a b c ha hb _ _ hl hd => ?_), ?_⟩
        · by_cases c1 : a = s
          · refine Or.inr ⟨c1, ?_⟩
            obtain ⟨k, w⟩ := it.2.1 a b ha hb hl
            cases k with
            | zero => rw [w.2.1]; exact hu
            | succ k =>
              obtain ⟨s1, p1, c1, hw1, hq1, a1, a2, a3, a4⟩ := w
              exact hSp b hq1 a1
          · exact Or.inl (by omega)
        · show lst = _
          rw [el]
          by_cases c1 : s < S
          · rw [if_pos c1, if_pos (show s + 1 ≤ S by omega)]
          · rw [if_neg c1, if_neg (show ¬ s + 1 ≤ S by omega)]
            by_cases c2 : s = S
            · rw [if_pos c2]
            · rw [if_neg c2]
      · show lst = _
        rw [el]
        by_cases c1 : s < S
        · rw [if_pos c1, if_pos (show s ≤ S by omega)]
        · rw [if_neg c1]
          by_cases c2 : s = S
          · rw [if_pos c2, if_pos (show s ≤ S by omega)]; rfl
          · rw [if_neg c2, if_neg (show ¬ s ≤ S by omega)]
    · intro f ⟨lst, A2⟩ ⟨f2, t, tb, it, el⟩
      simp only at f2 tb el
      unfold fX0_roundOf_L67
      rw [if_pos (by decide)]
      rw [el, if_neg (by omega)]
      exact hQ A2 t (frS A2 f2) (it.ext (fun a b c ha _ _ _ _ _ => ha))
end I
