set_option maxRecDepth 100000
set_option linter.all false
section I
variable {B : Nat} {x : St} {n : Nat} {K : Nat → pKd} {A A1 A' : pA} {Lg : pL} {G : pG}
theorem m_leftAP {A0 A : pA} {T : Tx} {s : Nat} {R : Rw} (hT : VT T) (hM : MM A0 T s) (h : MS A0 A R) {a p : Nat} (ha : a < 4) (hp : p < 7) {Q : Int32 → Prop} (hQ : Q (qNum (fun e => T.who e = a ∧ T.whr e = p ∧ isOpen R e) T.er)) : fX10_errandsLeft A (Int32.ofNat a) (Int32.ofNat p) Q := by
  have := hT.er; have := hT.pe; have := hM.slt; have := hT.pl
  have nm : ∀ v : Nat, v < 100 → ¬ Int32.ofNat v = -1 := fun v hv hh => by
    have := congrArg Int32.toInt hh
    rw [n_int (by omega)] at this
    exact absurd this (by show ¬ (v : Int) = -1; omega)
  unfold fX10_errandsLeft
  refine lp_up (fun m i (x : Int32) => fX10_errandsLeft_L5 A Q m (Int32.ofNat a) (Int32.ofNat p) x i) T.er (by omega) (fun i x => x = qNum (fun e => T.who e = a ∧ T.whr e = p ∧ isOpen R e) i) ?_ ?_ 0 rfl
  · intro m i x hi hx hn
    have b1 := hT.who i hi
    have e1 := hM.who i hi
    have b2 := hT.whr i hi
    have e2 := hM.whr i hi
    unfold fX10_errandsLeft_L5 fX10_errandsLeft_J58 fX10_errandsLeft_J82 fX10_errandsLeft_J85
    simp (disch := omega) only [n_inT, n_nat, true_and, h.fr, h.fi, h.row, hM.live, hM.er, n_addL, n_addR, n_mulL, n_add, n_le, e1, e2, n_m31]
    rw [if_neg (by omega), if_neg (nm a (by omega)), if_neg (nm p (by omega))]
    have stay : ¬ (T.who i = a ∧ T.whr i = p ∧ isOpen R i) → fX10_errandsLeft_L5 A Q m (Int32.ofNat a) (Int32.ofNat p) x (Int32.ofNat (i + 1)) := by
      intro hc
      refine hn x ?_
      show _ = ite _ _ _
      rw [if_neg hc, hx]; rfl
    by_cases c2 : isOpen R i
    · refine n_pos c2 ?_
      by_cases c1 : T.who i = a
      · rw [if_pos (by rw [c1])]
        by_cases c3 : T.whr i = p
        · rw [if_pos (by rw [c3])]
          refine hn _ ?_
          show _ = ite _ _ _
          rw [if_pos ⟨c1, c3, c2⟩, hx]; rfl
        · rw [if_neg (by rw [n_eq (by omega) (by omega)]; exact c3)]
          exact stay (fun hh => c3 hh.2.1)
      · rw [if_neg (by rw [n_eq (by omega) (by omega)]; exact c1)]
        exact stay (fun hh => c1 hh.1)
    · exact n_neg c2 (stay (fun hh => c2 hh.2.2))
  · intro m x hx
    unfold fX10_errandsLeft_L5
    simp (disch := omega) only [n_inT, n_nat, true_and, h.fr, h.fi, hM.live, hM.er, Int32.le_refl, if_true]
    rw [hx]; exact hQ
/-- the model's table in its row -/
def tabM (A : pA) (t : Nat → Nat → Nat) : Prop := ∀ s p, s < 128 → p < 7 → A 1240 (7 * s + p) = Int32.ofNat (t s p)
theorem tabM.set {A : pA} {t : Nat → Nat → Nat} (h : tabM A t) {s p v : Nat} (hs : s < 128) (hp : p < 7) (e : A' = pup A 1240 (7 * s + p) (Int32.ofNat v)) : tabM A' (tset t s p v) := by
  intro a b ha hb
  unfold tset
  by_cases c : a = s ∧ b = p
  · rw [if_pos c, c.1, c.2, e, pup_row, wup_self]
  · rw [if_neg c, e, pup_row, wup_ne (by omega)]; exact h a b ha hb
/-- only the row of rounds is worked on -/
theorem m_roundOf {A0 : pA} {T : Tx} {sd : Nat} {R : Rw} (hT : VT T) (hV : VR T B R) (hM : MM A0 T sd) (h : MS A0 A R) {a u S : Nat} (ha : a < T.pe) (hu : u < T.pl) (eu : R (15 + a) = Int32.ofNat u) (hS : S < 128) (hSb : ∀ q, q < 7 → (has S q ↔ erP T R a q)) (hSp : ∀ q, q < 7 → has S q → q < T.pl) {Q : Int32 → pA → Prop}
    (hQ : ∀ A' t, (∀ c, c ≠ 1240 → A' c = A c) → isTb 999 (stM T.far u S) T.far S t (fun _ _ _ => True) → Q (Int32.ofNat (if S = 0 then T.far u (T.hom a) else minM t T.far S (T.hom a) 7)) A') : fX10_roundOf A (Int32.ofNat a) Q := by
  have p7 := hT.pl; have p4 := hT.pe; have s2 := hM.slt
  have hhm := hT.hom a ha
  have f99 := hT.far
  unfold fX10_roundOf
  refine lp_up (fun f i (y : Int32) => fX10_roundOf_L4 Q f (Int32.ofNat a) y i A) T.pl (by omega) (fun i y => y = qBits (erP T R a) i) ?_ ?_ 0 rfl
  · intro f i y hi hy hn
    unfold fX10_roundOf_L4 fX10_roundOf_J32
    simp (disch := omega) only [n_inT, n_nat, true_and, h.fr, h.fi, hM.live, hM.pl, n_le, n_addR, n_m31]
    rw [if_neg (by omega)]
    refine m_leftAP hT hM h (by omega) (by omega) ?_
    rw [qNum_nat]
    have ln := nNum_le (fun e => T.who e = a ∧ T.whr e = i ∧ isOpen R e) T.er
    have := hT.er
    by_cases c : erP T R a i
    · rw [if_neg (by rw [n_leR (by omega) (by simp)]; omega)]
      refine hn _ ?_
      show _ = ite _ _ _
      rw [if_pos c, hy]; rfl
    · rw [if_pos (by rw [n_leR (by omega) (by simp)]; omega)]
      refine hn _ ?_
      show _ = ite _ _ _
      rw [if_neg c, hy]; rfl
  · intro f y hy
    unfold fX10_roundOf_L4
    simp (disch := omega) only [n_inT, n_nat, true_and, h.fr, h.fi, hM.live, hM.pl, Int32.le_refl, if_true]
    have ey : y = Int32.ofNat S := by
      rw [hy, qBits_nat _ _ (by omega)]
      congr 1
      have l := nBits_lt (erP T R a) T.pl
      have l2 : 2 ^ T.pl ≤ 2 ^ 7 := Nat.pow_le_pow_right (by omega) (by omega)
      refine mask_ext (by omega) hS (fun q hq => ?_)
      rw [hSb q hq]
      by_cases c : q < T.pl
      · have := nBits_bit (erP T R a) c
        unfold has
        rw [this]
        by_cases c2 : erP T R a q
        · rw [if_pos c2]; exact ⟨fun _ => c2, fun _ => rfl⟩
        · rw [if_neg c2]; exact ⟨fun hh => absurd hh (by omega), fun hh => absurd hh c2⟩
      · have z : nBits (erP T R a) T.pl / 2 ^ q = 0 := Nat.div_eq_of_lt (Nat.lt_of_lt_of_le l (Nat.pow_le_pow_right (by omega) (by omega)))
        unfold has
        rw [z]
        exact ⟨fun hh => absurd hh (by decide), fun hh => absurd (hSp q hq ((hSb q hq).mpr hh)) c⟩
    rw [ey]
    refine lp_up (fun f i (z : pA) => fX10_roundOf_L40 Q f (Int32.ofNat a) (Int32.ofNat S) i z) 896 (by omega) (fun i z => (∀ c, c ≠ 1240 → z c = A c) ∧ ∀ k, k < i → z 1240 k = 999) ?_ ?_ A ⟨fun _ _ => rfl, fun k hk => absurd hk (Nat.not_lt_zero k)⟩
    · intro f i z hi ⟨fz, zz⟩ hn
      unfold fX10_roundOf_L40
      rw [if_neg (by rw [n_leL (by simp) (by omega)]; omega)]
      simp (disch := omega) only [n_inT, n_nat, true_and, n_addR]
      intro A24 e24
      refine hn A24 ⟨fun c hc => by rw [e24, pup_ne hc]; exact fz c hc, fun k hk => ?_⟩
      rw [e24, pup_row]
      unfold wup
      by_cases c : k = i
      · rw [if_pos c]
      · rw [if_neg c]; exact zz k (by omega)
    · intro f z ⟨fz, zz⟩
      unfold fX10_roundOf_L40
      rw [if_pos (by decide)]
      have T0 : tabM z (fun _ _ => 999) := fun s p hs hp => zz _ (by omega)
      -- rows and words as they were
      have row : ∀ z2 : pA, (∀ c, c ≠ 1240 → z2 c = A c) → (∀ k, k < 77 → z2 1238 k = R k) ∧ (∀ p q, p < 7 → q < 7 → z2 1236 (7 * p + q) = Int32.ofNat (T.far p q)) ∧ z2 1198 18 = Int32.ofNat sd ∧ z2 1216 (4 * sd + a) = Int32.ofNat (T.hom a) := fun z2 f2 => ⟨fun k hk => by rw [f2 1238 (by omega)]; exact h.row k hk, fun p q hp hq => by rw [f2 1236 (by omega), h.fr 1236 (by omega) (by omega) (by omega) (by omega)]; exact hM.far p q hp hq, by rw [f2 1198 (by omega), h.fi 18 (by omega)]; exact hM.live, by rw [f2 1216 (by omega), h.fr 1216 (by omega) (by omega) (by omega) (by omega)]; exact hM.hom a ha⟩
      refine lp_up (fun f i (z : pA) => fX10_roundOf_L64 Q f (Int32.ofNat a) (Int32.ofNat S) i z) 7 (by omega) (fun i z => (∀ c, c ≠ 1240 → z c = A c) ∧ ∃ t, tabM z t ∧ (∀ s p, t s p ≤ 999) ∧ (∀ s p, t s p < 999 → stM T.far u S s p (t s p)) ∧ (∀ s p c, p < i → stM T.far u S s p c → t s p ≤ c)) ?_ ?_ z ⟨fz, _, T0, fun _ _ => Nat.le_refl _, fun s p hlt => absurd hlt (Nat.lt_irrefl _), fun s p c hp => absurd hp (Nat.not_lt_zero p)⟩
      · intro f i z2 hi ⟨f2, t, tb, t1, t2, t3⟩ hn
        obtain ⟨r1, r2, r3, r4⟩ := row z2 f2
        unfold fX10_roundOf_L64 fX10_roundOf_J111
        rw [if_neg (by rw [n_leL (by simp) (by omega)]; omega), n_m31 (by omega)]
        by_cases c : has S i
        · rw [if_pos ((n_hasI (by omega) (by omega)).mpr c)]
          have o1 := (k_one ⟨i, hi⟩ ⟨0, by omega⟩).1
          simp only at o1
          simp (disch := omega) only [n_inT, n_nat, true_and, n_addR, n_addL]
          rw [r1 _ (by omega), eu, n_shl1 (by omega)]
          simp (disch := omega) only [n_inT, n_nat, true_and, n_mulL, n_add]
          rw [r2 u i (by omega) hi]
          intro A21 e21
          have ff := f99 u i
          refine hn A21 ⟨fun c hc => by rw [e21, pup_ne hc]; exact f2 c hc, _, tb.set o1 hi e21, fun s p => ?_, fun s p hlt => ?_, fun s p c' hp hs => ?_⟩
          · unfold tset
            split
            · omega
            · exact t1 s p
          · unfold tset at hlt ⊢
            by_cases e : s = 2 ^ i ∧ p = i
            · rw [if_pos e]; exact ⟨by omega, by rw [e.2]; exact c, by rw [e.1, e.2], by rw [e.2]⟩
            · rw [if_neg e] at hlt ⊢; exact t2 s p hlt
          · unfold tset
            by_cases e : s = 2 ^ i ∧ p = i
            · rw [if_pos e, hs.2.2.2, e.2]; exact Nat.le_refl _
            · rw [if_neg e]
              refine t3 s p c' ?_ hs
              have := hs.2.2.1
              by_cases cp : p = i
              · exact absurd ⟨by rw [this, cp], cp⟩ e
              · omega
        · rw [if_neg (fun hh => c ((n_hasI (by omega) (by omega)).mp hh)), n_addR]
          refine hn z2 ⟨f2, t, tb, t1, t2, fun s p c' hp hs => ?_⟩
          by_cases cp : p = i
          · rw [cp] at hs; exact absurd hs.2.1 c
          · exact t3 s p c' (by omega) hs
      · intro f z2 ⟨f2, t, tb, t1, t2, t3⟩
        unfold fX10_roundOf_L64
        rw [if_pos (by decide)]
        have I0 : isTb 999 (stM T.far u S) T.far S t (fun a b c => a < 1) := by
          refine ⟨t1, fun s p _ _ hlt => ⟨0, t2 s p hlt⟩, fun s p c hs => t3 s p c hs.1 hs, fun s p q _ _ _ hd _ _ hlt => ?_⟩
          have e : s = 2 ^ p := (t2 s p hlt).2.2.1
          have := Nat.two_pow_pos p
          have : s < 1 := hd
          omega
        have le1 : (1 : Nat) ≤ S + 1 := by omega
        refine lp_from (fun f s (z : pA) => fX10_roundOf_L119 Q f (Int32.ofNat a) (Int32.ofNat S) s z) 1 (S + 1) le1 (by omega) (fun s z => (∀ c, c ≠ 1240 → z c = A c) ∧ ∃ t, tabM z t ∧ isTb 999 (stM T.far u S) T.far S t (fun a b c => a < s)) ?_ ?_ z2 ⟨f2, t, tb, I0⟩
        · intro f s z3 hs1 hs ⟨f3, t, tb, it⟩ hn
          unfold fX10_roundOf_L119
          rw [if_neg (by rw [n_lt (by omega) (by omega)]; omega)]
          refine lp_up (fun f' p (z : pA) => fX10_roundOf_L127 (fun x0 x1 x2 x3 => fX10_roundOf_L119 Q f x0 x1 x2 x3) Q f' (Int32.ofNat a) (Int32.ofNat S) (Int32.ofNat s) p z) 7 (by omega) (fun p z => (∀ c, c ≠ 1240 → z c = A c) ∧ ∃ t, tabM z t ∧ isTb 999 (stM T.far u S) T.far S t (fun a b c => a < s ∨ (a = s ∧ b < p))) ?_ ?_ z3 ⟨f3, t, tb, it.ext (fun a b c _ _ _ _ _ hd => hd.elim id (fun hd => absurd hd.2 (Nat.not_lt_zero b)))⟩
          · intro f' p z4 hp ⟨f4, t, tb, it⟩ hn'
            have b0 := it.1 s p
            unfold fX10_roundOf_L127 fX10_roundOf_J262
            rw [if_neg (by rw [n_leL (by simp) (by omega)]; omega)]
            simp (disch := omega) only [n_inT, n_nat, true_and, n_addR, n_mulL, n_add]
            rw [tb s p (by omega) hp]
            by_cases c0 : t s p < 999
            · rw [if_pos (by rw [n_ltR (by omega) (by simp)]; exact c0)]
              refine lp_up (fun f'' q (z : pA) => fX10_roundOf_L158 (fun x0 x1 x2 x3 x4 => fX10_roundOf_L127 (fun x0 x1 x2 x3 => fX10_roundOf_L119 Q f x0 x1 x2 x3) Q f' x0 x1 x2 x3 x4) Q f'' (Int32.ofNat a) (Int32.ofNat S) (Int32.ofNat s) (Int32.ofNat p) q z) 7 (by omega) (fun q z => (∀ c, c ≠ 1240 → z c = A c) ∧ ∃ t', tabM z t' ∧ t' s p = t s p ∧ isTb 999 (stM T.far u S) T.far S t' (fun a b c => a < s ∨ (a = s ∧ (b < p ∨ (b = p ∧ c < q))))) ?_ ?_ z4 ⟨f4, t, tb, rfl, it.ext (fun a b c _ _ _ _ _ hd => hd.elim Or.inl (fun hd => Or.inr ⟨hd.1, hd.2.elim id (fun e => absurd e.2 (Nat.not_lt_zero c))⟩))⟩
              · intro f'' q z5 hq ⟨f5, t', tz, eqt, iz⟩ hn''
                obtain ⟨r1, r2, r3, r4⟩ := row z5 f5
                have dnle : ∀ a b c, (a < s ∨ (a = s ∧ (b < p ∨ (b = p ∧ c < q)))) → a ≤ s := fun a b c hd => by omega
                have cv : ∀ t2, isTb 999 (stM T.far u S) T.far S t2 (fun a b c => (a < s ∨ (a = s ∧ (b < p ∨ (b = p ∧ c < q)))) ∨ (a = s ∧ b = p ∧ c = q)) → isTb 999 (stM T.far u S) T.far S t2 (fun a b c => a < s ∨ (a = s ∧ (b < p ∨ (b = p ∧ c < q + 1)))) := fun t2 i2 => i2.ext (fun a b c _ _ _ _ _ hd => by
                  rcases hd with hd | ⟨e1, hd | ⟨e2, hd⟩⟩
                  · exact Or.inl (Or.inl hd)
                  · exact Or.inl (Or.inr ⟨e1, Or.inl hd⟩)
                  · by_cases cq : c = q
                    · exact Or.inr ⟨e1, e2, cq⟩
                    · exact Or.inl (Or.inr ⟨e1, Or.inr ⟨e2, by omega⟩⟩))
                unfold fX10_roundOf_L158 fX10_roundOf_J256
                rw [if_neg (by rw [n_leL (by simp) (by omega)]; omega), n_m31 (by omega)]
                have b1 := n_hasI (S := S) (q := q) (by omega) (by omega)
                have b2 := n_hasI (S := s) (q := q) (by omega) (by omega)
                by_cases c1 : has S q
                · rw [if_neg (by rw [n_bit]; exact fun hh => hh (b1.mpr c1))]
                  by_cases c2 : has s q
                  · rw [if_pos (b2.mpr c2), n_addR]
                    exact hn'' z5 ⟨f5, t', tz, eqt, cv _ (iz.skip (by omega) hp hq (fun hc => hc.2.1 c2))⟩
                  · rw [if_neg (fun hh => c2 (b2.mp hh))]
                    obtain ⟨k1, k2, k3⟩ := k_add ⟨s, by omega⟩ ⟨q, hq⟩ c2
                    simp only at k1 k2 k3
                    have e1 := tz (s + 2 ^ q) q k2 hq
                    have e2 := tz s p (by omega) hp
                    have bb1 := iz.1 (s + 2 ^ q) q
                    have bb2 := iz.1 s p
                    have ff := f99 p q
                    rw [n_shl1 (by omega), n_or, k1]
                    simp (disch := omega) only [n_inT, n_nat, true_and, n_addR, n_mulL, n_add]
                    rw [e1, e2, r2 p q hp hq]
                    have hlt' : t' s p < 999 := by rw [eqt]; exact c0
                    have st := cv _ (iz.step (by omega) hp hq dnle c1 c2 hlt')
                    simp (disch := omega) only [n_add, n_le]
                    by_cases c3 : t' (s + 2 ^ q) q ≤ t' s p + T.far p q
                    · rw [if_pos c3]
                      rw [Nat.min_eq_left c3] at st
                      have same : tset t' (s + 2 ^ q) q (t' (s + 2 ^ q) q) = t' := by
                        funext a' b'
                        unfold tset
                        split
                        · rename_i e; rw [e.1, e.2]
                        · rfl
                      rw [same] at st
                      exact hn'' z5 ⟨f5, t', tz, eqt, st⟩
                    · rw [if_neg c3]
                      rw [Nat.min_eq_right (by omega)] at st
                      intro A5 e5
                      refine hn'' A5 ⟨fun c hc => by rw [e5, pup_ne hc]; exact f5 c hc, _, tz.set k2 hq e5, ?_, st⟩
                      have := Nat.two_pow_pos q
                      unfold tset
                      rw [if_neg (fun hc => by omega)]; exact eqt
                · rw [if_pos (by rw [n_bit]; exact fun hh => c1 (b1.mp hh)), n_addR]
                  exact hn'' z5 ⟨f5, t', tz, eqt, cv _ (iz.skip (by omega) hp hq (fun hc => c1 hc.1))⟩
              · intro f'' z5 ⟨f5, t', tz, eqt, iz⟩
                unfold fX10_roundOf_L158 fX10_roundOf_J262
                rw [if_pos (by decide), n_addR]
                refine hn' z5 ⟨f5, t', tz, iz.ext (fun a b c _ _ hc _ _ hd => ?_)⟩
                rcases hd with hd | ⟨e1, hd⟩
                · exact Or.inl hd
                · by_cases cb : b = p
                  · exact Or.inr ⟨e1, Or.inr ⟨cb, hc⟩⟩
                  · exact Or.inr ⟨e1, Or.inl (by omega)⟩
            · rw [if_neg (by rw [n_ltR (by omega) (by simp)]; exact c0)]
              refine hn' z4 ⟨f4, t, tb, it.ext (fun a b c _ _ _ _ hl hd => ?_)⟩
              rcases hd with hd | ⟨e1, hd⟩
              · exact Or.inl hd
              · by_cases cb : b = p
                · rw [e1, cb] at hl; exact absurd hl c0
                · exact Or.inr ⟨e1, by omega⟩
          · intro f' z4 ⟨f4, t, tb, it⟩
            unfold fX10_roundOf_L127
            rw [if_pos (by decide), n_addR]
            refine hn z4 ⟨f4, t, tb, it.ext (fun a b c _ hb _ _ _ hd => ?_)⟩
            by_cases c1 : a = s
            · exact Or.inr ⟨c1, hb⟩
            · exact Or.inl (by omega)
        · intro f z3 ⟨f3, t, tb, it⟩
          obtain ⟨r1, r2, r3, r4⟩ := row z3 f3
          have itT : isTb 999 (stM T.far u S) T.far S t (fun _ _ _ => True) := it.ext (fun a b c ha hb _ _ hl _ => by
            obtain ⟨k, w⟩ := it.2.1 a b ha hb hl
            obtain ⟨w1, w2, w3⟩ := wG_in (stM_in hS) k a b _ w
            have := mask_le w1 hS w3
            omega)
          have hQ := hQ z3 t f3 itT
          unfold fX10_roundOf_L119
          rw [if_pos (by rw [n_lt (by omega) (by omega)]; omega), r3]
          simp (disch := omega) only [n_inT, n_nat, true_and, n_mulL, n_add, n_addL, r4]
          by_cases c0 : S = 0
          · subst c0
            rw [if_pos rfl] at hQ
            rw [if_pos (show Int32.ofNat 0 = 0 from rfl), r1 _ (by omega), eu]
            simp (disch := omega) only [n_inT, n_nat, true_and, n_mulL, n_add]
            rw [r2 u (T.hom a) (by omega) (by omega)]
            exact hQ
          · rw [if_neg c0] at hQ
            rw [if_neg (by rw [n_eqR (by omega) (by simp)]; exact c0)]
            refine lp_up (fun f p (y : Nat) => fX10_roundOf_L320 Q f (Int32.ofNat S) (Int32.ofNat (T.hom a)) (Int32.ofNat y) p z3) 7 (by omega) (fun p y => y = minM t T.far S (T.hom a) p ∧ y ≤ 999) ?_ ?_ 999 ⟨rfl, Nat.le_refl _⟩
            · intro f p y hp ⟨hy, hb⟩ hn
              have b0 := it.1 S p
              have ff := f99 p (T.hom a)
              unfold fX10_roundOf_L320 fX10_roundOf_J384
              rw [if_neg (by rw [n_leL (by simp) (by omega)]; omega)]
              simp (disch := omega) only [n_inT, n_nat, true_and, n_mulL, n_add, n_addR]
              rw [tb S p hS hp, r2 p (T.hom a) hp (by omega)]
              simp (disch := omega) only [n_add, n_le]
              by_cases c : y ≤ t S p + T.far p (T.hom a)
              · rw [if_pos c]
                refine hn y ⟨?_, hb⟩
                show y = min (minM t T.far S (T.hom a) p) _
                rw [← hy, Nat.min_eq_left c]
              · rw [if_neg c]
                refine hn _ ⟨?_, by omega⟩
                show _ = min (minM t T.far S (T.hom a) p) _
                rw [← hy, Nat.min_eq_right (by omega)]
            · intro f y ⟨hy, hb⟩
              unfold fX10_roundOf_L320
              rw [if_pos (by decide), hy]
              exact hQ
theorem q_round (h : INV B x n K A Lg G) (p w : Int32) : fX0_round x.tx n K A G p w (fun r A1 => fX10_round A1 p w (fun r' A2 => r = r' ∧ SCR x.R A A2)) := by
  have p7 := h.vt.pl; have p4 := h.vt.pe; have s2 := h.mm.slt
  unfold fX0_round
  refine c_isPerson h.vt h.cm.pe (fun hp => ?_) (fun hp => ?_)
  · rw [if_neg (by decide)]
    have hp' := hp
    obtain ⟨a, ha, rfl⟩ := hp
    have hhm := h.vt.hom a ha
    obtain ⟨u, hu, eu⟩ := h.vr.at_ h.vt a ha
    refine c_inN 1 (by omega) rfl (fun hw => ?_) (fun hw => ?_)
    · rw [if_neg (by decide)]
      refine ⟨n_in (by omega) (by omega), ?_⟩
      refine c_errLeft h (by omega) (fun S hS hSb => ?_)
      have hSp : ∀ q, q < 7 → has S q → q < x.T.pl := by
        intro q hq hh
        have he := (hSb q hq).mp hh
        have key : ∀ m, m ≤ x.T.er → 0 < nNum (fun e => x.T.who e = a ∧ x.T.whr e = q ∧ isOpen x.R e) m → q < x.T.pl := by
          intro m
          induction m with
          | zero => intro _ hh; exact absurd hh (by show ¬ 0 < 0; omega)
          | succ m ih =>
            intro hm hh
            have hh : 0 < nNum (fun e => x.T.who e = a ∧ x.T.whr e = q ∧ isOpen x.R e) m + (if x.T.who m = a ∧ x.T.whr m = q ∧ isOpen x.R m then 1 else 0) := hh
            by_cases c : x.T.who m = a ∧ x.T.whr m = q ∧ isOpen x.R m
            · rw [← c.2.1]; exact h.vt.whr m (by omega)
            · rw [if_neg c] at hh; exact ih (by omega) hh
        exact key x.T.er (Nat.le_refl _) he
      refine c_per h.vt oT25 h.cm h.cs ha (fun r r1 r2 r3 r4 => ⟨r1, r2, ?_⟩)
      rw [n_nat (by omega), h.tv.at_ a (by omega), eu, r3]
      refine c_roundOf h hu hhm hS hSp (fun A9 tC s9 itC => ?_)
      have i9 := h.scr s9
      -- the model, with the number that it finds
      have M : ∀ v : Int32, (∀ tM, isTb 999 (stM x.T.far u S) x.T.far S tM (fun _ _ _ => True) → v = (if (if S = 0 then x.T.far u (x.T.hom a) else minM tM x.T.far S (x.T.hom a) 7) < 99 then (if w = 0 then Int32.ofNat (if S = 0 then x.T.far u (x.T.hom a) else minM tM x.T.far S (x.T.hom a) 7) else if sHour x.T x.R then 0 else if sTill x.T x.R < Int32.ofNat (if S = 0 then x.T.far u (x.T.hom a) else minM tM x.T.far S (x.T.hom a) 7) then 0 else 1) else -2)) → fX10_round A9 (Int32.ofNat a) w (fun r' A2 => v = r' ∧ SCR x.R A A2) := by
        intro v hv
        unfold fX10_round
        refine m_isPerson h.vt i9.mm (fun _ => ?_) (fun hh => absurd hp' hh)
        rw [if_neg (by decide)]
        refine m_inN 1 (by omega) rfl (fun _ => ?_) (fun hh => absurd hw hh)
        rw [if_neg (by decide)]
        refine i9.copies (fun A3 h3 => ?_)
        refine m_roundOf h.vt h.vr i9.mm h3 ha hu eu hS hSb hSp (fun A5 tM f5 itM => ?_)
        have hv := hv tM itM
        have s5 : SCR x.R A A5 := by
          refine s9.trans ⟨fun c a1 a2 a3 a4 a5 a6 a7 a8 a9 => by rw [f5 c a8]; exact h3.fr c a5 a6 a7 a4, fun j hj => by rw [f5 1198 (by omega)]; exact h3.fi j hj, i9.tv.same (fun j hj => by rw [f5 _ (by omega)]; exact h3.fr _ (by omega) (by omega) (by omega) (by omega))⟩
        -- A5 over itself
        have i5 := h.scr s5
        have m5 : MS A5 A5 x.R := ⟨fun _ _ _ _ _ => rfl, fun _ _ => rfl, fun k hk => by rw [f5 1238 (by omega)]; exact h3.row k hk⟩
        have bM : (if S = 0 then x.T.far u (x.T.hom a) else minM tM x.T.far S (x.T.hom a) 7) ≤ 999 := by
          split
          · have := h.vt.far u (x.T.hom a); omega
          · rcases minM_at (t := tM) (f := x.T.far) (S := S) (h := x.T.hom a) 7 with e | ⟨p, hp, e⟩
            · omega
            · have : ∀ m, minM tM x.T.far S (x.T.hom a) m ≤ 999 := by
                intro m
                induction m with
                | zero => exact Nat.le_refl _
                | succ m ih => exact Nat.le_trans (Nat.min_le_left _ _) ih
              exact this 7
        generalize (if S = 0 then x.T.far u (x.T.hom a) else minM tM x.T.far S (x.T.hom a) 7) = nM at *
        by_cases c9 : nM < 99
        · rw [if_pos c9] at hv
          rw [if_pos (by rw [n_ltR (by omega) (by simp)]; exact c9)]
          by_cases w0 : w = 0
          · rw [if_pos w0] at hv ⊢; exact ⟨hv, s5⟩
          · rw [if_neg w0] at hv ⊢
            refine m_isHour h.vt i5.mm m5 ?_
            by_cases cH : sHour x.T x.R
            · rw [if_pos cH] at hv ⊢
              rw [if_neg (by decide)]; exact ⟨hv, s5⟩
            · rw [if_neg cH] at hv ⊢
              rw [if_pos rfl]
              refine m_tillNext i5.mm m5 ?_
              by_cases cT : sTill x.T x.R < Int32.ofNat nM
              · rw [if_pos cT] at hv ⊢; exact ⟨hv, s5⟩
              · rw [if_neg cT] at hv ⊢; exact ⟨hv, s5⟩
        · rw [if_neg c9] at hv
          rw [if_neg (by rw [n_ltR (by omega) (by simp)]; exact c9)]
          exact ⟨hv, s5⟩
      have both := fun tM itM => round_both (f := x.T.far) (u := u) (S := S) (h := x.T.hom a) (pl := x.T.pl) (tM := tM) (tC := tC) h.vf.zero h.vf.tri h.vf.fin h.vt.far (by omega) (by omega) hS p7 hu hSp itM itC
      have tC6 := minC_top (t := tC) (f := x.T.far) (S := S) (h := x.T.hom a) x.T.pl
      by_cases c6 : minC tC x.T.far S (x.T.hom a) x.T.pl < 1000000
      · rw [if_pos (by rw [n_ltR (by omega) (by simp)]; exact c6)]
        have M2 : ∀ v : Int32, v = (if w = 0 then Int32.ofNat (minC tC x.T.far S (x.T.hom a) x.T.pl) else if sHour x.T x.R then 0 else if sTill x.T x.R < Int32.ofNat (minC tC x.T.far S (x.T.hom a) x.T.pl) then 0 else 1) → fX10_round A9 (Int32.ofNat a) w (fun r' A2 => v = r' ∧ SCR x.R A A2) := by
          intro v hv
          refine M v (fun tM itM => ?_)
          rcases both tM itM with ⟨b1, b2, b3⟩ | ⟨b1, b2⟩
          · rw [if_pos b3, ← b2]; exact hv
          · exact absurd c6 b1
        by_cases w0 : w = 0
        · rw [if_pos w0] at M2 ⊢; exact M2 _ rfl
        · rw [if_neg w0] at M2 ⊢
          refine c_minute oT25 i9.cm i9.cs (c_isHour h.vt oT25 i9.cm i9.cs ?_)
          by_cases cH : sHour x.T x.R
          · rw [if_pos cH] at M2 ⊢
            rw [if_neg (by decide)]; exact M2 _ rfl
          · rw [if_neg cH] at M2 ⊢
            rw [if_pos rfl]
            refine c_tillHour i9.cm i9.cs ?_
            by_cases cT : sTill x.T x.R < Int32.ofNat (minC tC x.T.far S (x.T.hom a) x.T.pl)
            · rw [if_pos cT] at M2 ⊢; exact M2 _ rfl
            · rw [if_neg cT] at M2 ⊢; exact M2 _ rfl
      · rw [if_neg (by rw [n_ltR (by omega) (by simp)]; exact c6)]
        refine M _ (fun tM itM => ?_)
        rcases both tM itM with ⟨b1, b2, b3⟩ | ⟨b1, b2⟩
        · exact absurd b1 c6
        · rw [if_neg b2]
    · rw [if_pos rfl]
      unfold fX10_round
      refine m_isPerson h.vt h.mm (fun _ => ?_) (fun hh => absurd hp' hh)
      rw [if_neg (by decide)]
      refine m_inN 1 (by omega) rfl (fun hh => absurd hh hw) (fun _ => ?_)
      rw [if_pos rfl]
      exact ⟨rfl, h.same⟩
  · rw [if_pos rfl]
    unfold fX10_round
    refine m_isPerson h.vt h.mm (fun hh => absurd hh hp) (fun _ => ?_)
    rw [if_pos rfl]
    exact ⟨rfl, h.same⟩
end I
