set_option maxRecDepth 100000
set_option linter.all false
/-! ===== the component's minute ===== -/
/-- what the table of steps is worth -/
def VF (T : Tx) : Prop :=
  (∀ p, p < 7 → T.far p p = 0) ∧
  (∀ p q r, p < 7 → q < 7 → r < 7 → T.far p q ≤ T.far p r + T.far r q) ∧
  (∀ p q, p < T.pl → q < T.pl → nxt T p q → T.far p q ≤ 1) ∧
  (∀ p q, p < T.pl → q < T.pl → p ≠ q → T.far p q < 99 → ∃ r, r < T.pl ∧ nxt T p r ∧ T.far r q < T.far p q) ∧
  (∀ p q, p < 7 → q < 7 → T.far p q < 99 → T.far p q ≤ 6)
theorem VF.zero {T : Tx} (h : VF T) : ∀ p, p < 7 → T.far p p = 0 := h.1
theorem VF.tri {T : Tx} (h : VF T) : ∀ p q r, p < 7 → q < 7 → r < 7 → T.far p q ≤ T.far p r + T.far r q := h.2.1
theorem VF.one {T : Tx} (h : VF T) : ∀ p q, p < T.pl → q < T.pl → nxt T p q → T.far p q ≤ 1 := h.2.2.1
theorem VF.step {T : Tx} (h : VF T) : ∀ p q, p < T.pl → q < T.pl → p ≠ q → T.far p q < 99 → ∃ r, r < T.pl ∧ nxt T p r ∧ T.far r q < T.far p q := h.2.2.2.1
theorem VF.fin {T : Tx} (h : VF T) : ∀ p q, p < 7 → q < 7 → T.far p q < 99 → T.far p q ≤ 6 := h.2.2.2.2
def cStep (T : Tx) (p to : Nat) : Nat := iter (fun q (s : Nat) => if nxt T p q ∧ T.far q to < T.far s to then q else s) T.pl p
theorem cStep_eq {T : Tx} (hT : VT T) (hF : VF T) {p to : Nat} (hp : p < T.pl) (hq : to < T.pl) (hne : p ≠ to) (hf : T.far p to < 99) : cStep T p to = sStep T p to := by
  have key : ∀ n, n ≤ T.pl →
      ((iter (fun q (s : Nat) => if nxt T p q ∧ T.far q to < T.far s to then q else s) n p = p ∧ T.far p to ≤ (iter (fun q (s : Nat × Nat) => if nxt T p q ∧ T.far q to < s.2 then (q, T.far q to) else s) n (p, 99)).2 ∧ ∀ r, r < n → nxt T p r → T.far p to ≤ T.far r to) ∨
       (iter (fun q (s : Nat) => if nxt T p q ∧ T.far q to < T.far s to then q else s) n p = (iter (fun q (s : Nat × Nat) => if nxt T p q ∧ T.far q to < s.2 then (q, T.far q to) else s) n (p, 99)).1 ∧ (iter (fun q (s : Nat × Nat) => if nxt T p q ∧ T.far q to < s.2 then (q, T.far q to) else s) n (p, 99)).2 = T.far (iter (fun q (s : Nat × Nat) => if nxt T p q ∧ T.far q to < s.2 then (q, T.far q to) else s) n (p, 99)).1 to)) := by
    intro n
    induction n with
    | zero => intro _; left; exact ⟨rfl, Nat.le_of_lt hf, fun r hr => absurd hr (Nat.not_lt_zero r)⟩
    | succ n ih =>
      intro hn
      have ih := ih (by omega)
      simp only [iter]
      generalize iter (fun q (s : Nat) => if nxt T p q ∧ T.far q to < T.far s to then q else s) n p = c at *
      generalize iter (fun q (s : Nat × Nat) => if nxt T p q ∧ T.far q to < s.2 then (q, T.far q to) else s) n (p, 99) = x at *
      rcases ih with ⟨e1, e2, e3⟩ | ⟨e1, e2⟩
      · subst e1
        by_cases c1 : nxt T c n
        · by_cases c2 : T.far n to < T.far c to
          · right
            rw [if_pos ⟨c1, c2⟩, if_pos ⟨c1, by omega⟩]
            exact ⟨rfl, rfl⟩
          · left
            rw [if_neg (fun hh => c2 hh.2)]
            refine ⟨rfl, ?_, fun r hr hx => ?_⟩
            · split
              · simp only; omega
              · exact e2
            · by_cases c3 : r = n
              · subst c3; omega
              · exact e3 r (by omega) hx
        · left
          rw [if_neg (fun hh => c1 hh.1), if_neg (fun hh => c1 hh.1)]
          refine ⟨rfl, e2, fun r hr hx => ?_⟩
          by_cases c3 : r = n
          · subst c3; exact absurd hx c1
          · exact e3 r (by omega) hx
      · right
        subst e1
        rw [e2]
        by_cases c1 : nxt T p n ∧ T.far n to < T.far x.1 to
        · rw [if_pos c1, if_pos c1]; exact ⟨rfl, rfl⟩
        · rw [if_neg c1, if_neg c1]; exact ⟨rfl, e2⟩
  rcases key T.pl (Nat.le_refl _) with ⟨_, _, h3⟩ | ⟨h1, _⟩
  · obtain ⟨r, hr, hx, hl⟩ := hF.step p to hp hq hne hf
    have := h3 r hr hx
    omega
  · exact h1
theorem cStep_stay {T : Tx} (hT : VT T) (hF : VF T) {p to : Nat} (hp : p < T.pl) (hq : to < T.pl) (hf : ¬ T.far p to < 99) : cStep T p to = p := by
  have h7 := hT.pl
  have key : ∀ n, n ≤ T.pl → iter (fun q (s : Nat) => if nxt T p q ∧ T.far q to < T.far s to then q else s) n p = p := by
    intro n
    induction n with
    | zero => intro _; rfl
    | succ n ih =>
      intro hn
      simp only [iter]
      rw [ih (by omega)]
      rw [if_neg]
      intro ⟨h1, h2⟩
      have t := hF.tri p to n (by omega) (by omega) (by omega)
      have o := hF.one p n hp (by omega) h1
      have b := hT.far p to
      have f := hF.fin n to (by omega) (by omega) (by omega)
      omega
  exact key T.pl (Nat.le_refl _)
theorem cStep_lt {T : Tx} {p to : Nat} (hp : p < T.pl) : cStep T p to < T.pl := by
  unfold cStep
  refine iter_inv _ (fun s : Nat => s < T.pl) T.pl (fun k s hk hs => ?_) T.pl _ (Nat.le_refl _) hp
  show (if nxt T p k ∧ T.far k to < T.far s to then k else s) < _
  split
  · exact hk
  · exact hs
theorem farC_le {a b : Nat} (ha : a ≤ 99) (hb : b ≤ 99) : (farC a ≤ farC b) = (a ≤ b) := by
  unfold farC
  by_cases c1 : a < 99
  · rw [if_pos c1]
    by_cases c2 : b < 99
    · rw [if_pos c2]; exact n_le (by omega) (by omega)
    · rw [if_neg c2, n_leR (by omega) (by simp)]
      exact propext ⟨fun _ => by omega, fun _ => by omega⟩
  · rw [if_neg c1]
    by_cases c2 : b < 99
    · rw [if_pos c2, n_leL (by simp) (by omega)]
      exact propext ⟨fun _ => by omega, fun _ => by omega⟩
    · rw [if_neg c2]
      exact propext ⟨fun _ => by omega, fun _ => Int32.le_refl _⟩
theorem farC_fin {a : Nat} (ha : a ≤ 99) : (farC a < 1000000) = (a < 99) := by
  unfold farC
  by_cases c1 : a < 99
  · rw [if_pos c1, n_ltR (by omega) (by simp)]
    exact propext ⟨fun _ => c1, fun _ => by omega⟩
  · rw [if_neg c1]
    exact propext ⟨fun h => absurd h (by decide), fun h => absurd h c1⟩
theorem farC_min {a : Nat} (ha : a ≤ 99) : pmin 99 (farC a) = Int32.ofNat a := by
  unfold farC pmin
  by_cases c1 : a < 99
  · rw [if_pos c1, if_pos (by rw [n_ltR (by omega) (by simp)]; exact c1)]
  · rw [if_neg c1]
    obtain rfl : a = 99 := by omega
    decide
theorem pmm_wth {v lo hi : Int32} (h : lo ≤ hi) : pmax lo (pmin hi v) = wth v lo hi := by
  unfold pmax pmin wth
  rw [Int32.le_iff_toInt_le] at h
  by_cases c1 : v < hi
  · rw [if_pos c1]
    rw [Int32.lt_iff_toInt_lt] at c1
    by_cases c2 : lo < v
    · rw [if_pos c2]
      rw [Int32.lt_iff_toInt_lt] at c2
      rw [if_neg (by rw [Int32.lt_iff_toInt_lt]; omega), if_neg (by rw [Int32.lt_iff_toInt_lt]; omega)]
    · rw [if_neg c2]
      by_cases c3 : v < lo
      · rw [if_pos c3]
      · rw [if_neg c3, if_neg (by rw [Int32.lt_iff_toInt_lt]; omega)]
        rw [Int32.lt_iff_toInt_lt] at c2 c3
        exact Int32.toInt_inj.mp (by omega)
  · rw [if_neg c1]
    rw [Int32.lt_iff_toInt_lt] at c1
    by_cases c2 : lo < hi
    · rw [if_pos c2]
      rw [Int32.lt_iff_toInt_lt] at c2
      rw [if_neg (by rw [Int32.lt_iff_toInt_lt]; omega)]
      by_cases c3 : hi < v
      · rw [if_pos c3]
      · rw [if_neg c3]
        rw [Int32.lt_iff_toInt_lt] at c3
        exact Int32.toInt_inj.mp (by omega)
    · rw [if_neg c2]
      rw [Int32.lt_iff_toInt_lt] at c2
      rw [if_neg (by rw [Int32.lt_iff_toInt_lt]; omega)]
      by_cases c3 : hi < v
      · rw [if_pos c3]
        exact Int32.toInt_inj.mp (by omega)
      · rw [if_neg c3]
        rw [Int32.lt_iff_toInt_lt] at c3
        exact Int32.toInt_inj.mp (by omega)
section C
variable {n : Nat} {K : Nat → pKd} {A0 A : pA} {G : pG} {tx o : Nat} {T : Tx} {B : Nat} {R : Rw}
theorem c_size1 (ho : oT o) (hM : CM n K A0 G tx T) (h : CS A0 A o R) {Q : Int32 → Prop} (hQ : Q (Int32.ofNat T.pl)) : fJ5_size (tx + 1) A Q := by
  unfold fJ5_size; rw [h.txj ho hM (by omega), hM.pl]; exact hQ
theorem c_size2 (ho : oT o) (hM : CM n K A0 G tx T) (h : CS A0 A o R) {Q : Int32 → Prop} (hQ : Q (Int32.ofNat T.dg)) : fJ5_size (tx + 2) A Q := by
  unfold fJ5_size; rw [h.txj ho hM (by omega), hM.dg]; exact hQ
theorem c_size3 (ho : oT o) (hM : CM n K A0 G tx T) (h : CS A0 A o R) {Q : Int32 → Prop} (hQ : Q (Int32.ofNat T.pe)) : fJ5_size (tx + 3) A Q := by
  unfold fJ5_size; rw [h.txj ho hM (by omega), hM.pe]; exact hQ
theorem c_spot (hT : VT T) (ho : oT o) (hM : CM n K A0 G tx T) (h : CS A0 A o R) {p : Nat} (hp : p < T.pl) {Q : Nat → Prop} (hQ : ∀ r, r < n → K r = .inl 14 → A r 1 = T.nx p → Q r) : fJ5_get (tx + 1) n K A G (Int32.ofNat p) Q := by
  have := hT.pl
  obtain ⟨r, hg, hk, ha⟩ := hM.spot p hp
  refine c_get hg (m := T.pl) (by rw [h.txj ho hM (by omega), hM.pl]) hp (by omega) ?_
  obtain ⟨e, z, g1, g2, g3, g4, g5, g6, g7, g8⟩ := hg
  exact hQ r g7 hk (by rw [h.hi ho g8]; exact ha)
theorem c_dog (hT : VT T) (ho : oT o) (hM : CM n K A0 G tx T) (h : CS A0 A o R) {d : Nat} (hd : d < T.dg) {Q : Nat → Prop} (hQ : ∀ r, r < n → K r = .inl 15 → A r 1 = Int32.ofNat (T.ken d) → A r 2 = T.bit d → A r 3 = T.hun d → Q r) : fJ5_get (tx + 2) n K A G (Int32.ofNat d) Q := by
  have := hT.dg
  obtain ⟨r, hg, hk, h1, h2, h3⟩ := hM.dog d hd
  refine c_get hg (m := T.dg) (by rw [h.txj ho hM (by omega), hM.dg]) hd (by omega) ?_
  obtain ⟨e, z, g1, g2, g3, g4, g5, g6, g7, g8⟩ := hg
  exact hQ r g7 hk (by rw [h.hi ho g8]; exact h1) (by rw [h.hi ho g8]; exact h2) (by rw [h.hi ho g8]; exact h3)
theorem c_per (hT : VT T) (ho : oT o) (hM : CM n K A0 G tx T) (h : CS A0 A o R) {a : Nat} (ha : a < T.pe) {Q : Nat → Prop} (hQ : ∀ r, r < n → K r = .inl 16 → A r 1 = Int32.ofNat (T.hom a) → A r 2 = T.pok a → Q r) : fJ5_get (tx + 3) n K A G (Int32.ofNat a) Q := by
  have := hT.pe
  obtain ⟨r, hg, hk, h1, h2⟩ := hM.per a ha
  refine c_get hg (m := T.pe) (by rw [h.txj ho hM (by omega), hM.pe]) ha (by omega) ?_
  obtain ⟨e, z, g1, g2, g3, g4, g5, g6, g7, g8⟩ := hg
  exact hQ r g7 hk (by rw [h.hi ho g8]; exact h1) (by rw [h.hi ho g8]; exact h2)
theorem c_areNext (hT : VT T) (ho : oT o) (hM : CM n K A0 G tx T) (h : CS A0 A o R) {p q : Nat} (hp : p < T.pl) (hq : q < 32) {Q : Int32 → Prop} (hQ : Q (if nxt T p q then 1 else 0)) : fX4_areNext tx n K A G (Int32.ofNat p) (Int32.ofNat q) Q := by
  unfold fX4_areNext
  refine c_spot hT ho hM h hp (fun r r1 r2 r3 => ⟨r1, r2, ?_⟩)
  rw [n_m31 hq, r3]
  by_cases c : nxt T p q
  · rw [if_pos c] at hQ; exact n_pos c hQ
  · rw [if_neg c] at hQ; exact n_neg c hQ
theorem c_stepC (hT : VT T) (ho : oT o) (hM : CM n K A0 G tx T) (h : CS A0 A o R) {p q : Nat} (hp : p < T.pl) (hq : q < T.pl) {Q : Int32 → Prop} (hQ : Q (Int32.ofNat (cStep T p q))) : fX4_step tx n K A G (Int32.ofNat p) (Int32.ofNat q) Q := by
  have p7 := hT.pl
  unfold fX4_step
  refine lp_up (fun m i (x : Nat) => fX4_step_L5 tx n K A G Q m (Int32.ofNat p) (Int32.ofNat q) (Int32.ofNat x) i) T.pl (by omega) (fun i x => x = iter (fun q' (s : Nat) => if nxt T p q' ∧ T.far q' q < T.far s q then q' else s) i p ∧ x < T.pl) ?_ ?_ p ⟨rfl, hp⟩
  · intro m i x hi ⟨e, hx⟩ hn
    unfold fX4_step_L5 fX4_step_J50
    refine c_size1 ho hM h ?_
    rw [if_neg (by rw [n_le (by omega) (by omega)]; omega)]
    refine c_areNext hT ho hM h hp (by omega) ?_
    have e1 := hM.far i q (by omega) (by omega)
    have e2 := hM.far x q (by omega) (by omega)
    simp (disch := omega) only [n_addR]
    by_cases c : nxt T p i
    · rw [if_pos c, if_neg (by decide)]
      simp (disch := omega) only [n_inT, n_nat, true_and]
      rw [h.tx8 ho hM (by omega), h.tx8 ho hM (by omega), e1, e2]
      have ef := farC_le (hT.far x q) (hT.far i q)
      by_cases c2 : T.far x q ≤ T.far i q
      · refine n_pos (by rw [ef]; exact c2) ?_
        refine hn x ⟨?_, hx⟩
        show _ = ite _ _ _
        rw [← e, if_neg (fun hh => by omega)]
      · refine n_neg (by rw [ef]; exact c2) ?_
        refine hn i ⟨?_, hi⟩
        show _ = ite _ _ _
        rw [← e, if_pos ⟨c, by omega⟩]
    · rw [if_neg c, if_pos rfl]
      refine hn x ⟨?_, hx⟩
      show _ = ite _ _ _
      rw [← e, if_neg (fun hh => c hh.1)]
  · intro m x ⟨e, hx⟩
    unfold fX4_step_L5
    refine c_size1 ho hM h ?_
    rw [if_pos (Int32.le_refl _), e]
    exact hQ
theorem c_minute (ho : oT o) (hM : CM n K A0 G tx T) (h : CS A0 A o R) {Q : Int32 → Prop} (hQ : Q (sMin T R)) : fX5_minute o tx A Q := by
  unfold fX5_minute
  rw [h.tx0 ho hM, hM.st, h.tv.tim]
  exact hQ
theorem c_isFetched (h : CS A0 A o R) (hV : VR T B R) {a : Nat} (ha : a < 4) {Q : Int32 → Prop} (hQ : Q (if R (27 + a) = 1 then 1 else 0)) : fX5_isFetched o A (Int32.ofNat a) Q := by
  unfold fX5_isFetched
  rw [n_m31 (by omega), h.tv.fet, bits4_get hV.fet ha]
  by_cases c : R (27 + a) = 1
  · rw [if_pos c] at hQ ⊢; exact hQ
  · rw [if_neg c] at hQ ⊢; exact hQ
theorem CS.askP (h : CS A0 A o R) {A' : pA} {j : Nat} {v : Int32} (e : A' = pup A (o + 22) j v) : CS A0 A' o R := h.step e (by omega) h.tv.ask
theorem CS.nouP (h : CS A0 A o R) {A' : pA} (f : ∀ c, c ≠ o + 21 → A' c = A c) : CS A0 A' o R := by
  refine ⟨fun c hc => by rw [f c (by omega)]; exact h.fr c hc, ?_⟩
  have t := h.tv
  exact ⟨fun x hx => by rw [f _ (by omega)]; exact t.dog x hx, fun x hx => by rw [f _ (by omega)]; exact t.tak x hx, fun x hx => by rw [f _ (by omega)]; exact t.too x hx, fun x hx => by rw [f _ (by omega)]; exact t.at_ x hx, fun x hx => by rw [f _ (by omega)]; exact t.goal x hx, fun x hx => by rw [f _ (by omega)]; exact t.pok x hx, fun x hx => by rw [f _ (by omega)]; exact t.oft x hx, fun d a hd ha => by rw [f _ (by omega)]; exact t.fed d a hd ha, fun d a hd ha => by rw [f _ (by omega)]; exact t.kik d a hd ha, by rw [f _ (by omega)]; exact t.fet, by rw [f _ (by omega)]; exact t.don, by rw [f _ (by omega)]; exact t.tim⟩
theorem c_asks (hT : VT T) (hV : VR T B R) (ho : oT o) (hM : CM n K A0 G tx T) (h : CS A0 A o R) {d a : Nat} (hd : d < T.dg) (ha : a < T.pe) {Q : pA → Prop} (hQ : ∀ A', CS A0 A' o R → (∀ k, k < 9 → A' (o + 22) k = sVar T R d a k) → A' (o + 20) = A (o + 20) → Q A') : fX5_asks o tx n K A G (Int32.ofNat d) (Int32.ofNat a) Q := by
  have := hT.dg; have := hT.pe; have := hT.pl
  obtain ⟨x, hx, ex⟩ := hV.dog hT d hd
  obtain ⟨y, hy, ey⟩ := hV.at_ hT a ha
  unfold fX5_asks
  simp (disch := omega) only [n_inT, n_nat, true_and]
  intro A3 e3
  have h3 : CS A0 A3 o R := h.askP e3
  intro A6 e6
  have h6 : CS A0 A6 o R := h3.askP e6
  rw [h6.tv.dog d (by omega), h6.tv.at_ a (by omega), ex, ey]
  simp (disch := omega) only [n_inT, n_nat, true_and]
  intro A11 e11
  have h11 : CS A0 A11 o R := h6.askP e11
  intro A13 e13
  have h13 : CS A0 A13 o R := h11.askP e13
  refine c_dog hT ho hM h13 hd (fun r r1 r2 r3 r4 r5 => ⟨r1, r2, ?_⟩)
  intro A17 e17
  have h17 : CS A0 A17 o R := h13.askP e17
  refine c_dog hT ho hM h17 hd (fun s s1 s2 s3 s4 s5 => ⟨s1, s2, ?_⟩)
  intro A21 e21
  have h21 : CS A0 A21 o R := h17.askP e21
  refine c_minute ho hM h21 ?_
  intro A23 e23
  have h23 : CS A0 A23 o R := h21.askP e23
  intro A24 e24
  have h24 : CS A0 A24 o R := h23.askP e24
  intro A26 e26
  refine hQ A26 (h24.askP e26) (fun k hk => ?_) ?_
  · rw [h24.tv.tak d (by omega)] at e26
    rw [s5] at e21
    rw [r4] at e17
    rw [h11.tv.pok a (by omega)] at e13
    rw [h6.tx8 ho hM (by omega), hM.far x y (by omega) (by omega), farC_min (hT.far _ _)] at e11
    rw [h3.tv.kik d a (by omega) (by omega)] at e6
    rw [h.tv.fed d a (by omega) (by omega)] at e3
    rw [e26, e24, e23, e21, e17, e13, e11, e6, e3]
    simp only [pup_row, wup, sVar, sVarD]
    rcases (show k = 0 ∨ k = 1 ∨ k = 2 ∨ k = 3 ∨ k = 4 ∨ k = 5 ∨ k = 6 ∨ k = 7 ∨ k = 8 by omega) with rfl | rfl | rfl | rfl | rfl | rfl | rfl | rfl | rfl <;> simp
    rw [ex, ey, n_ix (by omega), n_ix (by omega)]
  · rw [e26, e24, e23, e21, e17, e13, e11, e6, e3]
    simp only [pup_ne (show o + 20 ≠ o + 22 by omega)]
end C
