set_option maxRecDepth 100000
set_option linter.all false
def bytN (v s : Int32) : Int32 := vp_nar .byte ((v >>> (s &&& 31)).toInt8.toInt32)
def put4 (f : Nat → Int32) (t : Nat) (v : Int32) : Nat → Int32 := wup (wup (wup (wup f t (bytN v 24)) (t + 1) (bytN v (24 + -8))) (t + 2) (bytN v (24 + -8 + -8))) (t + 3) (bytN v (24 + -8 + -8 + -8))
theorem bytN_in (v s : Int32) : -128 ≤ (bytN v s).toInt ∧ (bytN v s).toInt ≤ 127 := by
  have e : ∀ z : Int8, -128 ≤ z.toInt32.toInt ∧ z.toInt32.toInt ≤ 127 := by
    intro z
    rw [Int8.toInt_toInt32]
    have h1 := Int8.toInt_lt z
    have h2 := Int8.le_toInt z
    omega
  exact e _
theorem put4_in {f g : Nat → Int32} {t : Nat} {v : Int32} (h : ∀ k, k < 2000 → f k = g k ∧ -128 ≤ (g k).toInt ∧ (g k).toInt ≤ 127) : ∀ k, k < 2000 → put4 f t v k = put4 g t v k ∧ -128 ≤ (put4 g t v k).toInt ∧ (put4 g t v k).toInt ≤ 127 := by
  have one : ∀ (f g : Nat → Int32) (j : Nat) (s : Int32), (∀ k, k < 2000 → f k = g k ∧ -128 ≤ (g k).toInt ∧ (g k).toInt ≤ 127) → ∀ k, k < 2000 → wup f j (bytN v s) k = wup g j (bytN v s) k ∧ -128 ≤ (wup g j (bytN v s) k).toInt ∧ (wup g j (bytN v s) k).toInt ≤ 127 := by
    intro f g j s h k hk
    unfold wup
    by_cases c : k = j
    · rw [if_pos c, if_pos c]; exact ⟨rfl, bytN_in v s⟩
    · rw [if_neg c, if_neg c]; exact h k hk
  unfold put4
  exact one _ _ _ _ (one _ _ _ _ (one _ _ _ _ (one _ _ _ _ h)))
section I
variable {B : Nat} {x : St} {n : Nat} {K : Nat → pKd} {A A1 A' : pA} {Lg : pL} {G : pG}
theorem c_typed {tx t : Nat} {v : Int32} (ht : t + 4 ≤ 2000) (e : A 2 2 = Int32.ofNat t) {Q : pA → Prop} (hQ : ∀ A', (∀ c, c ≠ 2 → c ≠ 4 → A' c = A c) → (∀ j, j ≠ 2 → A' 2 j = A 2 j) → A' 2 2 = Int32.ofNat (t + 4) → A' 4 = put4 (A 4) t v → Q A') : fX0_typed tx A v Q := by
  unfold fX0_typed
  refine ⟨5, ?_⟩
  have st : ∀ (m : Nat) (s : Int32) (A : pA) (t : Nat), t < 2000 → A 2 2 = Int32.ofNat t → ¬ s < 0 → (∀ A' : pA, (∀ c, c ≠ 2 → c ≠ 4 → A' c = A c) → (∀ j, j ≠ 2 → A' 2 j = A 2 j) → A' 2 2 = Int32.ofNat (t + 1) → A' 4 = wup (A 4) t (bytN v s) → fX0_typed_L3 tx Q m v (s + -8) A') → fX0_typed_L3 tx Q (m + 1) v s A := by
    intro m s A t ht e hs k
    unfold fX0_typed_L3
    rw [if_neg hs, e]
    refine ⟨n_in ht (by omega), ?_⟩
    rw [n_nat (by omega)]
    intro A2 e2 A3 e3
    have g : A2 2 2 = Int32.ofNat t := by rw [e2, pup_ne (by omega)]; exact e
    rw [g, n_addR] at e3
    refine k A3 (fun c h1 h2 => by rw [e3, pup_ne h1, e2, pup_ne h2]) (fun j hj => by rw [e3, pup_row, wup_ne hj, e2, pup_ne (by omega)]) (by rw [e3, pup_row, wup_self]) (by rw [e3, pup_ne (by omega), e2, pup_row]; rfl)
  refine st 4 24 A t (by omega) e (by decide) (fun B1 b1 b2 b3 b4 => ?_)
  refine st 3 _ B1 (t + 1) (by omega) b3 (by decide) (fun B2 c1 c2 c3 c4 => ?_)
  refine st 2 _ B2 (t + 1 + 1) (by omega) c3 (by decide) (fun B3 d1 d2 d3 d4 => ?_)
  refine st 1 _ B3 (t + 1 + 1 + 1) (by omega) d3 (by decide) (fun B4 f1 f2 f3 f4 => ?_)
  unfold fX0_typed_L3
  rw [if_pos (by decide)]
  refine hQ B4 (fun c h1 h2 => by rw [f1 c h1 h2, d1 c h1 h2, c1 c h1 h2, b1 c h1 h2]) (fun j hj => by rw [f2 j hj, d2 j hj, c2 j hj, b2 j hj]) f3 ?_
  rw [f4, d4, c4, b4]; rfl
theorem m_put {t : Nat} {v : Int32} (ht : t + 4 ≤ 2000) (e : A 1198 2 = Int32.ofNat t) {Q : pA → Prop} (hQ : ∀ A', (∀ c, c ≠ 1198 → c ≠ 1199 → A' c = A c) → (∀ j, j ≠ 2 → A' 1198 j = A 1198 j) → A' 1198 2 = Int32.ofNat (t + 4) → A' 1199 = put4 (A 1199) t v → Q A') : fX10_put A v Q := by
  unfold fX10_put
  refine ⟨5, ?_⟩
  have st : ∀ (m : Nat) (s : Int32) (A : pA) (t : Nat), t < 2000 → A 1198 2 = Int32.ofNat t → ¬ s < 0 → (∀ A' : pA, (∀ c, c ≠ 1198 → c ≠ 1199 → A' c = A c) → (∀ j, j ≠ 2 → A' 1198 j = A 1198 j) → A' 1198 2 = Int32.ofNat (t + 1) → A' 1199 = wup (A 1199) t (bytN v s) → fX10_put_L3 Q m v (s + -8) A') → fX10_put_L3 Q (m + 1) v s A := by
    intro m s A t ht e hs k
    unfold fX10_put_L3
    rw [if_neg hs, e]
    refine ⟨n_in ht (by omega), ?_⟩
    rw [n_nat (by omega)]
    intro A2 e2 A3 e3
    have g : A2 1198 2 = Int32.ofNat t := by rw [e2, pup_ne (by omega)]; exact e
    rw [g, n_addR] at e3
    refine k A3 (fun c h1 h2 => by rw [e3, pup_ne h1, e2, pup_ne h2]) (fun j hj => by rw [e3, pup_row, wup_ne hj, e2, pup_ne (by omega)]) (by rw [e3, pup_row, wup_self]) (by rw [e3, pup_ne (by omega), e2, pup_row]; rfl)
  refine st 4 24 A t (by omega) e (by decide) (fun B1 b1 b2 b3 b4 => ?_)
  refine st 3 _ B1 (t + 1) (by omega) b3 (by decide) (fun B2 c1 c2 c3 c4 => ?_)
  refine st 2 _ B2 (t + 1 + 1) (by omega) c3 (by decide) (fun B3 d1 d2 d3 d4 => ?_)
  refine st 1 _ B3 (t + 1 + 1 + 1) (by omega) d3 (by decide) (fun B4 f1 f2 f3 f4 => ?_)
  unfold fX10_put_L3
  rw [if_pos (by decide)]
  refine hQ B4 (fun c h1 h2 => by rw [f1 c h1 h2, d1 c h1 h2, c1 c h1 h2, b1 c h1 h2]) (fun j hj => by rw [f2 j hj, d2 j hj, c2 j hj, b2 j hj]) f3 ?_
  rw [f4, d4, c4, b4]; rfl
theorem d_feed (h : INV B x n K A Lg G) (a b c d e : Int32) : fX0_feed x.tx A a b c d e (fun r A1 => fX10_feed A1 a b c d e (fun r' A2 => r = r' ∧ DONE B n K A2 Lg G)) := by
  obtain ⟨t, ht, et⟩ := h.tp2
  unfold fX0_feed
  rw [et, n_addR]
  by_cases c20 : t + 20 ≤ 2000
  · rw [if_pos (by rw [n_leR (by omega) (by simp)]; exact c20)]
    refine c_typed (by omega) et (fun A1 a1 a2 a3 a4 => ?_)
    refine c_typed (by omega) a3 (fun A2 b1 b2 b3 b4 => ?_)
    refine c_typed (by omega) b3 (fun A3 c1 c2 c3 c4 => ?_)
    refine c_typed (by omega) c3 (fun A4 d1 d2 d3 d4 => ?_)
    refine c_typed (by omega) d3 (fun A5 e1 e2 e3 e4 => ?_)
    have fc : ∀ c, c ≠ 2 → c ≠ 4 → A5 c = A c := fun c h1 h2 => by rw [e1 c h1 h2, d1 c h1 h2, c1 c h1 h2, b1 c h1 h2, a1 c h1 h2]
    have fc2 : ∀ j, j ≠ 2 → A5 2 j = A 2 j := fun j hj => by rw [e2 j hj, d2 j hj, c2 j hj, b2 j hj, a2 j hj]
    rw [d4, c4, b4, a4] at e4
    have et2 : A5 1198 2 = Int32.ofNat t := by rw [fc 1198 (by omega) (by omega), h.tp1, et]
    rw [e3]
    show fX10_feed _ _ _ _ _ _ _
    unfold fX10_feed
    rw [et2, n_addR, if_pos (by rw [n_leR (by omega) (by simp)]; exact c20)]
    refine m_put (by omega) et2 (fun B1 p1 p2 p3 p4 => ?_)
    refine m_put (by omega) p3 (fun B2 q1 q2 q3 q4 => ?_)
    refine m_put (by omega) q3 (fun B3 r1 r2 r3 r4 => ?_)
    refine m_put (by omega) r3 (fun B4 s1 s2 s3 s4 => ?_)
    refine m_put (by omega) s3 (fun B5 t1 t2 t3 t4 => ?_)
    rw [s4, r4, q4, p4, fc 1199 (by omega) (by omega)] at t4
    have fm : ∀ c, c ≠ 1198 → c ≠ 1199 → B5 c = A5 c := fun c h1 h2 => by rw [t1 c h1 h2, s1 c h1 h2, r1 c h1 h2, q1 c h1 h2, p1 c h1 h2]
    have fm2 : ∀ j, j ≠ 2 → B5 1198 j = A 1198 j := fun j hj => by rw [t2 j hj, s2 j hj, r2 j hj, q2 j hj, p2 j hj, fc 1198 (by omega) (by omega)]
    rw [t3]
    have b22 : B5 2 2 = Int32.ofNat (t + 4 + 4 + 4 + 4 + 4) := by rw [fm 2 (by omega) (by omega)]; exact e3
    refine ⟨rfl, x, h.taped (fun c a1 a2 a3 a4 => by rw [fm c a3 a4, fc c a1 a2]) fm2 (by rw [t3, b22]) ⟨t + 4 + 4 + 4 + 4 + 4, by omega, b22⟩ ?_⟩
    rw [t4, fm 4 (by omega) (by omega), e4]
    exact put4_in (put4_in (put4_in (put4_in (put4_in h.tp3))))
  · rw [if_neg (by rw [n_leR (by omega) (by simp)]; exact c20)]
    show fX10_feed _ _ _ _ _ _ _
    unfold fX10_feed
    rw [h.tp1, et, n_addR, if_neg (by rw [n_leR (by omega) (by simp)]; exact c20)]
    exact ⟨rfl, x, h⟩
end I
