set_option maxRecDepth 100000
set_option linter.all false
/-! ===== what is done ===== -/
theorem n_mod {a m : Nat} (ha : a < 2147483648) (hm : m < 2147483648) : Int32.ofNat a - Int32.ofNat a / Int32.ofNat m * Int32.ofNat m = Int32.ofNat (a % m) := by
  have h2 := Nat.div_mul_le_self a m
  rw [n_div ha hm, n_mul, n_sub h2]
  congr 1
  have := Nat.div_add_mod a m
  rw [Nat.mul_comm] at this
  omega
theorem m_fill {c cs : Nat} (hne : c ≠ cs) {L : (pA → Prop) → Nat → Int32 → pA → Prop} {N o : Nat} : True := trivial
section I
variable {B : Nat} {x : St} {n : Nat} {K : Nat → pKd} {A A1 A' : pA} {Lg : pL} {G : pG}
theorem c_keeps {tx u w : Nat} {R : Rw} (hu : u ≤ 40) (hw : w < 40) (eu : A 0 5 = Int32.ofNat u) (ew : A 0 6 = Int32.ofNat w) (ht : TV 25 A R) {Q : pA → Prop} (hQ : ∀ A', (∀ c, c ≠ 0 → (c < 278 + 23 * w ∨ 278 + 23 * w + 23 ≤ c) → A' c = A c) → (∀ j, j ≠ 5 → j ≠ 6 → A' 0 j = A 0 j) → A' 0 5 = Int32.ofNat (min 40 (u + 1)) → A' 0 6 = Int32.ofNat ((w + 1) % 40) → TV (278 + 23 * w) A' R → Q A') : fX0_keeps tx A Q := by
  unfold fX0_keeps
  rw [ew]
  refine ⟨n_in hw (by omega), ?_⟩
  rw [n_nat (by omega)]
  refine c_takes (by omega) ht (fun A2 h2 => ?_)
  intro A3 e3 A4 e4
  have f0 : A2 0 = A 0 := h2.fr 0 (by omega)
  rw [f0, ew, n_addR, show (40 : Int32) = Int32.ofNat 40 from rfl, n_mod (by omega) (by omega)] at e3
  have g0 : A3 0 5 = Int32.ofNat u := by rw [e3, pup_row, wup_ne (by omega), f0, eu]
  have gm : pmin 40 (Int32.ofNat u + 1) = Int32.ofNat (min 40 (u + 1)) := by
    unfold pmin
    rw [n_addR]
    by_cases c : u + 1 < 40
    · rw [if_pos (by rw [n_ltR (by omega) (by simp)]; exact c), Nat.min_eq_right (by omega)]
    · rw [if_neg (by rw [n_ltR (by omega) (by simp)]; exact c), Nat.min_eq_left (by omega)]; rfl
  rw [g0, gm] at e4
  refine hQ A4 (fun c h0 hc => ?_) (fun j h5 h6 => ?_) ?_ ?_ (h2.tv.same (fun j hj => ?_))
  · rw [e4, pup_ne h0, e3, pup_ne h0]; exact h2.fr c (by omega)
  · rw [e4, pup_row, wup_ne h5, e3, pup_row, wup_ne h6, f0]
  · rw [e4, pup_row, wup_self]
  · rw [e4, pup_row, wup_ne (by omega), e3, pup_row, wup_self]
  · rw [e4, pup_ne (by omega), e3, pup_ne (by omega)]
theorem m_keepsRow {R' : Rw} (hr : ∀ k, k < 77 → A 1238 k = R' k) {Q : pA → Prop} (hQ : ∀ A', (∀ c, c ≠ 1237 → A' c = A c) → (∀ k, k < 77 → A' 1237 k = R' k) → Q A') : fX10_keepsRow A Q := by
  unfold fX10_keepsRow
  refine lp_up (fun m i (y : pA) => fX10_keepsRow_L2 Q m i y) 77 (by omega) (fun i y => (∀ c, c ≠ 1237 → y c = A c) ∧ ∀ k, k < i → y 1237 k = R' k) ?_ ?_ A ⟨fun _ _ => rfl, fun k hk => absurd hk (Nat.not_lt_zero k)⟩
  · intro m i y hi ⟨f, g⟩ hn
    unfold fX10_keepsRow_L2
    rw [if_neg (by rw [n_leL (by simp) (by omega)]; omega)]
    simp (disch := omega) only [n_inT, n_nat, true_and, n_addR]
    intro A3 e3
    rw [f 1238 (by omega), hr i hi] at e3
    refine hn A3 ⟨fun c hc => by rw [e3, pup_ne hc]; exact f c hc, fun k hk => ?_⟩
    rw [e3, pup_row]
    unfold wup
    by_cases c : k = i
    · rw [if_pos c, c]
    · rw [if_neg c]; exact g k (by omega)
  · intro m y ⟨f, g⟩
    unfold fX10_keepsRow_L2
    rw [if_pos (by decide)]
    exact hQ y f g
theorem m_records {R R' : Rw} {u : Nat} (hu : u ≤ 40) (eu : A 1198 58 = Int32.ofNat u) (hn : ∀ k, k < 77 → A 1237 k = R k) (hr : ∀ k, k < 77 → A 1238 k = R' k) {Q : pA → Prop}
    (hQ : ∀ A', (∀ c, c ≠ 1198 → c ≠ 1237 → c ≠ 1239 → A' c = A c) → (∀ j, j ≠ 58 → A' 1198 j = A 1198 j) → A' 1198 58 = Int32.ofNat (min 40 (u + 1)) → (∀ k, k < 77 → A' 1237 k = R' k) →
      (∀ j, j < min 40 (u + 1) → ∀ k, k < 77 → A' 1239 (77 * j + k) = if j + 1 = min 40 (u + 1) then R k else A 1239 (77 * (if u = 40 then j + 1 else j) + k)) → Q A') : fX10_records A Q := by
  have J : ∀ (v : Nat) (A1 : pA), v < 40 → A1 1198 58 = Int32.ofNat v → (∀ c, c ≠ 1198 → c ≠ 1239 → A1 c = A c) → (∀ j, j ≠ 58 → A1 1198 j = A 1198 j) → v + 1 = min 40 (u + 1) → (∀ j, j < v → ∀ k, k < 77 → A1 1239 (77 * j + k) = A 1239 (77 * (if u = 40 then j + 1 else j) + k)) → fX10_records_J49 Q A1 := by
    intro v A1 hv ev f1 g1 hvu h1
    unfold fX10_records_J49
    refine lp_up (fun m i (y : pA) => fX10_records_L51 Q m i y) 77 (by omega) (fun i y => (∀ c, c ≠ 1239 → y c = A1 c) ∧ (∀ k, k < i → y 1239 (77 * v + k) = R k) ∧ (∀ k, k < 77 * v → y 1239 k = A1 1239 k)) ?_ ?_ A1 ⟨fun _ _ => rfl, fun k hk => absurd hk (Nat.not_lt_zero k), fun _ _ => rfl⟩
    · intro m i y hi ⟨f, g, g2⟩ hn'
      unfold fX10_records_L51
      rw [if_neg (by rw [n_leL (by simp) (by omega)]; omega), f 1198 (by omega), ev]
      simp (disch := omega) only [n_inT, n_nat, true_and, n_addR, n_mulL, n_add]
      intro A5 e5
      rw [f 1237 (by omega), f1 1237 (by omega) (by omega), hn i hi] at e5
      refine hn' A5 ⟨fun c hc => by rw [e5, pup_ne hc]; exact f c hc, fun k hk => ?_, fun k hk => ?_⟩
      · rw [e5, pup_row]
        unfold wup
        by_cases c : k = i
        · rw [if_pos (by omega), c]
        · rw [if_neg (by omega)]; exact g k (by omega)
      · rw [e5, pup_row, wup_ne (by omega)]; exact g2 k hk
    · intro m y ⟨f, g, g2⟩
      unfold fX10_records_L51
      rw [if_pos (by decide)]
      intro A1' e1'
      rw [f 1198 (by omega), ev, n_addR] at e1'
      have hr' : ∀ k, k < 77 → A1' 1238 k = R' k := fun k hk => by rw [e1', pup_ne (by omega), f 1238 (by omega), f1 1238 (by omega) (by omega)]; exact hr k hk
      refine m_keepsRow hr' (fun A2 k1 k2 => ?_)
      refine hQ A2 (fun c h1' h2' h3' => by rw [k1 c h2', e1', pup_ne h1', f c h3', f1 c h1' h3']) (fun j hj => by rw [k1 1198 (by omega), e1', pup_row, wup_ne hj, f 1198 (by omega), g1 j hj]) (by rw [k1 1198 (by omega), e1', pup_row, wup_self, hvu]) k2 (fun j hj k hk => ?_)
      rw [k1 1239 (by omega), e1', pup_ne (by omega)]
      by_cases c : j + 1 = min 40 (u + 1)
      · rw [if_pos c, show j = v by omega]; exact g k hk
      · rw [if_neg c, g2 _ (by omega)]; exact h1 j (by omega) k hk
  unfold fX10_records
  rw [eu]
  by_cases c : u = 40
  · subst c
    rw [if_pos (show Int32.ofNat 40 = 40 from rfl)]
    refine lp_up (fun m i (y : pA) => fX10_records_L11 Q m i y) 3003 (by omega) (fun i y => (∀ c, c ≠ 1239 → y c = A c) ∧ (∀ k, k < i → y 1239 k = A 1239 (k + 77)) ∧ (∀ k, i ≤ k → y 1239 k = A 1239 k)) ?_ ?_ A ⟨fun _ _ => rfl, fun k hk => absurd hk (Nat.not_lt_zero k), fun _ _ => rfl⟩
    · intro m i y hi ⟨f, g, g2⟩ hn'
      unfold fX10_records_L11
      rw [if_neg (by rw [n_leL (by simp) (by omega)]; omega)]
      simp (disch := omega) only [n_inT, n_nat, true_and, n_addR]
      intro A5 e5
      rw [g2 (i + 77) (by omega)] at e5
      refine hn' A5 ⟨fun c hc => by rw [e5, pup_ne hc]; exact f c hc, fun k hk => ?_, fun k hk => ?_⟩
      · rw [e5, pup_row]
        unfold wup
        by_cases c : k = i
        · rw [if_pos c, c]
        · rw [if_neg c]; exact g k (by omega)
      · rw [e5, pup_row, wup_ne (by omega)]; exact g2 k (by omega)
    · intro m y ⟨f, g, g2⟩
      unfold fX10_records_L11
      rw [if_pos (by decide)]
      intro A7 e7
      rw [f 1198 (by omega), eu, show (1 : Int32) = Int32.ofNat 1 from rfl, n_sub (by omega)] at e7
      refine J 39 A7 (by omega) (by rw [e7, pup_row, wup_self]) (fun c h1 h2 => by rw [e7, pup_ne h1]; exact f c h2) (fun j hj => by rw [e7, pup_row, wup_ne hj, f 1198 (by omega)]) (by omega) (fun j hj k hk => ?_)
      rw [e7, pup_ne (by omega), g _ (by omega), if_pos rfl]
      congr 1; omega
  · rw [if_neg (by rw [n_eqR (by omega) (by simp)]; exact c)]
    exact J u A (by omega) eu (fun _ _ _ => rfl) (fun _ _ => rfl) (by omega) (fun j hj k hk => by rw [if_neg c])
def pushH (x : St) : Nat → Rw := fun j => if j + 1 = min 40 (x.u + 1) then x.R else x.H (if x.u = 40 then j + 1 else j)
def pushS (x : St) (R' : Rw) : St := St.mk x.T x.s x.tx R' (min 40 (x.u + 1)) ((x.w + 1) % 40) (pushH x) x.S x.to
theorem INV.push (h : INV B x n K A Lg G) {A2 : pA} {R' : Rw} {B' : Nat} (hB : B ≤ B') (hV : VR x.T B' R')
    (c1 : ∀ c, c ≠ 0 → (c < 278 + 23 * x.w ∨ 278 + 23 * x.w + 23 ≤ c) → (c < 25 ∨ 48 ≤ c) → A1 c = A c)
    (c2 : ∀ j, j ≠ 5 → j ≠ 6 → A1 0 j = A 0 j) (c3 : A1 0 5 = Int32.ofNat (min 40 (x.u + 1))) (c4 : A1 0 6 = Int32.ofNat ((x.w + 1) % 40)) (c5 : TV (278 + 23 * x.w) A1 x.R) (c6 : TV 25 A1 R')
    (m1 : ∀ c, c ≠ 1198 → c ≠ 1234 → c ≠ 1235 → c ≠ 1237 → c ≠ 1238 → c ≠ 1239 → A2 c = A1 c) (m2 : ∀ j, j ≠ 54 → j ≠ 58 → A2 1198 j = A1 1198 j) (m3 : A2 1198 58 = Int32.ofNat (min 40 (x.u + 1))) (m4 : ∀ k, k < 77 → A2 1237 k = R' k)
    (m5 : ∀ j, j < min 40 (x.u + 1) → ∀ k, k < 77 → A2 1239 (77 * j + k) = if j + 1 = min 40 (x.u + 1) then x.R k else A 1239 (77 * (if x.u = 40 then j + 1 else j) + k)) : INV B' (pushS x R') n K A2 Lg G := by
  have hw := h.w40; have hu := h.u40
  have fr : ∀ c, c ≠ 0 → (c < 278 + 23 * x.w ∨ 278 + 23 * x.w + 23 ≤ c) → (c < 25 ∨ 48 ≤ c) → c ≠ 1198 → c ≠ 1234 → c ≠ 1235 → c ≠ 1237 → c ≠ 1238 → c ≠ 1239 → A2 c = A c := fun c a0 a1 a2 a3 a4 a5 a6 a7 a8 => by rw [m1 c a3 a4 a5 a6 a7 a8, c1 c a0 a1 a2]
  have f98 : A1 1198 = A 1198 := c1 1198 (by omega) (by omega) (by omega)
  have e2 := fr 2 (by omega) (by omega) (by omega) (by omega) (by omega) (by omega) (by omega) (by omega) (by omega)
  have e4 := fr 4 (by omega) (by omega) (by omega) (by omega) (by omega) (by omega) (by omega) (by omega) (by omega)
  have e0 : ∀ j, j ≠ 5 → j ≠ 6 → A2 0 j = A 0 j := fun j h5 h6 => by rw [m1 0 (by omega) (by omega) (by omega) (by omega) (by omega) (by omega)]; exact c2 j h5 h6
  have e98 : ∀ j, j ≠ 54 → j ≠ 58 → A2 1198 j = A 1198 j := fun j h5 h6 => by rw [m2 j h5 h6, f98]
  refine ⟨h.vt, h.vf, h.cm.same (fun j hj => fr _ (by rcases h.cm.tc with c | c <;> omega) (by rcases h.cm.tc with c | c <;> omega) (by rcases h.cm.tc with c | c <;> omega) (by rcases h.cm.tc with c | c <;> omega) (by rcases h.cm.tc with c | c <;> omega) (by rcases h.cm.tc with c | c <;> omega) (by rcases h.cm.tc with c | c <;> omega) (by rcases h.cm.tc with c | c <;> omega) (by rcases h.cm.tc with c | c <;> omega)) (fun c hc => fr c (by omega) (by omega) (by omega) (by omega) (by omega) (by omega) (by omega) (by omega) (by omega)), h.mm.same (fun c h1 h2 => fr c (by omega) (by omega) (by omega) (by omega) (by omega) (by omega) (by omega) (by omega) (by omega)) (fr _ (by omega) (by omega) (by omega) (by omega) (by omega) (by omega) (by omega) (by omega) (by omega)) (e98 18 (by omega) (by omega)), h.g03, h.xok, h.fok, h.mok, hV, ?_, m4, ?_, ?_, ?_, ?_, ?_, ?_, ?_, ?_, ?_, ?_, h.to20, ?_, ?_, ?_, ?_, h.keys⟩
  · exact c6.same (fun j hj => m1 _ (by omega) (by omega) (by omega) (by omega) (by omega) (by omega))
  · rw [e98 2 (by omega) (by omega), e2]; exact h.tp1
  · rw [e2]; exact h.tp2
  · intro k hk
    rw [e4, fr 1199 (by omega) (by omega) (by omega) (by omega) (by omega) (by omega) (by omega) (by omega) (by omega)]; exact h.tp3 k hk
  · rw [e98 17 (by omega) (by omega), e0 4 (by omega) (by omega)]; exact h.plc
  · show min 40 (x.u + 1) ≤ 40
    omega
  · rw [m1 0 (by omega) (by omega) (by omega) (by omega) (by omega) (by omega)]; exact c3
  · exact m3
  · show (x.w + 1) % 40 < 40
    omega
  · rw [m1 0 (by omega) (by omega) (by omega) (by omega) (by omega) (by omega)]; exact c4
  · intro j hj
    have hj : j < min 40 (x.u + 1) := hj
    show VR x.T B' (pushH x j) ∧ (∀ k, k < 77 → A2 1239 (77 * j + k) = pushH x j k) ∧ TV (278 + 23 * (((x.w + 1) % 40 + 40 - min 40 (x.u + 1) + j) % 40)) A2 (pushH x j)
    unfold pushH
    by_cases c : j + 1 = min 40 (x.u + 1)
    · rw [if_pos c]
      refine ⟨h.vr.mono hB, fun k hk => by rw [m5 j hj k hk, if_pos c], ?_⟩
      have : ((x.w + 1) % 40 + 40 - min 40 (x.u + 1) + j) % 40 = x.w := by omega
      rw [this]
      exact c5.same (fun j hj => m1 _ (by omega) (by omega) (by omega) (by omega) (by omega) (by omega))
    · rw [if_neg c]
      have hj2 : (if x.u = 40 then j + 1 else j) < x.u := by split <;> omega
      obtain ⟨v1, v2, v3⟩ := h.his _ hj2
      refine ⟨v1.mono hB, fun k hk => by rw [m5 j hj k hk, if_neg c]; exact v2 k hk, ?_⟩
      have ei : ((x.w + 1) % 40 + 40 - min 40 (x.u + 1) + j) % 40 = (x.w + 40 - x.u + (if x.u = 40 then j + 1 else j)) % 40 := by split <;> omega
      have en : (x.w + 40 - x.u + (if x.u = 40 then j + 1 else j)) % 40 ≠ x.w := by split <;> omega
      have el := tv_far (i := x.w + 40 - x.u + (if x.u = 40 then j + 1 else j))
      rw [ei]
      exact v3.same (fun j' hj' => fr _ (by omega) (by omega) (by omega) (by omega) (by omega) (by omega) (by omega) (by omega) (by omega))
  · rw [e0 14 (by omega) (by omega)]; exact h.cto
  · rw [e98 61 (by omega) (by omega)]; exact h.mto
  · intro k hk
    rw [fr 275 (by omega) (by omega) (by omega) (by omega) (by omega) (by omega) (by omega) (by omega) (by omega), fr 276 (by omega) (by omega) (by omega) (by omega) (by omega) (by omega) (by omega) (by omega) (by omega), fr 1241 (by omega) (by omega) (by omega) (by omega) (by omega) (by omega) (by omega) (by omega) (by omega), fr 1242 (by omega) (by omega) (by omega) (by omega) (by omega) (by omega) (by omega) (by omega) (by omega)]; exact h.tel k hk
  · intro k hk
    obtain ⟨h1, h2, h3⟩ := h.hel k hk
    rw [fr 145 (by omega) (by omega) (by omega) (by omega) (by omega) (by omega) (by omega) (by omega) (by omega), fr 1244 (by omega) (by omega) (by omega) (by omega) (by omega) (by omega) (by omega) (by omega) (by omega), fr 1245 (by omega) (by omega) (by omega) (by omega) (by omega) (by omega) (by omega) (by omega) (by omega)]
    exact ⟨h1, h2, fun e => ⟨(h3 e).1.mono hB, (h3 e).2.1.same (fun j' hj' => fr _ (by omega) (by omega) (by omega) (by omega) (by omega) (by omega) (by omega) (by omega) (by omega)), (h3 e).2.2⟩⟩
end I
