set_option maxRecDepth 100000
set_option linter.all false
section I
variable {B : Nat} {x : St} {n : Nat} {K : Nat → pKd} {A A1 A' : pA} {Lg : pL} {G : pG}
/-- all but the town, the row that stands, undos, slots, what is told and the tape -/
theorem INV.chg (h : INV B x n K A Lg G) {x' : St} (hT : x'.T = x.T) (hs : x'.s = x.s) (htx : x'.tx = x.tx)
    (fr : ∀ c, c ≠ 0 → c ≠ 2 → c ≠ 4 → (c < 25 ∨ 142 ≤ c) → c ≠ 145 → c ≠ 275 → c ≠ 276 → (c < 278 ∨ 1198 < c) → c ≠ 1198 → c ≠ 1199 → c ≠ 1237 → c ≠ 1239 → c ≠ 1241 → c ≠ 1242 → c ≠ 1244 → c ≠ 1245 → A' c = A c) (f18 : A' 1198 18 = A 1198 18)
    (vr : VR x.T B x'.R) (tv : TV 25 A' x'.R) (mr : ∀ k, k < 77 → A' 1237 k = x'.R k)
    (tp1 : A' 1198 2 = A' 2 2) (tp2 : ∃ t, t ≤ 2000 ∧ A' 2 2 = Int32.ofNat t) (tp3 : ∀ k, k < 2000 → A' 1199 k = A' 4 k ∧ -128 ≤ (A' 4 k).toInt ∧ (A' 4 k).toInt ≤ 127)
    (plc : A' 1198 17 = A' 0 4) (u40 : x'.u ≤ 40) (cu : A' 0 5 = Int32.ofNat x'.u) (mu : A' 1198 58 = Int32.ofNat x'.u) (w40 : x'.w < 40) (cw : A' 0 6 = Int32.ofNat x'.w)
    (his : ∀ j, j < x'.u → VR x.T B (x'.H j) ∧ (∀ k, k < 77 → A' 1239 (77 * j + k) = x'.H j k) ∧ TV (278 + 23 * ((x'.w + 40 - x'.u + j) % 40)) A' (x'.H j))
    (to20 : x'.to ≤ 20) (cto : A' 0 14 = Int32.ofNat x'.to) (mto : A' 1198 61 = Int32.ofNat x'.to)
    (tel : ∀ k, k < x'.to → ∃ a, a < x.T.pe ∧ A' 275 k = Int32.ofNat a ∧ A' 1241 k = Int32.ofNat a ∧ A' 1242 k = A' 276 k ∧ (A' 276 k = 0 ∨ A' 276 k = 1))
    (hel : ∀ k, k < 3 → A' 1244 k = A' 145 k ∧ (A' 145 k = 0 ∨ A' 145 k = 1) ∧ (A' 145 k = 1 → VR x.T B (x'.S k) ∧ TV (73 + 23 * k) A' (x'.S k) ∧ ∀ j, j < 77 → A' 1245 (77 * k + j) = x'.S k j)) : INV B x' n K A' Lg G := by
  refine ⟨hT ▸ h.vt, hT ▸ h.vf, ?_, ?_, by rw [htx]; exact h.g03, by rw [htx]; exact h.xok, h.fok, h.mok, by rw [hT]; exact vr, tv, mr, tp1, tp2, tp3, plc, u40, cu, mu, w40, cw, by rw [hT]; exact his, to20, cto, mto, by rw [hT]; exact tel, by rw [hT]; exact hel, h.keys⟩
  · rw [htx, hT]
    exact h.cm.same (fun j hj => fr _ (by rcases h.cm.tc with c | c <;> omega) (by rcases h.cm.tc with c | c <;> omega) (by rcases h.cm.tc with c | c <;> omega) (by rcases h.cm.tc with c | c <;> omega) (by rcases h.cm.tc with c | c <;> omega) (by rcases h.cm.tc with c | c <;> omega) (by rcases h.cm.tc with c | c <;> omega) (by rcases h.cm.tc with c | c <;> omega) (by rcases h.cm.tc with c | c <;> omega) (by rcases h.cm.tc with c | c <;> omega) (by rcases h.cm.tc with c | c <;> omega) (by rcases h.cm.tc with c | c <;> omega) (by rcases h.cm.tc with c | c <;> omega) (by rcases h.cm.tc with c | c <;> omega) (by rcases h.cm.tc with c | c <;> omega) (by rcases h.cm.tc with c | c <;> omega)) (fun c hc => fr c (by omega) (by omega) (by omega) (by omega) (by omega) (by omega) (by omega) (by omega) (by omega) (by omega) (by omega) (by omega) (by omega) (by omega) (by omega) (by omega))
  · rw [hT, hs]
    exact h.mm.same (fun c h1 h2 => fr c (by omega) (by omega) (by omega) (by omega) (by omega) (by omega) (by omega) (by omega) (by omega) (by omega) (by omega) (by omega) (by omega) (by omega) (by omega) (by omega)) (fr _ (by omega) (by omega) (by omega) (by omega) (by omega) (by omega) (by omega) (by omega) (by omega) (by omega) (by omega) (by omega) (by omega) (by omega) (by omega) (by omega)) f18
def undoS (x : St) : St := St.mk x.T x.s x.tx (x.H (x.u - 1)) (x.u - 1) ((x.w + 39) % 40) x.H x.S x.to
theorem d_undo (h : INV B x n K A Lg G) : fX0_undo x.tx A (fun r A1 => fX10_undo A1 (fun r' A2 => r = r' ∧ DONE B n K A2 Lg G)) := by
  have hu := h.u40; have hw := h.w40
  unfold fX0_undo
  by_cases c : x.u = 0
  · rw [h.cu, c, if_pos (show Int32.ofNat 0 = 0 from rfl)]
    show fX10_undo _ _
    unfold fX10_undo
    rw [h.mu, c, if_pos (show Int32.ofNat 0 = 0 from rfl)]
    exact ⟨rfl, x, h⟩
  · rw [h.cu, if_neg (by rw [n_eqR (by omega) (by simp)]; exact c)]
    intro A1 e1 A2 e2
    rw [show (1 : Int32) = Int32.ofNat 1 from rfl, n_sub (by omega)] at e1
    have g6 : A1 0 6 = Int32.ofNat x.w := by rw [e1, pup_row, wup_ne (by omega)]; exact h.cw
    rw [g6, n_addR, show (1 : Int32) = Int32.ofNat 1 from rfl, n_sub (by omega), show (40 : Int32) = Int32.ofNat 40 from rfl, n_mod (by omega) (by omega)] at e2
    have g62 : A2 0 6 = Int32.ofNat ((x.w + 40 - 1) % 40) := by rw [e2, pup_row, wup_self]
    have g5 : A2 0 5 = Int32.ofNat (x.u - 1) := by rw [e2, pup_row, wup_ne (by omega), e1, pup_row, wup_self]
    have gj : ∀ j, j ≠ 5 → j ≠ 6 → A2 0 j = A 0 j := fun j h5 h6 => by rw [e2, pup_row, wup_ne h6, e1, pup_row, wup_ne h5]
    have gc : ∀ c, c ≠ 0 → A2 c = A c := fun c hc => by rw [e2, pup_ne hc, e1, pup_ne hc]
    rw [g62]
    have hm : (x.w + 40 - 1) % 40 < 40 := Nat.mod_lt _ (by omega)
    refine ⟨n_in hm (by omega), ?_⟩
    rw [n_nat (by omega)]
    obtain ⟨v1, v2, v3⟩ := h.his (x.u - 1) (by omega)
    have ei : (x.w + 40 - x.u + (x.u - 1)) % 40 = (x.w + 40 - 1) % 40 := by congr 1; omega
    rw [ei] at v3
    refine c_takes (by omega) (v3.same (fun j hj => gc _ (by omega))) (fun A3 h3 => ?_)
    have k98 : A3 1198 = A 1198 := by rw [h3.fr 1198 (by omega), gc 1198 (by omega)]
    have k39 : A3 1239 = A 1239 := by rw [h3.fr 1239 (by omega), gc 1239 (by omega)]
    show fX10_undo _ _
    unfold fX10_undo
    rw [k98, h.mu, if_neg (by rw [n_eqR (by omega) (by simp)]; exact c)]
    intro A4 e4
    rw [show (1 : Int32) = Int32.ofNat 1 from rfl, n_sub (by omega)] at e4
    refine lp_up (fun m i (y : pA) => fX10_undo_L21 (fun r' A2 => 1 = r' ∧ DONE B n K A2 Lg G) m i y) 77 (by omega) (fun i y => (∀ c, c ≠ 1237 → y c = A4 c) ∧ ∀ k, k < i → y 1237 k = x.H (x.u - 1) k) ?_ ?_ A4 ⟨fun _ _ => rfl, fun k hk => absurd hk (Nat.not_lt_zero k)⟩
    · intro m i y hi ⟨f, g⟩ hn
      unfold fX10_undo_L21
      rw [if_neg (by rw [n_leL (by simp) (by omega)]; omega), f 1198 (by omega), e4, pup_row, wup_self]
      simp (disch := omega) only [n_inT, n_nat, true_and, n_addR, n_mulL, n_add]
      intro A5 e5
      rw [f 1239 (by omega), e4, pup_ne (by omega), k39, v2 i hi] at e5
      refine hn A5 ⟨fun c hc => by rw [e5, pup_ne hc]; exact f c hc, fun k hk => ?_⟩
      rw [e5, pup_row]
      unfold wup
      by_cases c : k = i
      · rw [if_pos c, c]
      · rw [if_neg c]; exact g k (by omega)
    · intro m y ⟨f, g⟩
      unfold fX10_undo_L21
      rw [if_pos (by decide)]
      have fy : ∀ c, c ≠ 0 → c ≠ 1198 → c ≠ 1237 → (c < 25 ∨ 48 ≤ c) → y c = A c := fun c c0 c1 c2 c3 => by rw [f c c2, e4, pup_ne c1, h3.fr c (by omega), gc c c0]
      have fy0 : ∀ j, y 0 j = A2 0 j := fun j => by rw [f 0 (by omega), e4, pup_ne (by omega), h3.fr 0 (by omega)]
      have fy98 : ∀ j, j ≠ 58 → y 1198 j = A 1198 j := fun j hj => by rw [f 1198 (by omega), e4, pup_row, wup_ne hj, k98]
      refine ⟨rfl, undoS x, ?_⟩
      refine h.chg rfl rfl rfl (fun c a1 a2 a3 a4 a5 a6 a7 a8 a9 a10 a11 a12 a13 a14 a15 a16 => fy c a1 a9 a11 (by omega)) (fy98 18 (by omega)) v1 (h3.tv.same (fun j hj => by rw [f _ (by omega), e4, pup_ne (by omega)])) g ?_ ?_ ?_ ?_ ?_ ?_ ?_ ?_ ?_ ?_ h.to20 ?_ ?_ ?_ ?_
      · rw [fy98 2 (by omega), fy 2 (by omega) (by omega) (by omega) (by omega)]; exact h.tp1
      · rw [fy 2 (by omega) (by omega) (by omega) (by omega)]; exact h.tp2
      · intro k hk; rw [fy 1199 (by omega) (by omega) (by omega) (by omega), fy 4 (by omega) (by omega) (by omega) (by omega)]; exact h.tp3 k hk
      · rw [fy98 17 (by omega), fy0, gj 4 (by omega) (by omega)]; exact h.plc
      · show x.u - 1 ≤ 40
        omega
      · rw [fy0]; exact g5
      · rw [f 1198 (by omega), e4, pup_row, wup_self]; rfl
      · show (x.w + 39) % 40 < 40
        omega
      · rw [fy0]; exact g62
      · intro j hj
        have hj : j < x.u - 1 := hj
        obtain ⟨p1, p2, p3⟩ := h.his j (by omega)
        have el := tv_far (i := x.w + 40 - x.u + j)
        refine ⟨p1, fun k hk => by rw [fy 1239 (by omega) (by omega) (by omega) (by omega)]; exact p2 k hk, ?_⟩
        show TV (278 + 23 * (((x.w + 39) % 40 + 40 - (x.u - 1) + j) % 40)) y (x.H j)
        have : ((x.w + 39) % 40 + 40 - (x.u - 1) + j) % 40 = (x.w + 40 - x.u + j) % 40 := by omega
        rw [this]
        exact p3.same (fun j' hj' => fy _ (by omega) (by omega) (by omega) (by omega))
      · rw [fy0, gj 14 (by omega) (by omega)]; exact h.cto
      · rw [fy98 61 (by omega)]; exact h.mto
      · intro k hk
        rw [fy 275 (by omega) (by omega) (by omega) (by omega), fy 276 (by omega) (by omega) (by omega) (by omega), fy 1241 (by omega) (by omega) (by omega) (by omega), fy 1242 (by omega) (by omega) (by omega) (by omega)]; exact h.tel k hk
      · intro k hk
        obtain ⟨h1, h2, h3'⟩ := h.hel k hk
        rw [fy 145 (by omega) (by omega) (by omega) (by omega), fy 1244 (by omega) (by omega) (by omega) (by omega), fy 1245 (by omega) (by omega) (by omega) (by omega)]
        exact ⟨h1, h2, fun e => ⟨(h3' e).1, (h3' e).2.1.same (fun j' hj' => fy _ (by omega) (by omega) (by omega) (by omega)), (h3' e).2.2⟩⟩
def toldS (x : St) (t : Nat) : St := St.mk x.T x.s x.tx x.R x.u x.w x.H x.S t
/-- what is told changes; the rest stands -/
theorem INV.told (h : INV B x n K A Lg G) {t : Nat} (fr : ∀ c, c ≠ 0 → c ≠ 275 → c ≠ 276 → c ≠ 1198 → c ≠ 1241 → c ≠ 1242 → A' c = A c) (f0 : ∀ j, j ≠ 14 → A' 0 j = A 0 j) (f98 : ∀ j, j ≠ 61 → A' 1198 j = A 1198 j) (ht : t ≤ 20) (e1 : A' 0 14 = Int32.ofNat t) (e2 : A' 1198 61 = Int32.ofNat t)
    (tel : ∀ k, k < t → ∃ a, a < x.T.pe ∧ A' 275 k = Int32.ofNat a ∧ A' 1241 k = Int32.ofNat a ∧ A' 1242 k = A' 276 k ∧ (A' 276 k = 0 ∨ A' 276 k = 1)) : INV B (toldS x t) n K A' Lg G := by
  have hw := h.w40
  refine h.chg rfl rfl rfl (fun c a1 a2 a3 a4 a5 a6 a7 a8 a9 a10 a11 a12 a13 a14 a15 a16 => fr c a1 a6 a7 a9 a13 a14) (f98 18 (by omega)) h.vr (h.tv.same (fun j hj => fr _ (by omega) (by omega) (by omega) (by omega) (by omega) (by omega))) ?_ ?_ ?_ ?_ ?_ h.u40 ?_ ?_ h.w40 ?_ ?_ ht e1 e2 tel ?_
  · intro k hk; rw [fr 1237 (by omega) (by omega) (by omega) (by omega) (by omega) (by omega)]; exact h.mr k hk
  · rw [f98 2 (by omega), fr 2 (by omega) (by omega) (by omega) (by omega) (by omega) (by omega)]; exact h.tp1
  · rw [fr 2 (by omega) (by omega) (by omega) (by omega) (by omega) (by omega)]; exact h.tp2
  · intro k hk; rw [fr 1199 (by omega) (by omega) (by omega) (by omega) (by omega) (by omega), fr 4 (by omega) (by omega) (by omega) (by omega) (by omega) (by omega)]; exact h.tp3 k hk
  · rw [f98 17 (by omega), f0 4 (by omega)]; exact h.plc
  · rw [f0 5 (by omega)]; exact h.cu
  · rw [f98 58 (by omega)]; exact h.mu
  · rw [f0 6 (by omega)]; exact h.cw
  · intro j hj
    obtain ⟨p1, p2, p3⟩ := h.his j hj
    have el := tv_far (i := x.w + 40 - x.u + j)
    exact ⟨p1, fun k hk => by rw [fr 1239 (by omega) (by omega) (by omega) (by omega) (by omega) (by omega)]; exact p2 k hk, p3.same (fun j' hj' => fr _ (by omega) (by omega) (by omega) (by omega) (by omega) (by omega))⟩
  · intro k hk
    obtain ⟨h1, h2, h3'⟩ := h.hel k hk
    rw [fr 145 (by omega) (by omega) (by omega) (by omega) (by omega) (by omega), fr 1244 (by omega) (by omega) (by omega) (by omega) (by omega) (by omega), fr 1245 (by omega) (by omega) (by omega) (by omega) (by omega) (by omega)]
    exact ⟨h1, h2, fun e => ⟨(h3' e).1, (h3' e).2.1.same (fun j' hj' => fr _ (by omega) (by omega) (by omega) (by omega) (by omega) (by omega)), (h3' e).2.2⟩⟩
theorem d_forget (h : INV B x n K A Lg G) : fX0_forget x.tx A (fun r A1 => fX10_forget A1 (fun r' A2 => r = r' ∧ DONE B n K A2 Lg G)) := by
  unfold fX0_forget
  intro A1 e1
  unfold fX10_forget
  intro A2 e2
  refine ⟨by rw [e1, pup_ne (by omega), h.cto, h.mto], toldS x 0, ?_⟩
  refine h.told (fun c a1 a2 a3 a4 a5 a6 => by rw [e2, pup_ne a4, e1, pup_ne a1]) (fun j hj => by rw [e2, pup_ne (by omega), e1, pup_row, wup_ne hj]) (fun j hj => by rw [e2, pup_row, wup_ne hj, e1, pup_ne (by omega)]) (by omega) (by rw [e2, pup_ne (by omega), e1, pup_row, wup_self]; rfl) (by rw [e2, pup_row, wup_self]; rfl) (fun k hk => absurd hk (Nat.not_lt_zero k))
theorem nar01 (p : Int32) : vp_nar .boolean p = 0 ∨ vp_nar .boolean p = 1 := by
  show p &&& 1 = 0 ∨ p &&& 1 = 1
  have h : (p &&& 1).toBitVec = p.toBitVec &&& 1#32 := rfl
  have e : (p &&& 1).toBitVec = 0#32 ∨ (p &&& 1).toBitVec = 1#32 := by
    rw [h, BitVec.and_one_eq_setWidth_ofBool_getLsbD]
    cases p.toBitVec.getLsbD 0
    · left; rfl
    · right; rfl
  rcases e with e | e
  · exact Or.inl (Int32.toBitVec_inj.mp e)
  · exact Or.inr (Int32.toBitVec_inj.mp e)
theorem d_tell (h : INV B x n K A Lg G) (p q : Int32) : fX0_tell x.tx A p q (fun r A1 => fX10_tell A1 p q (fun r' A2 => r = r' ∧ DONE B n K A2 Lg G)) := by
  have ht := h.to20; have := h.vt.pe
  unfold fX0_tell
  refine c_isPerson h.vt h.cm.pe (fun hp => ?_) (fun hp => ?_)
  · rw [if_neg (by decide), h.cto]
    have hp' := hp
    obtain ⟨a, ha, rfl⟩ := hp
    by_cases c : x.to = 20
    · rw [c, if_pos (show Int32.ofNat 20 = 20 from rfl)]
      show fX10_tell _ _ _ _
      unfold fX10_tell
      rw [h.mto, c, if_pos (show Int32.ofNat 20 = 20 from rfl)]
      exact ⟨rfl, x, h⟩
    · rw [if_neg (by rw [n_eqR (by omega) (by simp)]; exact c), n_nat (by omega)]
      refine ⟨n_in (by omega) (by omega), ?_⟩
      intro A3 e3
      have g0 : A3 0 14 = Int32.ofNat x.to := by rw [e3, pup_ne (by omega)]; exact h.cto
      rw [g0, n_nat (by omega)]
      refine ⟨n_in (by omega) (by omega), ?_⟩
      intro A5 e5 A6 e6
      have g5 : A5 0 14 = Int32.ofNat x.to := by rw [e5, pup_ne (by omega)]; exact g0
      rw [g5, n_addR] at e6
      have g6 : A6 0 14 = Int32.ofNat (x.to + 1) := by rw [e6, pup_row, wup_self]
      have fr6 : ∀ c, c ≠ 0 → c ≠ 275 → c ≠ 276 → A6 c = A c := fun c c0 c1 c2 => by rw [e6, pup_ne c0, e5, pup_ne c2, e3, pup_ne c1]
      have i6 : MM A6 x.T x.s := h.mm.same (fun c h1 h2 => fr6 c (by omega) (by omega) (by omega)) (fr6 _ (by omega) (by omega) (by omega)) (by rw [fr6 _ (by omega) (by omega) (by omega)])
      have m61 : A6 1198 61 = Int32.ofNat x.to := by rw [fr6 _ (by omega) (by omega) (by omega)]; exact h.mto
      rw [g6]
      show fX10_tell _ _ _ _
      unfold fX10_tell
      rw [m61, if_neg (by rw [n_eqR (by omega) (by simp)]; exact c)]
      refine m_isPerson h.vt i6 (fun _ => ?_) (fun hh => absurd hp' hh)
      rw [if_neg (by decide), n_nat (by omega)]
      refine ⟨n_in (by omega) (by omega), ?_⟩
      intro A7 e7
      have g7 : A7 1198 61 = Int32.ofNat x.to := by rw [e7, pup_ne (by omega)]; exact m61
      rw [g7, n_nat (by omega)]
      refine ⟨n_in (by omega) (by omega), ?_⟩
      intro A8 e8 A9 e9
      have g8 : A8 1198 61 = Int32.ofNat x.to := by rw [e8, pup_ne (by omega)]; exact g7
      rw [g8, n_addR] at e9
      have g9 : A9 1198 61 = Int32.ofNat (x.to + 1) := by rw [e9, pup_row, wup_self]
      rw [g9]
      have fr9 : ∀ c, c ≠ 1198 → c ≠ 1241 → c ≠ 1242 → A9 c = A6 c := fun c c0 c1 c2 => by rw [e9, pup_ne c0, e8, pup_ne c2, e7, pup_ne c1]
      refine ⟨rfl, toldS x (x.to + 1), ?_⟩
      refine h.told (fun c a1 a2 a3 a4 a5 a6 => by rw [fr9 c a4 a5 a6, fr6 c a1 a2 a3]) (fun j hj => by rw [fr9 0 (by omega) (by omega) (by omega), e6, pup_row, wup_ne hj, e5, pup_ne (by omega), e3, pup_ne (by omega)]) (fun j hj => by rw [e9, pup_row, wup_ne hj, e8, pup_ne (by omega), e7, pup_ne (by omega), fr6 _ (by omega) (by omega) (by omega)]) (by omega) (by rw [fr9 0 (by omega) (by omega) (by omega)]; exact g6) g9 (fun k hk => ?_)
      have c275 : A9 275 k = wup (A 275) x.to (Int32.ofNat a) k := by rw [fr9 275 (by omega) (by omega) (by omega), e6, pup_ne (by omega), e5, pup_ne (by omega), e3, pup_row]
      have c276 : A9 276 k = wup (A 276) x.to (vp_nar .boolean q) k := by rw [fr9 276 (by omega) (by omega) (by omega), e6, pup_ne (by omega), e5, pup_row, e3, pup_ne (by omega)]
      have c1241 : A9 1241 k = wup (A 1241) x.to (Int32.ofNat a) k := by rw [e9, pup_ne (by omega), e8, pup_ne (by omega), e7, pup_row, fr6 1241 (by omega) (by omega) (by omega)]
      have c1242 : A9 1242 k = wup (A 1242) x.to (vp_nar .boolean q) k := by rw [e9, pup_ne (by omega), e8, pup_row, e7, pup_ne (by omega), fr6 1242 (by omega) (by omega) (by omega)]
      rw [c275, c276, c1241, c1242]
      by_cases ck : k = x.to
      · rw [ck, wup_self, wup_self, wup_self, wup_self]
        exact ⟨a, ha, rfl, rfl, rfl, nar01 q⟩
      · rw [wup_ne ck, wup_ne ck, wup_ne ck, wup_ne ck]
        exact h.tel k (by omega)
  · rw [if_pos rfl]
    show fX10_tell _ _ _ _
    unfold fX10_tell
    by_cases c : A 1198 61 = 20
    · rw [if_pos c]; exact ⟨rfl, x, h⟩
    · rw [if_neg c]
      refine m_isPerson h.vt h.mm (fun hh => absurd hh hp) (fun _ => ?_)
      rw [if_pos rfl]
      exact ⟨rfl, x, h⟩
def holdS (x : St) (k : Nat) : St := St.mk x.T x.s x.tx x.R x.u x.w x.H (fun j => if j = k then x.R else x.S j) x.to
theorem d_hold (h : INV B x n K A Lg G) (p : Int32) : fX0_hold x.tx A p (fun r A1 => fX10_hold A1 p (fun r' A2 => r = r' ∧ DONE B n K A2 Lg G)) := by
  have hw := h.w40
  unfold fX0_hold
  refine c_inN 2 (by omega) rfl (fun hp => ?_) (fun hp => ?_)
  · rw [if_neg (by decide)]
    have hp' := hp
    obtain ⟨k, hk, rfl⟩ := hp
    rw [n_nat (by omega)]
    refine ⟨n_in hk (by omega), ?_⟩
    refine c_takes (by omega) h.tv (fun A3 h3 => ?_)
    refine ⟨n_in hk (by omega), ?_⟩
    intro A5 e5
    unfold fX10_hold
    refine m_inN 2 (by omega) rfl (fun _ => ?_) (fun hh => absurd hp' hh)
    rw [if_neg (by decide), n_nat (by omega)]
    refine ⟨n_in hk (by omega), ?_⟩
    intro A6 e6
    have fr : ∀ c, c ≠ 145 → c ≠ 1244 → (c < 73 + 23 * k ∨ 73 + 23 * k + 23 ≤ c) → A6 c = A c := fun c c0 c1 c2 => by rw [e6, pup_ne c1, e5, pup_ne c0, h3.fr c c2]
    refine lp_up (fun m i (y : pA) => fX10_hold_L20 (fun r' A2 => 1 = r' ∧ DONE B n K A2 Lg G) m (Int32.ofNat k) i y) 77 (by omega) (fun i y => (∀ c, c ≠ 1245 → y c = A6 c) ∧ (∀ j, j < i → y 1245 (77 * k + j) = x.R j) ∧ (∀ j, (j < 77 * k ∨ 77 * k + 77 ≤ j) → y 1245 j = A 1245 j)) ?_ ?_ A6 ⟨fun _ _ => rfl, fun j hj => absurd hj (Nat.not_lt_zero j), fun j _ => by rw [fr 1245 (by omega) (by omega) (by omega)]⟩
    · intro m i y hi ⟨f, g, g2⟩ hn
      unfold fX10_hold_L20
      rw [if_neg (by rw [n_leL (by simp) (by omega)]; omega)]
      simp (disch := omega) only [n_inT, n_nat, true_and, n_addR, n_mulL, n_add]
      intro A7 e7
      rw [f 1237 (by omega), fr 1237 (by omega) (by omega) (by omega), h.mr i hi] at e7
      refine hn A7 ⟨fun c hc => by rw [e7, pup_ne hc]; exact f c hc, fun j hj => ?_, fun j hj => ?_⟩
      · rw [e7, pup_row]
        unfold wup
        by_cases c : j = i
        · rw [if_pos (by omega), c]
        · rw [if_neg (by omega)]; exact g j (by omega)
      · rw [e7, pup_row, wup_ne (by omega)]; exact g2 j hj
    · intro m y ⟨f, g, g2⟩
      unfold fX10_hold_L20
      rw [if_pos (by decide)]
      have fy : ∀ c, c ≠ 145 → c ≠ 1244 → c ≠ 1245 → (c < 73 + 23 * k ∨ 73 + 23 * k + 23 ≤ c) → y c = A c := fun c c0 c1 c2 c3 => by rw [f c c2, fr c c0 c1 c3]
      have n1 : vp_nar .boolean 1 = 1 := rfl
      have y145 : ∀ j, y 145 j = wup (A 145) k 1 j := fun j => by rw [f 145 (by omega), e6, pup_ne (by omega), e5, pup_row, h3.fr 145 (by omega), n1]
      have y1244 : ∀ j, y 1244 j = wup (A 1244) k 1 j := fun j => by rw [f 1244 (by omega), e6, pup_row, e5, pup_ne (by omega), h3.fr 1244 (by omega), n1]
      refine ⟨rfl, holdS x k, ?_⟩
      refine h.chg rfl rfl rfl (fun c a1 a2 a3 a4 a5 a6 a7 a8 a9 a10 a11 a12 a13 a14 a15 a16 => fy c a5 a15 a16 (by omega)) (by rw [fy 1198 (by omega) (by omega) (by omega) (by omega)]) h.vr (h.tv.same (fun j hj => fy _ (by omega) (by omega) (by omega) (by omega))) ?_ ?_ ?_ ?_ ?_ h.u40 ?_ ?_ h.w40 ?_ ?_ h.to20 ?_ ?_ ?_ ?_
      · intro j hj; rw [fy 1237 (by omega) (by omega) (by omega) (by omega)]; exact h.mr j hj
      · rw [fy 1198 (by omega) (by omega) (by omega) (by omega), fy 2 (by omega) (by omega) (by omega) (by omega)]; exact h.tp1
      · rw [fy 2 (by omega) (by omega) (by omega) (by omega)]; exact h.tp2
      · intro j hj; rw [fy 1199 (by omega) (by omega) (by omega) (by omega), fy 4 (by omega) (by omega) (by omega) (by omega)]; exact h.tp3 j hj
      · rw [fy 1198 (by omega) (by omega) (by omega) (by omega), fy 0 (by omega) (by omega) (by omega) (by omega)]; exact h.plc
      · rw [fy 0 (by omega) (by omega) (by omega) (by omega)]; exact h.cu
      · rw [fy 1198 (by omega) (by omega) (by omega) (by omega)]; exact h.mu
      · rw [fy 0 (by omega) (by omega) (by omega) (by omega)]; exact h.cw
      · intro j hj
        obtain ⟨p1, p2, p3⟩ := h.his j hj
        have el := tv_far (i := x.w + 40 - x.u + j)
        exact ⟨p1, fun k' hk' => by rw [fy 1239 (by omega) (by omega) (by omega) (by omega)]; exact p2 k' hk', p3.same (fun j' hj' => fy _ (by omega) (by omega) (by omega) (by omega))⟩
      · rw [fy 0 (by omega) (by omega) (by omega) (by omega)]; exact h.cto
      · rw [fy 1198 (by omega) (by omega) (by omega) (by omega)]; exact h.mto
      · intro j hj
        rw [fy 275 (by omega) (by omega) (by omega) (by omega), fy 276 (by omega) (by omega) (by omega) (by omega), fy 1241 (by omega) (by omega) (by omega) (by omega), fy 1242 (by omega) (by omega) (by omega) (by omega)]; exact h.tel j hj
      · intro j hj
        obtain ⟨h1, h2, h3'⟩ := h.hel j hj
        rw [y145, y1244]
        by_cases c : j = k
        · subst c
          rw [wup_self, wup_self]
          refine ⟨rfl, Or.inr rfl, fun _ => ?_⟩
          show VR x.T B (if j = j then x.R else x.S j) ∧ TV (73 + 23 * j) y (if j = j then x.R else x.S j) ∧ ∀ i, i < 77 → y 1245 (77 * j + i) = (if j = j then x.R else x.S j) i
          rw [if_pos rfl]
          exact ⟨h.vr, h3.tv.same (fun j' hj' => by rw [f _ (by omega), e6, pup_ne (by omega), e5, pup_ne (by omega)]), g⟩
        · rw [wup_ne c, wup_ne c]
          refine ⟨h1, h2, fun e => ?_⟩
          show VR x.T B (if j = k then x.R else x.S j) ∧ TV (73 + 23 * j) y (if j = k then x.R else x.S j) ∧ ∀ i, i < 77 → y 1245 (77 * j + i) = (if j = k then x.R else x.S j) i
          rw [if_neg c]
          exact ⟨(h3' e).1, (h3' e).2.1.same (fun j' hj' => fy _ (by omega) (by omega) (by omega) (by omega)), fun i hi => by rw [g2 _ (by omega)]; exact (h3' e).2.2 i hi⟩
  · rw [if_pos rfl]
    unfold fX10_hold
    refine m_inN 2 (by omega) rfl (fun hh => absurd hh hp) (fun _ => ?_)
    rw [if_pos rfl]
    exact ⟨rfl, x, h⟩
def restS (x : St) (k : Nat) : St := St.mk x.T x.s x.tx (x.S k) 0 x.w x.H x.S x.to
theorem d_restore (h : INV B x n K A Lg G) (p : Int32) : fX0_restore x.tx A p (fun r A1 => fX10_restore A1 p (fun r' A2 => r = r' ∧ DONE B n K A2 Lg G)) := by
  have hw := h.w40
  unfold fX0_restore
  refine c_inN 2 (by omega) rfl (fun hp => ?_) (fun hp => ?_)
  · rw [if_neg (by decide)]
    have hp' := hp
    obtain ⟨k, hk, rfl⟩ := hp
    obtain ⟨q1, q2, q3⟩ := h.hel k hk
    rw [n_nat (by omega)]
    refine ⟨n_in hk (by omega), ?_⟩
    by_cases c : A 145 k = 0
    · rw [if_pos c]
      unfold fX10_restore
      refine m_inN 2 (by omega) rfl (fun _ => ?_) (fun hh => absurd hp' hh)
      rw [if_neg (by decide), n_nat (by omega)]
      refine ⟨n_in hk (by omega), ?_⟩
      rw [q1, if_pos c]
      exact ⟨rfl, x, h⟩
    · rw [if_neg c]
      obtain ⟨v1, v2, v3⟩ := q3 (q2.resolve_left c)
      refine ⟨n_in hk (by omega), ?_⟩
      refine c_takes (by omega) v2 (fun A3 h3 => ?_)
      intro A5 e5
      have fr : ∀ c, c ≠ 0 → (c < 25 ∨ 48 ≤ c) → A5 c = A c := fun c c0 c1 => by rw [e5, pup_ne c0, h3.fr c c1]
      unfold fX10_restore
      refine m_inN 2 (by omega) rfl (fun _ => ?_) (fun hh => absurd hp' hh)
      rw [if_neg (by decide), n_nat (by omega)]
      refine ⟨n_in hk (by omega), ?_⟩
      rw [fr 1244 (by omega) (by omega), q1, if_neg c]
      refine lp_up (fun m i (y : pA) => fX10_restore_L22 (fun r' A2 => 1 = r' ∧ DONE B n K A2 Lg G) m (Int32.ofNat k) i y) 77 (by omega) (fun i y => (∀ c, c ≠ 1237 → y c = A5 c) ∧ ∀ j, j < i → y 1237 j = x.S k j) ?_ ?_ A5 ⟨fun _ _ => rfl, fun j hj => absurd hj (Nat.not_lt_zero j)⟩
      · intro m i y hi ⟨f, g⟩ hn
        unfold fX10_restore_L22
        rw [if_neg (by rw [n_leL (by simp) (by omega)]; omega)]
        simp (disch := omega) only [n_inT, n_nat, true_and, n_addR, n_mulL, n_add]
        intro A7 e7
        rw [f 1245 (by omega), fr 1245 (by omega) (by omega), v3 i hi] at e7
        refine hn A7 ⟨fun c hc => by rw [e7, pup_ne hc]; exact f c hc, fun j hj => ?_⟩
        rw [e7, pup_row]
        unfold wup
        by_cases c : j = i
        · rw [if_pos c, c]
        · rw [if_neg c]; exact g j (by omega)
      · intro m z ⟨f, g⟩
        unfold fX10_restore_L22
        rw [if_pos (by decide)]
        intro y ey
        have fy : ∀ c, c ≠ 0 → c ≠ 1198 → c ≠ 1237 → (c < 25 ∨ 48 ≤ c) → y c = A c := fun c c0 c1 c2 c3 => by rw [ey, pup_ne c1, f c c2, fr c c0 c3]
        have fy0 : ∀ j, j ≠ 5 → y 0 j = A 0 j := fun j hj => by rw [ey, pup_ne (by omega), f 0 (by omega), e5, pup_row, wup_ne hj, h3.fr 0 (by omega)]
        have fy98 : ∀ j, j ≠ 58 → y 1198 j = A 1198 j := fun j hj => by rw [ey, pup_row, wup_ne hj, f 1198 (by omega), fr 1198 (by omega) (by omega)]
        refine ⟨rfl, restS x k, ?_⟩
        refine h.chg rfl rfl rfl (fun c a1 a2 a3 a4 a5 a6 a7 a8 a9 a10 a11 a12 a13 a14 a15 a16 => fy c a1 a9 a11 (by omega)) (fy98 18 (by omega)) v1 (h3.tv.same (fun j hj => by rw [ey, pup_ne (by omega), f _ (by omega), e5, pup_ne (by omega)])) (fun j hj => by rw [ey, pup_ne (by omega)]; exact g j hj) ?_ ?_ ?_ ?_ (Nat.zero_le _) ?_ ?_ h.w40 ?_ (fun j hj => absurd hj (Nat.not_lt_zero j)) h.to20 ?_ ?_ ?_ ?_
        · rw [fy98 2 (by omega), fy 2 (by omega) (by omega) (by omega) (by omega)]; exact h.tp1
        · rw [fy 2 (by omega) (by omega) (by omega) (by omega)]; exact h.tp2
        · intro j hj; rw [fy 1199 (by omega) (by omega) (by omega) (by omega), fy 4 (by omega) (by omega) (by omega) (by omega)]; exact h.tp3 j hj
        · rw [fy98 17 (by omega), fy0 4 (by omega)]; exact h.plc
        · rw [ey, pup_ne (by omega), f 0 (by omega), e5, pup_row, wup_self]; rfl
        · rw [ey, pup_row, wup_self]; rfl
        · rw [fy0 6 (by omega)]; exact h.cw
        · rw [fy0 14 (by omega)]; exact h.cto
        · rw [fy98 61 (by omega)]; exact h.mto
        · intro j hj
          rw [fy 275 (by omega) (by omega) (by omega) (by omega), fy 276 (by omega) (by omega) (by omega) (by omega), fy 1241 (by omega) (by omega) (by omega) (by omega), fy 1242 (by omega) (by omega) (by omega) (by omega)]; exact h.tel j hj
        · intro j hj
          obtain ⟨h1, h2, h3'⟩ := h.hel j hj
          rw [fy 145 (by omega) (by omega) (by omega) (by omega), fy 1244 (by omega) (by omega) (by omega) (by omega), fy 1245 (by omega) (by omega) (by omega) (by omega)]
          exact ⟨h1, h2, fun e => ⟨(h3' e).1, (h3' e).2.1.same (fun j' hj' => fy _ (by omega) (by omega) (by omega) (by omega)), (h3' e).2.2⟩⟩
  · rw [if_pos rfl]
    unfold fX10_restore
    refine m_inN 2 (by omega) rfl (fun hh => absurd hh hp) (fun _ => ?_)
    rw [if_pos rfl]
    exact ⟨rfl, x, h⟩
/-- the tape changes; the rest stands -/
theorem INV.taped (h : INV B x n K A Lg G) (fr : ∀ c, c ≠ 2 → c ≠ 4 → c ≠ 1198 → c ≠ 1199 → A' c = A c) (f98 : ∀ j, j ≠ 2 → A' 1198 j = A 1198 j) (tp1 : A' 1198 2 = A' 2 2) (tp2 : ∃ t, t ≤ 2000 ∧ A' 2 2 = Int32.ofNat t) (tp3 : ∀ k, k < 2000 → A' 1199 k = A' 4 k ∧ -128 ≤ (A' 4 k).toInt ∧ (A' 4 k).toInt ≤ 127) : INV B x n K A' Lg G := by
  have hw := h.w40
  refine h.chg rfl rfl rfl (fun c a1 a2 a3 a4 a5 a6 a7 a8 a9 a10 a11 a12 a13 a14 a15 a16 => fr c a2 a3 a9 a10) (f98 18 (by omega)) h.vr (h.tv.same (fun j hj => fr _ (by omega) (by omega) (by omega) (by omega))) ?_ tp1 tp2 tp3 ?_ h.u40 ?_ ?_ h.w40 ?_ ?_ h.to20 ?_ ?_ ?_ ?_
  · intro j hj; rw [fr 1237 (by omega) (by omega) (by omega) (by omega)]; exact h.mr j hj
  · rw [f98 17 (by omega), fr 0 (by omega) (by omega) (by omega) (by omega)]; exact h.plc
  · rw [fr 0 (by omega) (by omega) (by omega) (by omega)]; exact h.cu
  · rw [f98 58 (by omega)]; exact h.mu
  · rw [fr 0 (by omega) (by omega) (by omega) (by omega)]; exact h.cw
  · intro j hj
    obtain ⟨p1, p2, p3⟩ := h.his j hj
    have el := tv_far (i := x.w + 40 - x.u + j)
    exact ⟨p1, fun k' hk' => by rw [fr 1239 (by omega) (by omega) (by omega) (by omega)]; exact p2 k' hk', p3.same (fun j' hj' => fr _ (by omega) (by omega) (by omega) (by omega))⟩
  · rw [fr 0 (by omega) (by omega) (by omega) (by omega)]; exact h.cto
  · rw [f98 61 (by omega)]; exact h.mto
  · intro j hj
    rw [fr 275 (by omega) (by omega) (by omega) (by omega), fr 276 (by omega) (by omega) (by omega) (by omega), fr 1241 (by omega) (by omega) (by omega) (by omega), fr 1242 (by omega) (by omega) (by omega) (by omega)]; exact h.tel j hj
  · intro j hj
    obtain ⟨h1, h2, h3'⟩ := h.hel j hj
    rw [fr 145 (by omega) (by omega) (by omega) (by omega), fr 1244 (by omega) (by omega) (by omega) (by omega), fr 1245 (by omega) (by omega) (by omega) (by omega)]
    exact ⟨h1, h2, fun e => ⟨(h3' e).1, (h3' e).2.1.same (fun j' hj' => fr _ (by omega) (by omega) (by omega) (by omega)), (h3' e).2.2⟩⟩
theorem d_back (h : INV B x n K A Lg G) (p : Int32) : fX0_back x.tx A p (fun r A1 => fX10_back A1 p (fun r' A2 => r = r' ∧ DONE B n K A2 Lg G)) := by
  obtain ⟨t, ht, et⟩ := h.tp2
  unfold fX0_back
  by_cases c1 : p < 0
  · rw [if_pos c1]
    show fX10_back _ _ _
    unfold fX10_back
    rw [if_pos c1]
    exact ⟨rfl, x, h⟩
  · rw [if_neg c1]
    by_cases c2 : p ≤ A 2 2
    · rw [if_pos c2]
      intro A1 e1
      show fX10_back _ _ _
      unfold fX10_back
      have g : A1 1198 2 = A 2 2 := by rw [e1, pup_ne (by omega)]; exact h.tp1
      rw [if_neg c1, g, if_pos c2]
      intro A2 e2
      have g2 : A2 1198 2 = A 2 2 - p := by rw [e2, pup_row, wup_self]
      have g3 : A1 2 2 = A 2 2 - p := by rw [e1, pup_row, wup_self]
      have g4 : A2 2 2 = A 2 2 - p := by rw [e2, pup_ne (by omega)]; exact g3
      rw [g2, g3]
      refine ⟨rfl, x, h.taped (fun c a1 a2 a3 a4 => by rw [e2, pup_ne a3, e1, pup_ne a1]) (fun j hj => by rw [e2, pup_row, wup_ne hj, e1, pup_ne (by omega)]) (by rw [g2, g4]) ?_ (fun k hk => by rw [e2, pup_ne (by omega), e1, pup_ne (by omega), pup_ne (by omega), pup_ne (by omega)]; exact h.tp3 k hk)⟩
      rw [g4, et]
      have hp : 0 ≤ p.toInt := by
        have := Int32.not_lt.mp c1
        rw [Int32.le_iff_toInt_le] at this
        exact this
      obtain ⟨k, hk, e⟩ := n_of_nn hp
      rw [et, e, n_le (by omega) (by omega)] at c2
      rw [e, n_sub c2]
      exact ⟨t - k, by omega, rfl⟩
    · rw [if_neg c2]
      show fX10_back _ _ _
      unfold fX10_back
      rw [if_neg c1, h.tp1, if_neg c2]
      exact ⟨rfl, x, h⟩
end I
