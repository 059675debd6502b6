set_option maxRecDepth 100000
set_option linter.all false
/-! ===== THE MODEL's cells ===== -/
def exCode : Term → List (Int32 × Int32)
  | .int v => [(0, v)]
  | .index k => [(1, Int32.ofNat k)]
  | .op2 o a b => exCode a ++ exCode b ++ [(Int32.ofNat (opN o), 0)]
  | _ => [(0, 0)]
def exOk : Term → Prop
  | .int _ => True
  | .index k => k < 9
  | .op2 o a b => 2 ≤ opN o ∧ opN o ≤ 5 ∧ exOk a ∧ exOk b
  | _ => False
/-- the code of an expression, from p on -/
def cdAt (A : pA) : Nat → List (Int32 × Int32) → Prop
  | _, [] => True
  | p, x :: l => A 1231 p = x.1 ∧ A 1232 p = x.2 ∧ cdAt A (p + 1) l
def mEx (A : pA) (p q : Nat) (e : Ex) : Prop := q = p + (exCode e).length ∧ q ≤ 840 ∧ (exCode e).length ≤ 400 ∧ exOk e ∧ cdAt A p (exCode e)
def mBr (A : pA) : Nat → List (Ex × Ex × Ex) → Prop
  | _, [] => True
  | f, (a, b, c) :: l => A 1226 f = 1 ∧ (∃ p q r t, A 1227 f = Int32.ofNat p ∧ A 1228 f = Int32.ofNat q ∧ A 1229 f = Int32.ofNat r ∧ A 1230 f = Int32.ofNat t ∧ mEx A p q a ∧ mEx A q r b ∧ mEx A r t c) ∧ mBr A (f + 1) l
def mLaw (A : pA) (s k : Nat) (l : Option LawT) : Prop := match l with
  | none => A 1224 (4 * s + k) = A 1225 (4 * s + k)
  | some l => ∃ f, A 1224 (4 * s + k) = Int32.ofNat f ∧ A 1225 (4 * s + k) = Int32.ofNat (f + l.1.length + 1) ∧ f + l.1.length + 1 ≤ 260 ∧ mBr A f l.1 ∧ A 1226 (f + l.1.length) = 0 ∧ ∃ r t, A 1229 (f + l.1.length) = Int32.ofNat r ∧ A 1230 (f + l.1.length) = Int32.ofNat t ∧ mEx A r t l.2
def MM (A : pA) (T : Tx) (s : Nat) : Prop :=
  (s < 2) ∧
  (A 1198 18 = Int32.ofNat s) ∧
  (A 1208 s = Int32.ofNat T.pl) ∧
  (∀ p, p < 7 → A 1209 (7 * s + p) = T.nx p) ∧
  (A 1210 s = Int32.ofNat T.pa) ∧
  (A 1211 s = Int32.ofNat T.dg) ∧
  (∀ d, d < T.dg → A 1212 (5 * s + d) = Int32.ofNat (T.ken d)) ∧
  (∀ d, d < T.dg → A 1213 (5 * s + d) = T.bit d) ∧
  (∀ d, d < T.dg → A 1214 (5 * s + d) = T.hun d) ∧
  (A 1215 s = Int32.ofNat T.pe) ∧
  (∀ a, a < T.pe → A 1216 (4 * s + a) = Int32.ofNat (T.hom a)) ∧
  (∀ a, a < T.pe → A 1217 (4 * s + a) = T.pok a) ∧
  (A 1218 s = Int32.ofNat T.er) ∧
  (∀ e, e < T.er → A 1219 (8 * s + e) = Int32.ofNat (T.who e)) ∧
  (∀ e, e < T.er → A 1220 (8 * s + e) = Int32.ofNat (T.whr e)) ∧
  (A 1221 s = Int32.ofNat T.hf) ∧
  (A 1222 s = Int32.ofNat T.ht) ∧
  (A 1223 s = Int32.ofNat T.st) ∧
  (∀ p q, p < 7 → q < 7 → A 1236 (7 * p + q) = Int32.ofNat (T.far p q)) ∧
  (∀ k, k < 4 → mLaw A s k (T.law k))
theorem MM.slt {A : pA} {T : Tx} {s : Nat} (h : MM A T s) : s < 2 := h.1
theorem MM.live {A : pA} {T : Tx} {s : Nat} (h : MM A T s) : A 1198 18 = Int32.ofNat s := h.2.1
theorem MM.pl {A : pA} {T : Tx} {s : Nat} (h : MM A T s) : A 1208 s = Int32.ofNat T.pl := h.2.2.1
theorem MM.nx {A : pA} {T : Tx} {s : Nat} (h : MM A T s) : ∀ p, p < 7 → A 1209 (7 * s + p) = T.nx p := h.2.2.2.1
theorem MM.pa {A : pA} {T : Tx} {s : Nat} (h : MM A T s) : A 1210 s = Int32.ofNat T.pa := h.2.2.2.2.1
theorem MM.dg {A : pA} {T : Tx} {s : Nat} (h : MM A T s) : A 1211 s = Int32.ofNat T.dg := h.2.2.2.2.2.1
theorem MM.ken {A : pA} {T : Tx} {s : Nat} (h : MM A T s) : ∀ d, d < T.dg → A 1212 (5 * s + d) = Int32.ofNat (T.ken d) := h.2.2.2.2.2.2.1
theorem MM.bit {A : pA} {T : Tx} {s : Nat} (h : MM A T s) : ∀ d, d < T.dg → A 1213 (5 * s + d) = T.bit d := h.2.2.2.2.2.2.2.1
theorem MM.hun {A : pA} {T : Tx} {s : Nat} (h : MM A T s) : ∀ d, d < T.dg → A 1214 (5 * s + d) = T.hun d := h.2.2.2.2.2.2.2.2.1
theorem MM.pe {A : pA} {T : Tx} {s : Nat} (h : MM A T s) : A 1215 s = Int32.ofNat T.pe := h.2.2.2.2.2.2.2.2.2.1
theorem MM.hom {A : pA} {T : Tx} {s : Nat} (h : MM A T s) : ∀ a, a < T.pe → A 1216 (4 * s + a) = Int32.ofNat (T.hom a) := h.2.2.2.2.2.2.2.2.2.2.1
theorem MM.pok {A : pA} {T : Tx} {s : Nat} (h : MM A T s) : ∀ a, a < T.pe → A 1217 (4 * s + a) = T.pok a := h.2.2.2.2.2.2.2.2.2.2.2.1
theorem MM.er {A : pA} {T : Tx} {s : Nat} (h : MM A T s) : A 1218 s = Int32.ofNat T.er := h.2.2.2.2.2.2.2.2.2.2.2.2.1
theorem MM.who {A : pA} {T : Tx} {s : Nat} (h : MM A T s) : ∀ e, e < T.er → A 1219 (8 * s + e) = Int32.ofNat (T.who e) := h.2.2.2.2.2.2.2.2.2.2.2.2.2.1
theorem MM.whr {A : pA} {T : Tx} {s : Nat} (h : MM A T s) : ∀ e, e < T.er → A 1220 (8 * s + e) = Int32.ofNat (T.whr e) := h.2.2.2.2.2.2.2.2.2.2.2.2.2.2.1
theorem MM.hf {A : pA} {T : Tx} {s : Nat} (h : MM A T s) : A 1221 s = Int32.ofNat T.hf := h.2.2.2.2.2.2.2.2.2.2.2.2.2.2.2.1
theorem MM.ht {A : pA} {T : Tx} {s : Nat} (h : MM A T s) : A 1222 s = Int32.ofNat T.ht := h.2.2.2.2.2.2.2.2.2.2.2.2.2.2.2.2.1
theorem MM.st {A : pA} {T : Tx} {s : Nat} (h : MM A T s) : A 1223 s = Int32.ofNat T.st := h.2.2.2.2.2.2.2.2.2.2.2.2.2.2.2.2.2.1
theorem MM.far {A : pA} {T : Tx} {s : Nat} (h : MM A T s) : ∀ p q, p < 7 → q < 7 → A 1236 (7 * p + q) = Int32.ofNat (T.far p q) := h.2.2.2.2.2.2.2.2.2.2.2.2.2.2.2.2.2.2.1
theorem MM.law {A : pA} {T : Tx} {s : Nat} (h : MM A T s) : ∀ k, k < 4 → mLaw A s k (T.law k) := h.2.2.2.2.2.2.2.2.2.2.2.2.2.2.2.2.2.2.2
/-- the store A, worked on, against the store A0 -/
def MS (A0 A : pA) (R : Rw) : Prop :=
  (∀ c, c ≠ 1234 → c ≠ 1235 → c ≠ 1238 → c ≠ 1198 → A c = A0 c) ∧
  (∀ j, j ≠ 54 → A 1198 j = A0 1198 j) ∧
  (∀ k, k < 77 → A 1238 k = R k)
theorem MS.fr {A0 A : pA} {R : Rw} (h : MS A0 A R) : ∀ c, c ≠ 1234 → c ≠ 1235 → c ≠ 1238 → c ≠ 1198 → A c = A0 c := h.1
theorem MS.fi {A0 A : pA} {R : Rw} (h : MS A0 A R) : ∀ j, j ≠ 54 → A 1198 j = A0 1198 j := h.2.1
theorem MS.row {A0 A : pA} {R : Rw} (h : MS A0 A R) : ∀ k, k < 77 → A 1238 k = R k := h.2.2
theorem cdAt_app {A : pA} : ∀ (l l' : List (Int32 × Int32)) (p : Nat), cdAt A p (l ++ l') → cdAt A p l ∧ cdAt A (p + l.length) l'
  | [], l', p, h => ⟨trivial, h⟩
  | x :: l, l', p, h => by
    obtain ⟨h1, h2, h3⟩ := h
    obtain ⟨h4, h5⟩ := cdAt_app l l' (p + 1) h3
    refine ⟨⟨h1, h2, h4⟩, ?_⟩
    have : p + (x :: l).length = p + 1 + l.length := by simp only [List.length_cons]; omega
    rw [this]; exact h5
theorem cdAt_same {A A' : pA} (h1 : A' 1231 = A 1231) (h2 : A' 1232 = A 1232) : ∀ (l : List (Int32 × Int32)) (p : Nat), cdAt A p l → cdAt A' p l
  | [], _, _ => trivial
  | x :: l, p, h => ⟨by rw [h1]; exact h.1, by rw [h2]; exact h.2.1, cdAt_same h1 h2 l (p + 1) h.2.2⟩
theorem mEx_same {A A' : pA} (h1 : A' 1231 = A 1231) (h2 : A' 1232 = A 1232) {p q : Nat} {e : Ex} (h : mEx A p q e) : mEx A' p q e := ⟨h.1, h.2.1, h.2.2.1, h.2.2.2.1, cdAt_same h1 h2 _ _ h.2.2.2.2⟩
/-- how many cells of the pile -/
def exTop : Term → Nat
  | .int _ => 1
  | .index _ => 1
  | .op2 _ a b => exTop a + exTop b
  | _ => 1
theorem exTop_len (e : Term) : exTop e ≤ (exCode e).length := by
  induction e with
  | op2 o a b iha ihb =>
    simp only [exTop, exCode, List.length_append, List.length_cons, List.length_nil]; omega
  | _ => exact Nat.le_refl _
theorem exCode_pos (e : Term) : 1 ≤ (exCode e).length := by
  induction e with
  | op2 o a b iha ihb => simp only [exCode, List.length_append, List.length_cons, List.length_nil]; omega
  | _ => exact Nat.le_refl _
theorem exTop_pos (e : Term) : 1 ≤ exTop e := by
  induction e with
  | op2 o a b iha ihb => simp only [exTop]; omega
  | _ => exact Nat.le_refl _
theorem n_subL {a b : Nat} (h : (OfNat.ofNat b : Nat) ≤ a) : Int32.ofNat a - (no_index (OfNat.ofNat b) : Int32) = Int32.ofNat (a - (OfNat.ofNat b : Nat)) := by
  obtain ⟨c, rfl⟩ := Nat.exists_eq_add_of_le h
  have e : Int32.ofNat ((OfNat.ofNat b : Nat) + c) = (OfNat.ofNat b : Int32) + Int32.ofNat c := Int32.ofNat_add b c
  rw [e, Nat.add_sub_cancel_left, Int32.add_comm, Int32.add_sub_cancel]
theorem n_sub1 {a : Nat} (h : 1 ≤ a) : Int32.ofNat a + -1 = Int32.ofNat (a - 1) := by
  obtain ⟨c, rfl⟩ := Nat.exists_eq_add_of_le h
  have e : Int32.ofNat (1 + c) = 1 + Int32.ofNat c := Int32.ofNat_add 1 c
  rw [e, Nat.add_sub_cancel_left, Int32.add_comm 1, Int32.add_assoc]
  exact Int32.add_zero _
/-- one expression on the pile -/
theorem m_termL {v : Nat → Int32} {Q : Int32 → pA → Prop} {p2 : Nat} (h2 : p2 ≤ 840) : ∀ (e : Ex) (A : pA) (t c m : Nat), exOk e → cdAt A c (exCode e) → c + (exCode e).length ≤ p2 → t + exTop e ≤ 400 → (∀ k, k < 9 → A 1234 k = v k) →
    (∀ A' : pA, (∀ c, c ≠ 1235 → A' c = A c) → (∀ j, j < t → A' 1235 j = A 1235 j) → ∀ x, exEv v e = some x → A' 1235 t = x → fX10_termOf_L5 Q m (Int32.ofNat p2) (Int32.ofNat (t + 1)) (Int32.ofNat (c + (exCode e).length)) A') →
    (∀ A' : pA, (∀ c, c ≠ 1235 → A' c = A c) → exEv v e = none → Q 0 (pup A' 1198 54 1)) →
    fX10_termOf_L5 Q (m + (exCode e).length) (Int32.ofNat p2) (Int32.ofNat t) (Int32.ofNat c) A := by
  intro e
  induction e with
  | int x =>
    intro A t c m ho hc hl ht hv k1 k2
    obtain ⟨c1, c2, -⟩ := hc
    simp only [exCode, List.length_cons, List.length_nil, exTop] at hl ht k1 ⊢
    unfold fX10_termOf_L5
    simp only [c1, c2, n_nat (k := c) (by omega), n_nat (k := t) (by omega), fX10_termOf_J58, fX10_termOf_J159]
    rw [if_neg (by rw [n_le (by omega) (by omega)]; omega)]
    refine ⟨n_in (by omega) (by omega), ?_⟩
    rw [if_neg (by decide), if_pos trivial]
    refine ⟨n_in (by omega) (by omega), n_in (by omega) (by omega), ?_⟩
    intro A2 e2
    rw [n_addR, n_addR]
    refine k1 A2 (fun c hc => by rw [e2, pup_ne hc]) (fun j hj => by rw [e2, pup_row, wup_ne (by omega)]) x rfl (by rw [e2, pup_row, wup_self])
  | index k =>
    intro A t c m ho hc hl ht hv k1 k2
    obtain ⟨c1, c2, -⟩ := hc
    have ho : k < 9 := ho
    simp only [exCode, List.length_cons, List.length_nil, exTop] at hl ht k1 c2 ⊢
    unfold fX10_termOf_L5
    simp only [c1, c2, n_nat (k := c) (by omega), n_nat (k := t) (by omega), n_nat (k := k) (by omega), fX10_termOf_J58, fX10_termOf_J159, hv k ho]
    rw [if_neg (by rw [n_le (by omega) (by omega)]; omega)]
    refine ⟨n_in (by omega) (by omega), ?_⟩
    rw [if_neg (by decide), if_neg (by decide)]
    refine ⟨n_in (by omega) (by omega), n_in (by omega) (by omega), n_in (by omega) (by omega), ?_⟩
    intro A2 e2
    rw [n_addR, n_addR]
    refine k1 A2 (fun c hc => by rw [e2, pup_ne hc]) (fun j hj => by rw [e2, pup_row, wup_ne (by omega)]) (v k) rfl (by rw [e2, pup_row, wup_self])
  | op2 o a b iha ihb =>
    intro A t c m ho hc hl ht hv k1 k2
    obtain ⟨o1, o2, oa, ob⟩ := ho
    have evE : ∀ v : Nat → Int32, exEv v (Term.op2 o a b) = (exEv v a).bind fun x => (exEv v b).bind fun y => if opN o = 5 ∧ y = 0 then none else some (binV (opN o) x y) := fun _ => rfl
    simp only [exCode] at hc
    obtain ⟨hab, hop⟩ := cdAt_app _ _ _ hc
    obtain ⟨ha, hb⟩ := cdAt_app _ _ _ hab
    obtain ⟨hop1, -, -⟩ := hop
    simp only [exCode, List.length_append, List.length_cons, List.length_nil, exTop] at hl ht k1 hop1 ⊢
    have ea := exTop_len a
    have eb := exTop_len b
    have pa := exTop_pos a
    have pb := exTop_pos b
    rw [show m + ((exCode a).length + (exCode b).length + (0 + 1)) = (m + 1 + (exCode b).length) + (exCode a).length by omega]
    refine iha A t c _ oa ha (by omega) (by omega) hv ?_ ?_
    · intro A1 f1 g1 x ex px
      refine ihb A1 (t + 1) (c + (exCode a).length) _ ob (cdAt_same (f1 1231 (by decide)) (f1 1232 (by decide)) _ _ hb) (by omega) (by omega) (fun k hk => by rw [f1 1234 (by decide)]; exact hv k hk) ?_ ?_
      · intro A2 f2 g2 y ey py
        have px2 : A2 1235 t = x := by rw [g2 t (by omega)]; exact px
        have hop2 : A2 1231 (c + (exCode a).length + (exCode b).length) = Int32.ofNat (opN o) := by
          rw [f2 1231 (by decide), f1 1231 (by decide), ← hop1]
          congr 1; omega
        unfold fX10_termOf_L5
        have i1 : Int32.ofNat (t + 1 + 1) + -1 = Int32.ofNat (t + 1) := n_sub1 (by omega)
        have i2 : Int32.ofNat (t + 1) - 1 = Int32.ofNat t := n_subL (by simp)
        simp only [i1, i2, n_nat (k := c + (exCode a).length + (exCode b).length) (by omega), hop2, n_nat (k := t) (by omega), n_nat (k := t + 1) (by omega), px2, py]
        rw [if_neg (by rw [n_le (by omega) (by omega)]; omega)]
        refine ⟨n_in (by omega) (by omega), ?_⟩
        rw [if_pos (by rw [n_leL (by simp) (by omega)]; exact o1)]
        refine ⟨n_in (by omega) (by omega), n_in (by omega) (by omega), ?_⟩
        have fin : ∀ z, exEv v (Term.op2 o a b) = some z → fX10_termOf_J158 (fun x0 x1 x2 x3 => fX10_termOf_L5 Q m x0 x1 x2 x3) Q (Int32.ofNat p2) (Int32.ofNat (t + 1)) (Int32.ofNat (c + (exCode a).length + (exCode b).length)) z (Int32.ofNat t) A2 := by
          intro z ez
          unfold fX10_termOf_J158 fX10_termOf_J159
          refine ⟨n_in (by omega) (by omega), ?_⟩
          intro A4 e4
          rw [n_nat (by omega)] at e4
          rw [n_addR]
          rw [show c + (exCode a).length + (exCode b).length + 1 = c + ((exCode a).length + (exCode b).length + (0 + 1)) by omega]
          refine k1 A4 (fun c hc => by rw [e4, pup_ne hc, f2 c hc, f1 c hc]) (fun j hj => by rw [e4, pup_row, wup_ne (by omega), g2 j (by omega), g1 j hj]) z ez (by rw [e4, pup_row, wup_self])
        have fin2 : (¬ ((opN o) = 5 ∧ y = 0)) → fX10_termOf_J104 (fun x0 x1 x2 x3 => fX10_termOf_L5 Q m x0 x1 x2 x3) Q (Int32.ofNat p2) (Int32.ofNat (t + 1)) (Int32.ofNat (c + (exCode a).length + (exCode b).length)) (Int32.ofNat (opN o)) x y A2 := by
          intro hz
          have ev : exEv v (Term.op2 o a b) = some (binV (opN o) x y) := by
            simp only [evE, ex, ey, Option.bind_some, if_neg hz]
          unfold fX10_termOf_J104
          rw [i2]
          rcases (show (opN o) = 2 ∨ (opN o) = 3 ∨ (opN o) = 4 ∨ (opN o) = 5 by omega) with q | q | q | q <;> rw [q] at ev hz ⊢
          · rw [if_pos (by decide)]; exact fin _ ev
          · rw [if_neg (by decide), if_pos (by decide)]; exact fin _ ev
          · rw [if_neg (by decide), if_neg (by decide), if_pos (by decide)]; exact fin _ ev
          · rw [if_neg (by decide), if_neg (by decide), if_neg (by decide)]
            exact ⟨fun hy => hz ⟨rfl, hy⟩, fin _ ev⟩
        by_cases c5 : (opN o) = 5
        · rw [if_pos (by rw [n_eqR (by omega) (by simp)]; exact c5)]
          by_cases cy : y = 0
          · rw [if_pos cy]
            intro A9 e9
            rw [e9]
            refine k2 A2 (fun c hc => by rw [f2 c hc, f1 c hc]) ?_
            simp only [evE, ex, ey, Option.bind_some, if_pos (And.intro c5 cy)]
          · rw [if_neg cy]
            exact fin2 (fun hh => cy hh.2)
        · rw [if_neg (by rw [n_eqR (by omega) (by simp)]; exact c5)]
          exact fin2 (fun hh => c5 hh.1)
      · intro A' f' en
        refine k2 A' (fun c hc => by rw [f' c hc, f1 c hc]) ?_
        simp only [evE, ex, en, Option.bind_some, Option.bind_none]
    · intro A' f' en
      refine k2 A' f' ?_
      simp only [evE, en, Option.bind_none]
  | _ => intro A t c m ho; exact absurd ho id
theorem MS.put {A0 A : pA} {R : Rw} (h : MS A0 A R) {j : Nat} {v : Int32} : MS A0 (pup A 1238 j v) (wup R j v) := by
  refine ⟨fun c h1 h2 h3 h4 => ?_, fun j hj => ?_, fun k hk => ?_⟩
  · rw [pup_ne h3]; exact h.fr c h1 h2 h3 h4
  · rw [pup_ne (by decide)]; exact h.fi j hj
  · rw [pup_row]
    unfold wup
    by_cases c : k = j
    · rw [if_pos c, if_pos c]
    · rw [if_neg c, if_neg c]; exact h.row k hk
theorem MS.putE {A0 A A' : pA} {R : Rw} (h : MS A0 A R) {j : Nat} {v : Int32} (e : A' = pup A 1238 j v) : MS A0 A' (wup R j v) := by rw [e]; exact h.put
theorem MS.var {A0 A : pA} {R : Rw} (h : MS A0 A R) {j : Nat} {v : Int32} : MS A0 (pup A 1234 j v) R :=
  ⟨fun c h1 h2 h3 h4 => by rw [pup_ne h1]; exact h.fr c h1 h2 h3 h4, fun j hj => by rw [pup_ne (by decide)]; exact h.fi j hj, fun k hk => by rw [pup_ne (by decide)]; exact h.row k hk⟩
theorem MS.bro {A0 A : pA} {R : Rw} (h : MS A0 A R) {v : Int32} : MS A0 (pup A 1198 54 v) R :=
  ⟨fun c h1 h2 h3 h4 => by rw [pup_ne h4]; exact h.fr c h1 h2 h3 h4, fun j hj => by rw [pup_row, wup_ne hj]; exact h.fi j hj, fun k hk => by rw [pup_ne (by decide)]; exact h.row k hk⟩
theorem MS.pile {A0 A A' : pA} {R : Rw} (h : MS A0 A R) (f : ∀ c, c ≠ 1235 → A' c = A c) : MS A0 A' R :=
  ⟨fun c h1 h2 h3 h4 => by rw [f c h2]; exact h.fr c h1 h2 h3 h4, fun j hj => by rw [f 1198 (by decide)]; exact h.fi j hj, fun k hk => by rw [f 1238 (by decide)]; exact h.row k hk⟩
section M
variable {A0 A : pA} {T : Tx} {s : Nat} {R : Rw}
theorem m_stepTo (hT : VT T) (hM : MM A0 T s) (h : MS A0 A R) {p q : Nat} (hp : p < T.pl) (hq : q < T.pl) {Q : Int32 → Prop} (hQ : Q (Int32.ofNat (sStep T p q))) : fX10_stepTo A (Int32.ofNat p) (Int32.ofNat q) Q := by
  have s2 := hM.slt
  have p7 := hT.pl
  unfold fX10_stepTo
  refine lp_up (fun m i (x : Nat × Nat) => fX10_stepTo_L9 A Q m (Int32.ofNat p) (Int32.ofNat q) (Int32.ofNat x.1) (Int32.ofNat x.2) i) T.pl (by omega) (fun i x => x = iter (fun q' (s : Nat × Nat) => if nxt T p q' ∧ T.far q' q < s.2 then (q', T.far q' q) else s) i (p, 99) ∧ x.2 ≤ 99) ?_ ?_ (p, 99) ⟨rfl, Nat.le_refl _⟩
  · intro m i x hi ⟨e, hx⟩ hn
    have hfar := hT.far i q
    unfold fX10_stepTo_L9 fX10_stepTo_J82
    have e2 := hM.nx p (by omega)
    have e3 := hM.far i q (by omega) (by omega)
    simp (disch := omega) only [h.fr, h.fi, hM.live, hM.pl, n_inT, n_addL, n_addR, n_add, n_mulL, n_nat, true_and, n_le, n_lt, e2, e3, n_m31]
    rw [if_neg (by omega)]
    by_cases c : nxt T p i
    · rw [if_neg (by rw [n_bit]; exact fun hh => hh c)]
      by_cases c2 : T.far i q < x.2
      · rw [if_pos c2]
        refine hn (i, T.far i q) ⟨?_, hfar⟩
        show _ = ite _ _ _
        rw [← e, if_pos ⟨c, c2⟩]
      · rw [if_neg c2]
        refine hn x ⟨?_, hx⟩
        show _ = ite _ _ _
        rw [← e, if_neg (fun hh => c2 hh.2)]
    · rw [if_pos (by rw [n_bit]; exact c)]
      refine hn x ⟨?_, hx⟩
      show _ = ite _ _ _
      rw [← e, if_neg (fun hh => c hh.1)]
  · intro m x ⟨e, hx⟩
    unfold fX10_stepTo_L9
    simp (disch := omega) only [h.fr, h.fi, hM.live, hM.pl, n_inT, n_nat, true_and, n_le, Nat.le_refl, if_true]
    rw [e]
    exact hQ
theorem m_termOf (h : MS A0 A R) {V : Nat → Int32} (hv : ∀ j, j < 9 → A 1234 j = V j) {p q : Nat} {e : Ex} (he : mEx A0 p q e) {Q : Int32 → pA → Prop}
    (k1 : ∀ (A' : pA) x, MS A0 A' R → A' 1234 = A 1234 → A' 1198 = A 1198 → exEv V e = some x → Q x A') (k2 : ∀ (A' : pA), MS A0 A' R → A' 1234 = A 1234 → A' 1198 54 = 1 → exEv V e = none → Q 0 A') : fX10_termOf A (Int32.ofNat p) (Int32.ofNat q) Q := by
  obtain ⟨e1, e2, e3, e4, e5⟩ := he
  have := exTop_len e
  refine ⟨1 + (exCode e).length, m_termL e2 e A 0 p 1 e4 (cdAt_same (h.fr _ (by decide) (by decide) (by decide) (by decide)) (h.fr _ (by decide) (by decide) (by decide) (by decide)) _ _ e5) (by omega) (by omega) hv ?_ ?_⟩
  · intro A' f g x ex px
    rw [← e1]
    unfold fX10_termOf_L5
    rw [if_pos (Int32.le_refl _), px]
    exact k1 A' x (h.pile f) (f _ (by decide)) (f _ (by decide)) ex
  · intro A' f en
    exact k2 _ ((h.pile f).bro) (by rw [pup_ne (by decide)]; exact f _ (by decide)) (by rw [pup_row, wup_self]) en
theorem m_askL (hM : MM A0 T s) {V : Nat → Int32} {k last : Nat} (hk : k < 4) {e : Ex} {Q : Int32 → pA → Prop} (hl : A0 1225 (4 * s + k) = Int32.ofNat last) (hl2 : last ≤ 260) : ∀ (l : List (Ex × Ex × Ex)) (f : Nat) (A : pA), MS A0 A R → (∀ j, j < 9 → A 1234 j = V j) → A 1198 54 = 0 → mBr A0 f l → f + l.length + 1 = last → A0 1226 (f + l.length) = 0 → (∃ r t, A0 1229 (f + l.length) = Int32.ofNat r ∧ A0 1230 (f + l.length) = Int32.ofNat t ∧ mEx A0 r t e) → (∀ A', MS A0 A' R → Q ((lawEv V e l).getD 0) A') → fX10_asks_L39 Q (l.length + 1) (Int32.ofNat (4 * s + k)) (Int32.ofNat f) A := by
  have s2 := hM.slt
  have tail : ∀ (f : Nat) (A : pA) (x : Ex) (r t : Nat) (w : Option Int32), f < 260 → MS A0 A R → (∀ j, j < 9 → A 1234 j = V j) → A 1198 54 = 0 → A0 1229 f = Int32.ofNat r → A0 1230 f = Int32.ofNat t → mEx A0 r t x → exEv V x = w → (∀ A', MS A0 A' R → Q (w.getD 0) A') → fX10_asks_J119 Q (Int32.ofNat f) A := by
    intro f A x r t w hf h hv hb h1 h2 he hw hQ
    unfold fX10_asks_J119
    simp (disch := omega) only [n_inT, n_nat, true_and, h.fr, h1, h2]
    refine m_termOf h hv he ?_ ?_
    · intro A' y h' _ e2 ey
      rw [e2, if_pos hb]
      have := hQ A' h'
      rw [← hw, ey] at this
      exact this
    · intro A' h' _ e2 en
      rw [e2, if_neg (by decide)]
      have := hQ A' h'
      rw [← hw, en] at this
      exact this
  intro l
  induction l with
  | nil =>
    intro f A h hv hb hbr hf h26 hrt hQ
    obtain ⟨r, t, h1, h2, h3⟩ := hrt
    simp only [List.length_nil, Nat.add_zero] at hf h26 h1 h2
    unfold fX10_asks_L39
    simp (disch := omega) only [n_inT, n_nat, true_and, h.fr, hl, n_le, h26]
    rw [if_neg (by omega), if_pos trivial]
    exact tail f A e r t _ (by omega) h hv hb h1 h2 h3 rfl hQ
  | cons q l ih =>
    obtain ⟨a, b, c⟩ := q
    intro f A h hv hb hbr hf h26 hrt hQ
    obtain ⟨b1, ⟨p, q, r, t, e1, e2, e3, e4, xa, xb, xc⟩, b2⟩ := hbr
    simp only [List.length_cons] at hf h26 hrt
    unfold fX10_asks_L39
    simp (disch := omega) only [n_inT, n_nat, true_and, h.fr, hl, n_le, b1, e1, e2, List.length_cons]
    rw [if_neg (by omega), if_neg (by decide)]
    refine m_termOf h hv xa ?_ ?_
    · intro A1 x h1 v1 i1 ex
      simp (disch := omega) only [h1.fr, e2, e3]
      refine m_termOf (V := V) h1 (fun j hj => by rw [v1]; exact hv j hj) xb ?_ ?_
      · intro A2 y h2 v2 i2 ey
        rw [i2, i1, if_pos hb]
        have hv2 : ∀ j, j < 9 → A2 1234 j = V j := fun j hj => by rw [v2, v1]; exact hv j hj
        have hb2 : A2 1198 54 = 0 := by rw [i2, i1]; exact hb
        by_cases cxy : x < y
        · rw [if_pos cxy]
          refine tail f A2 c r t _ (by omega) h2 hv2 hb2 e3 e4 xc rfl (fun A' h' => ?_)
          have := hQ A' h'
          simp only [lawEv, ex, ey, Option.bind_some, if_neg (Int32.not_le.mpr cxy)] at this
          exact this
        · rw [if_neg cxy, n_addR]
          refine ih (f + 1) A2 h2 hv2 hb2 b2 (by omega) ?_ ?_ (fun A' h' => ?_)
          · rw [show f + 1 + l.length = f + (l.length + 1) by omega]; exact h26
          · rw [show f + 1 + l.length = f + (l.length + 1) by omega]; exact hrt
          · have := hQ A' h'
            simp only [lawEv, ex, ey, Option.bind_some, if_pos (Int32.not_lt.mp cxy)] at this
            exact this
      · intro A2 h2 _ i2 en
        rw [i2, if_neg (by decide)]
        have := hQ A2 h2
        simp only [lawEv, ex, en, Option.bind_some, Option.bind_none, Option.getD_none] at this
        exact this
    · intro A1 h1 v1 i1 en
      simp (disch := omega) only [h1.fr, e2, e3]
      have Q0 : ∀ A', MS A0 A' R → Q 0 A' := fun A' h' => by
        have := hQ A' h'
        simp only [lawEv, en, Option.bind_none, Option.getD_none] at this
        exact this
      refine m_termOf (V := V) h1 (fun j hj => by rw [v1]; exact hv j hj) xb ?_ ?_
      · intro A2 y h2 _ i2 _
        rw [i2, i1, if_neg (by decide)]
        exact Q0 A2 h2
      · intro A2 h2 _ i2 _
        rw [i2, if_neg (by decide)]
        exact Q0 A2 h2
theorem m_asks (hM : MM A0 T s) (h : MS A0 A R) {V : Nat → Int32} (hv : ∀ j, j < 9 → A 1234 j = V j) {k : Nat} (hk : k < 4) {plain : Int32} {Q : Int32 → pA → Prop} (hQ : ∀ A', MS A0 A' R → Q (lawV T k V plain) A') : fX10_asks A (Int32.ofNat k) plain Q := by
  have s2 := hM.slt
  have hl := hM.law k hk
  unfold lawV at hQ
  unfold fX10_asks
  simp (disch := omega) only [n_inT, n_nat, true_and, h.fr, h.fi, hM.live, n_mulL, n_add]
  cases hw : T.law k with
  | none =>
    rw [hw] at hl hQ
    rw [if_pos (show A0 1224 (4 * s + k) = A0 1225 (4 * s + k) from hl)]
    exact hQ A h
  | some l =>
    rw [hw] at hl hQ
    obtain ⟨f, h1, h2, h3, h4, h5, h6⟩ := hl
    rw [h1, h2, if_neg (by rw [n_eq (by omega) (by omega)]; omega)]
    intro A17 e17
    have h' : MS A0 A17 R := by rw [e17]; exact h.bro
    rw [h'.fr _ (by decide) (by decide) (by decide) (by decide), h1]
    exact ⟨l.1.length + 1, m_askL hM hk h2 h3 l.1 f A17 h' (fun j hj => by rw [e17, pup_ne (by decide)]; exact hv j hj) (by rw [e17, pup_row, wup_self]) h4 rfl h5 h6 hQ⟩
end M
