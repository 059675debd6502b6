set_option maxRecDepth 100000
set_option linter.all false
/-! ===== what holds between two calls ===== -/
def SCR (R : Rw) (A A' : pA) : Prop :=
  (∀ c, (c < 25 ∨ 71 ≤ c) → (c < 146 ∨ 275 ≤ c) → c ≠ 277 → c ≠ 1198 → c ≠ 1234 → c ≠ 1235 → c ≠ 1238 → c ≠ 1240 → c ≠ 1243 → A' c = A c) ∧
  (∀ j, j ≠ 54 → A' 1198 j = A 1198 j) ∧
  (TV 25 A' R)
theorem SCR.fr {R : Rw} {A A' : pA} (h : SCR R A A') : ∀ c, (c < 25 ∨ 71 ≤ c) → (c < 146 ∨ 275 ≤ c) → c ≠ 277 → c ≠ 1198 → c ≠ 1234 → c ≠ 1235 → c ≠ 1238 → c ≠ 1240 → c ≠ 1243 → A' c = A c := h.1
theorem SCR.fi {R : Rw} {A A' : pA} (h : SCR R A A') : ∀ j, j ≠ 54 → A' 1198 j = A 1198 j := h.2.1
theorem SCR.tv {R : Rw} {A A' : pA} (h : SCR R A A') : TV 25 A' R := h.2.2
def St : Type := (Tx) × (Nat) × (Nat) × (Rw) × (Nat) × (Nat) × (Nat → Rw) × (Nat → Rw) × (Nat)
abbrev St.T (x : St) : Tx := x.1
abbrev St.s (x : St) : Nat := x.2.1
abbrev St.tx (x : St) : Nat := x.2.2.1
abbrev St.R (x : St) : Rw := x.2.2.2.1
abbrev St.u (x : St) : Nat := x.2.2.2.2.1
abbrev St.w (x : St) : Nat := x.2.2.2.2.2.1
abbrev St.H (x : St) : Nat → Rw := x.2.2.2.2.2.2.1
abbrev St.S (x : St) : Nat → Rw := x.2.2.2.2.2.2.2.1
abbrev St.to (x : St) : Nat := x.2.2.2.2.2.2.2.2
abbrev St.mk (T : Tx) (s : Nat) (tx : Nat) (R : Rw) (u : Nat) (w : Nat) (H : Nat → Rw) (S : Nat → Rw) (to : Nat) : St := (T, s, tx, R, u, w, H, S, to)
def keyV (k : Nat) : Int64 := (([8740067, 316205, 3328, 232608281, 81665878, 12253591, 10656676, 3211399, 94195, 168984, 31499758, 249, 399641, 107681, 4513, 162688153, 4419, 237621350, 46472, 126232335, 191610176, 12387257, 10656671] : List Nat).map Int64.ofNat).getD k 0
def INV (B : Nat) (x : St) (n : Nat) (K : Nat → pKd) (A : pA) (Lg : pL) (G : pG) : Prop :=
  (VT x.T) ∧
  (VF x.T) ∧
  (CM n K A G x.tx x.T) ∧
  (MM A x.T x.s) ∧
  (G 0 3 = .ref x.tx) ∧
  (xOK n K G x.tx) ∧
  (fOK n K G) ∧
  (mOK n K G) ∧
  (VR x.T B x.R) ∧
  (TV 25 A x.R) ∧
  (∀ k, k < 77 → A 1237 k = x.R k) ∧
  (A 1198 2 = A 2 2) ∧
  (∃ t, t ≤ 2000 ∧ A 2 2 = Int32.ofNat t) ∧
  (∀ k, k < 2000 → A 1199 k = A 4 k ∧ -128 ≤ (A 4 k).toInt ∧ (A 4 k).toInt ≤ 127) ∧
  (A 1198 17 = A 0 4) ∧
  (x.u ≤ 40) ∧
  (A 0 5 = Int32.ofNat x.u) ∧
  (A 1198 58 = Int32.ofNat x.u) ∧
  (x.w < 40) ∧
  (A 0 6 = Int32.ofNat x.w) ∧
  (∀ j, j < x.u → VR x.T B (x.H j) ∧ (∀ k, k < 77 → A 1239 (77 * j + k) = x.H j k) ∧ TV (278 + 23 * ((x.w + 40 - x.u + j) % 40)) A (x.H j)) ∧
  (x.to ≤ 20) ∧
  (A 0 14 = Int32.ofNat x.to) ∧
  (A 1198 61 = Int32.ofNat x.to) ∧
  (∀ k, k < x.to → ∃ a, a < x.T.pe ∧ A 275 k = Int32.ofNat a ∧ A 1241 k = Int32.ofNat a ∧ A 1242 k = A 276 k ∧ (A 276 k = 0 ∨ A 276 k = 1)) ∧
  (∀ k, k < 3 → A 1244 k = A 145 k ∧ (A 145 k = 0 ∨ A 145 k = 1) ∧ (A 145 k = 1 → VR x.T B (x.S k) ∧ TV (73 + 23 * k) A (x.S k) ∧ ∀ j, j < 77 → A 1245 (77 * k + j) = x.S k j)) ∧
  (∀ k, k < 23 → Lg 1205 k = keyV k)
theorem INV.vt {B : Nat} {x : St} {n : Nat} {K : Nat → pKd} {A : pA} {Lg : pL} {G : pG} (h : INV B x n K A Lg G) : VT x.T := h.1
theorem INV.vf {B : Nat} {x : St} {n : Nat} {K : Nat → pKd} {A : pA} {Lg : pL} {G : pG} (h : INV B x n K A Lg G) : VF x.T := h.2.1
theorem INV.cm {B : Nat} {x : St} {n : Nat} {K : Nat → pKd} {A : pA} {Lg : pL} {G : pG} (h : INV B x n K A Lg G) : CM n K A G x.tx x.T := h.2.2.1
theorem INV.mm {B : Nat} {x : St} {n : Nat} {K : Nat → pKd} {A : pA} {Lg : pL} {G : pG} (h : INV B x n K A Lg G) : MM A x.T x.s := h.2.2.2.1
theorem INV.g03 {B : Nat} {x : St} {n : Nat} {K : Nat → pKd} {A : pA} {Lg : pL} {G : pG} (h : INV B x n K A Lg G) : G 0 3 = .ref x.tx := h.2.2.2.2.1
theorem INV.xok {B : Nat} {x : St} {n : Nat} {K : Nat → pKd} {A : pA} {Lg : pL} {G : pG} (h : INV B x n K A Lg G) : xOK n K G x.tx := h.2.2.2.2.2.1
theorem INV.fok {B : Nat} {x : St} {n : Nat} {K : Nat → pKd} {A : pA} {Lg : pL} {G : pG} (h : INV B x n K A Lg G) : fOK n K G := h.2.2.2.2.2.2.1
theorem INV.mok {B : Nat} {x : St} {n : Nat} {K : Nat → pKd} {A : pA} {Lg : pL} {G : pG} (h : INV B x n K A Lg G) : mOK n K G := h.2.2.2.2.2.2.2.1
theorem INV.vr {B : Nat} {x : St} {n : Nat} {K : Nat → pKd} {A : pA} {Lg : pL} {G : pG} (h : INV B x n K A Lg G) : VR x.T B x.R := h.2.2.2.2.2.2.2.2.1
theorem INV.tv {B : Nat} {x : St} {n : Nat} {K : Nat → pKd} {A : pA} {Lg : pL} {G : pG} (h : INV B x n K A Lg G) : TV 25 A x.R := h.2.2.2.2.2.2.2.2.2.1
theorem INV.mr {B : Nat} {x : St} {n : Nat} {K : Nat → pKd} {A : pA} {Lg : pL} {G : pG} (h : INV B x n K A Lg G) : ∀ k, k < 77 → A 1237 k = x.R k := h.2.2.2.2.2.2.2.2.2.2.1
theorem INV.tp1 {B : Nat} {x : St} {n : Nat} {K : Nat → pKd} {A : pA} {Lg : pL} {G : pG} (h : INV B x n K A Lg G) : A 1198 2 = A 2 2 := h.2.2.2.2.2.2.2.2.2.2.2.1
theorem INV.tp2 {B : Nat} {x : St} {n : Nat} {K : Nat → pKd} {A : pA} {Lg : pL} {G : pG} (h : INV B x n K A Lg G) : ∃ t, t ≤ 2000 ∧ A 2 2 = Int32.ofNat t := h.2.2.2.2.2.2.2.2.2.2.2.2.1
theorem INV.tp3 {B : Nat} {x : St} {n : Nat} {K : Nat → pKd} {A : pA} {Lg : pL} {G : pG} (h : INV B x n K A Lg G) : ∀ k, k < 2000 → A 1199 k = A 4 k ∧ -128 ≤ (A 4 k).toInt ∧ (A 4 k).toInt ≤ 127 := h.2.2.2.2.2.2.2.2.2.2.2.2.2.1
theorem INV.plc {B : Nat} {x : St} {n : Nat} {K : Nat → pKd} {A : pA} {Lg : pL} {G : pG} (h : INV B x n K A Lg G) : A 1198 17 = A 0 4 := h.2.2.2.2.2.2.2.2.2.2.2.2.2.2.1
theorem INV.u40 {B : Nat} {x : St} {n : Nat} {K : Nat → pKd} {A : pA} {Lg : pL} {G : pG} (h : INV B x n K A Lg G) : x.u ≤ 40 := h.2.2.2.2.2.2.2.2.2.2.2.2.2.2.2.1
theorem INV.cu {B : Nat} {x : St} {n : Nat} {K : Nat → pKd} {A : pA} {Lg : pL} {G : pG} (h : INV B x n K A Lg G) : A 0 5 = Int32.ofNat x.u := h.2.2.2.2.2.2.2.2.2.2.2.2.2.2.2.2.1
theorem INV.mu {B : Nat} {x : St} {n : Nat} {K : Nat → pKd} {A : pA} {Lg : pL} {G : pG} (h : INV B x n K A Lg G) : A 1198 58 = Int32.ofNat x.u := h.2.2.2.2.2.2.2.2.2.2.2.2.2.2.2.2.2.1
theorem INV.w40 {B : Nat} {x : St} {n : Nat} {K : Nat → pKd} {A : pA} {Lg : pL} {G : pG} (h : INV B x n K A Lg G) : x.w < 40 := h.2.2.2.2.2.2.2.2.2.2.2.2.2.2.2.2.2.2.1
theorem INV.cw {B : Nat} {x : St} {n : Nat} {K : Nat → pKd} {A : pA} {Lg : pL} {G : pG} (h : INV B x n K A Lg G) : A 0 6 = Int32.ofNat x.w := h.2.2.2.2.2.2.2.2.2.2.2.2.2.2.2.2.2.2.2.1
theorem INV.his {B : Nat} {x : St} {n : Nat} {K : Nat → pKd} {A : pA} {Lg : pL} {G : pG} (h : INV B x n K A Lg G) : ∀ j, j < x.u → VR x.T B (x.H j) ∧ (∀ k, k < 77 → A 1239 (77 * j + k) = x.H j k) ∧ TV (278 + 23 * ((x.w + 40 - x.u + j) % 40)) A (x.H j) := h.2.2.2.2.2.2.2.2.2.2.2.2.2.2.2.2.2.2.2.2.1
theorem INV.to20 {B : Nat} {x : St} {n : Nat} {K : Nat → pKd} {A : pA} {Lg : pL} {G : pG} (h : INV B x n K A Lg G) : x.to ≤ 20 := h.2.2.2.2.2.2.2.2.2.2.2.2.2.2.2.2.2.2.2.2.2.1
theorem INV.cto {B : Nat} {x : St} {n : Nat} {K : Nat → pKd} {A : pA} {Lg : pL} {G : pG} (h : INV B x n K A Lg G) : A 0 14 = Int32.ofNat x.to := h.2.2.2.2.2.2.2.2.2.2.2.2.2.2.2.2.2.2.2.2.2.2.1
theorem INV.mto {B : Nat} {x : St} {n : Nat} {K : Nat → pKd} {A : pA} {Lg : pL} {G : pG} (h : INV B x n K A Lg G) : A 1198 61 = Int32.ofNat x.to := h.2.2.2.2.2.2.2.2.2.2.2.2.2.2.2.2.2.2.2.2.2.2.2.1
theorem INV.tel {B : Nat} {x : St} {n : Nat} {K : Nat → pKd} {A : pA} {Lg : pL} {G : pG} (h : INV B x n K A Lg G) : ∀ k, k < x.to → ∃ a, a < x.T.pe ∧ A 275 k = Int32.ofNat a ∧ A 1241 k = Int32.ofNat a ∧ A 1242 k = A 276 k ∧ (A 276 k = 0 ∨ A 276 k = 1) := h.2.2.2.2.2.2.2.2.2.2.2.2.2.2.2.2.2.2.2.2.2.2.2.2.1
theorem INV.hel {B : Nat} {x : St} {n : Nat} {K : Nat → pKd} {A : pA} {Lg : pL} {G : pG} (h : INV B x n K A Lg G) : ∀ k, k < 3 → A 1244 k = A 145 k ∧ (A 145 k = 0 ∨ A 145 k = 1) ∧ (A 145 k = 1 → VR x.T B (x.S k) ∧ TV (73 + 23 * k) A (x.S k) ∧ ∀ j, j < 77 → A 1245 (77 * k + j) = x.S k j) := h.2.2.2.2.2.2.2.2.2.2.2.2.2.2.2.2.2.2.2.2.2.2.2.2.2.1
theorem INV.keys {B : Nat} {x : St} {n : Nat} {K : Nat → pKd} {A : pA} {Lg : pL} {G : pG} (h : INV B x n K A Lg G) : ∀ k, k < 23 → Lg 1205 k = keyV k := h.2.2.2.2.2.2.2.2.2.2.2.2.2.2.2.2.2.2.2.2.2.2.2.2.2.2
theorem CM.same {n : Nat} {K : Nat → pKd} {A A' : pA} {G : pG} {tx : Nat} {T : Tx} (h : CM n K A G tx T) (h1 : ∀ j, j < 15 → A' (tx + j) = A (tx + j)) (h2 : ∀ c, 1246 ≤ c → A' c = A c) : CM n K A' G tx T :=
  ⟨(h.tc),
   (by rw [h1 1 (by omega)]; exact h.pl),
   (by rw [h1 2 (by omega)]; exact h.dg),
   (by rw [h1 3 (by omega)]; exact h.pe),
   (fun p hp => by
    obtain ⟨r, hg, hk, ha⟩ := h.spot p hp
    refine ⟨r, hg, hk, ?_⟩
    obtain ⟨e, z, g1, g2, g3, g4, g5, g6, g7, g8⟩ := hg
    rw [h2 r g8]; exact ha),
   (fun p hp => by
    obtain ⟨r, hg, hk, ha⟩ := h.dog p hp
    refine ⟨r, hg, hk, ?_⟩
    obtain ⟨e, z, g1, g2, g3, g4, g5, g6, g7, g8⟩ := hg
    rw [h2 r g8]; exact ha),
   (fun p hp => by
    obtain ⟨r, hg, hk, ha⟩ := h.per p hp
    refine ⟨r, hg, hk, ?_⟩
    obtain ⟨e, z, g1, g2, g3, g4, g5, g6, g7, g8⟩ := hg
    rw [h2 r g8]; exact ha),
   (by have := h1 0 (by omega); rw [Nat.add_zero] at this; rw [this]; exact h.pa),
   (by have := h1 0 (by omega); rw [Nat.add_zero] at this; rw [this]; exact h.er),
   (fun e he => by rw [h1 4 (by omega)]; exact h.who e he),
   (fun e he => by rw [h1 5 (by omega)]; exact h.whr e he),
   (by have := h1 0 (by omega); rw [Nat.add_zero] at this; rw [this]; exact h.hf),
   (by have := h1 0 (by omega); rw [Nat.add_zero] at this; rw [this]; exact h.ht),
   (by have := h1 0 (by omega); rw [Nat.add_zero] at this; rw [this]; exact h.st),
   (fun p q hp hq => by rw [Nat.add_assoc, h1 (8 + p) (by omega), ← Nat.add_assoc]; exact h.far p q hp hq),
   (fun k hk => by
    have := h.law k hk
    cases e : T.law k with
    | none => rw [e] at this; exact this
    | some l =>
      rw [e] at this
      obtain ⟨c, hc, hl⟩ := this
      exact ⟨c, hc, cLaw_same h2 hl⟩)⟩
theorem mBr_same {A A' : pA} (h : ∀ c, 1208 ≤ c → c ≤ 1232 → A' c = A c) : ∀ (l : List (Ex × Ex × Ex)) (f : Nat), mBr A f l → mBr A' f l
  | [], _, _ => trivial
  | (a, b, c) :: l, f, hh => by
    obtain ⟨b1, ⟨p, q, r, t, e1, e2, e3, e4, xa, xb, xc⟩, b2⟩ := hh
    refine ⟨by rw [h _ (by omega) (by omega)]; exact b1, ⟨p, q, r, t, ?_, ?_, ?_, ?_, mEx_same (h _ (by omega) (by omega)) (h _ (by omega) (by omega)) xa, mEx_same (h _ (by omega) (by omega)) (h _ (by omega) (by omega)) xb, mEx_same (h _ (by omega) (by omega)) (h _ (by omega) (by omega)) xc⟩, mBr_same h l (f + 1) b2⟩
    · rw [h _ (by omega) (by omega)]; exact e1
    · rw [h _ (by omega) (by omega)]; exact e2
    · rw [h _ (by omega) (by omega)]; exact e3
    · rw [h _ (by omega) (by omega)]; exact e4
theorem mLaw_same {A A' : pA} (h : ∀ c, 1208 ≤ c → c ≤ 1232 → A' c = A c) {s k : Nat} {l : Option LawT} (hl : mLaw A s k l) : mLaw A' s k l := by
  cases l with
  | none =>
    show A' 1224 _ = A' 1225 _
    rw [h _ (by omega) (by omega), h _ (by omega) (by omega)]; exact hl
  | some l =>
    obtain ⟨f, h1, h2, h3, h4, h5, r, t, h6, h7, h8⟩ := hl
    refine ⟨f, ?_, ?_, h3, mBr_same h _ _ h4, ?_, r, t, ?_, ?_, mEx_same (h _ (by omega) (by omega)) (h _ (by omega) (by omega)) h8⟩
    · rw [h _ (by omega) (by omega)]; exact h1
    · rw [h _ (by omega) (by omega)]; exact h2
    · rw [h _ (by omega) (by omega)]; exact h5
    · rw [h _ (by omega) (by omega)]; exact h6
    · rw [h _ (by omega) (by omega)]; exact h7
theorem MM.same {A A' : pA} {T : Tx} {s : Nat} (hM : MM A T s) (h : ∀ c, 1208 ≤ c → c ≤ 1232 → A' c = A c) (h2 : A' 1236 = A 1236) (h3 : A' 1198 18 = A 1198 18) : MM A' T s :=
  ⟨(hM.slt),
   (by rw [h3]; exact hM.live),
   (by rw [h _ (by omega) (by omega)]; exact hM.pl),
   (fun p hp => by rw [h _ (by omega) (by omega)]; exact hM.nx p hp),
   (by rw [h _ (by omega) (by omega)]; exact hM.pa),
   (by rw [h _ (by omega) (by omega)]; exact hM.dg),
   (fun p hp => by rw [h _ (by omega) (by omega)]; exact hM.ken p hp),
   (fun p hp => by rw [h _ (by omega) (by omega)]; exact hM.bit p hp),
   (fun p hp => by rw [h _ (by omega) (by omega)]; exact hM.hun p hp),
   (by rw [h _ (by omega) (by omega)]; exact hM.pe),
   (fun p hp => by rw [h _ (by omega) (by omega)]; exact hM.hom p hp),
   (fun p hp => by rw [h _ (by omega) (by omega)]; exact hM.pok p hp),
   (by rw [h _ (by omega) (by omega)]; exact hM.er),
   (fun p hp => by rw [h _ (by omega) (by omega)]; exact hM.who p hp),
   (fun p hp => by rw [h _ (by omega) (by omega)]; exact hM.whr p hp),
   (by rw [h _ (by omega) (by omega)]; exact hM.hf),
   (by rw [h _ (by omega) (by omega)]; exact hM.ht),
   (by rw [h _ (by omega) (by omega)]; exact hM.st),
   (fun p q hp hq => by rw [h2]; exact hM.far p q hp hq),
   (fun k hk => mLaw_same h (hM.law k hk))⟩
theorem TV.same {o : Nat} {A A' : pA} {R : Rw} (t : TV o A R) (f : ∀ j, j < 20 → A' (o + j) = A (o + j)) : TV o A' R :=
  ⟨(fun x hx => by rw [f 1 (by omega)]; exact t.dog x hx),
   (fun x hx => by rw [f 2 (by omega)]; exact t.tak x hx),
   (fun x hx => by rw [f 3 (by omega)]; exact t.too x hx),
   (fun x hx => by rw [f 4 (by omega)]; exact t.at_ x hx),
   (fun x hx => by rw [f 5 (by omega)]; exact t.goal x hx),
   (fun x hx => by rw [f 6 (by omega)]; exact t.pok x hx),
   (fun x hx => by rw [f 7 (by omega)]; exact t.oft x hx),
   (fun d a hd ha => by rw [Nat.add_assoc, f (9 + d) (by omega), ← Nat.add_assoc]; exact t.fed d a hd ha),
   (fun d a hd ha => by rw [Nat.add_assoc, f (15 + d) (by omega), ← Nat.add_assoc]; exact t.kik d a hd ha),
   (by have := f 0 (by omega); rw [Nat.add_zero] at this; rw [this]; exact t.fet),
   (by have := f 0 (by omega); rw [Nat.add_zero] at this; rw [this]; exact t.don),
   (by have := f 0 (by omega); rw [Nat.add_zero] at this; rw [this]; exact t.tim)⟩
section I
variable {B : Nat} {x : St} {n : Nat} {K : Nat → pKd} {A A1 A' : pA} {Lg : pL} {G : pG}
theorem tv_far {i : Nat} : (i % 40 < 40) := Nat.mod_lt _ (by omega)
theorem INV.scr (h : INV B x n K A Lg G) (hs : SCR x.R A A') : INV B x n K A' Lg G :=
  ⟨(h.vt),
   (h.vf),
   (h.cm.same (fun j hj => hs.fr _ (by rcases h.cm.tc with c | c <;> omega) (by rcases h.cm.tc with c | c <;> omega) (by rcases h.cm.tc with c | c <;> omega) (by rcases h.cm.tc with c | c <;> omega) (by rcases h.cm.tc with c | c <;> omega) (by rcases h.cm.tc with c | c <;> omega) (by rcases h.cm.tc with c | c <;> omega) (by rcases h.cm.tc with c | c <;> omega) (by rcases h.cm.tc with c | c <;> omega)) (fun c hc => hs.fr c (by omega) (by omega) (by omega) (by omega) (by omega) (by omega) (by omega) (by omega) (by omega))),
   (h.mm.same (fun c h1 h2 => hs.fr c (by omega) (by omega) (by omega) (by omega) (by omega) (by omega) (by omega) (by omega) (by omega)) (hs.fr _ (by omega) (by omega) (by omega) (by omega) (by omega) (by omega) (by omega) (by omega) (by omega)) (hs.fi _ (by omega))),
   (h.g03),
   (h.xok),
   (h.fok),
   (h.mok),
   (h.vr),
   (hs.tv),
   (fun k hk => by rw [hs.fr _ (by omega) (by omega) (by omega) (by omega) (by omega) (by omega) (by omega) (by omega) (by omega)]; exact h.mr k hk),
   (by rw [hs.fr 2 (by omega) (by omega) (by omega) (by omega) (by omega) (by omega) (by omega) (by omega) (by omega), hs.fi _ (by omega)]; exact h.tp1),
   (by rw [hs.fr _ (by omega) (by omega) (by omega) (by omega) (by omega) (by omega) (by omega) (by omega) (by omega)]; exact h.tp2),
   (fun k hk => by rw [hs.fr 1199 (by omega) (by omega) (by omega) (by omega) (by omega) (by omega) (by omega) (by omega) (by omega), hs.fr 4 (by omega) (by omega) (by omega) (by omega) (by omega) (by omega) (by omega) (by omega) (by omega)]; exact h.tp3 k hk),
   (by rw [hs.fr 0 (by omega) (by omega) (by omega) (by omega) (by omega) (by omega) (by omega) (by omega) (by omega), hs.fi _ (by omega)]; exact h.plc),
   (h.u40),
   (by rw [hs.fr _ (by omega) (by omega) (by omega) (by omega) (by omega) (by omega) (by omega) (by omega) (by omega)]; exact h.cu),
   (by rw [hs.fi _ (by omega)]; exact h.mu),
   (h.w40),
   (by rw [hs.fr _ (by omega) (by omega) (by omega) (by omega) (by omega) (by omega) (by omega) (by omega) (by omega)]; exact h.cw),
   (fun j hj => by
    obtain ⟨h1, h2, h3⟩ := h.his j hj
    have := tv_far (i := x.w + 40 - x.u + j)
    refine ⟨h1, fun k hk => by rw [hs.fr _ (by omega) (by omega) (by omega) (by omega) (by omega) (by omega) (by omega) (by omega) (by omega)]; exact h2 k hk, h3.same (fun j' hj' => hs.fr _ (by omega) (by omega) (by omega) (by omega) (by omega) (by omega) (by omega) (by omega) (by omega))⟩),
   (h.to20),
   (by rw [hs.fr _ (by omega) (by omega) (by omega) (by omega) (by omega) (by omega) (by omega) (by omega) (by omega)]; exact h.cto),
   (by rw [hs.fi _ (by omega)]; exact h.mto),
   (fun k hk => by rw [hs.fr 275 (by omega) (by omega) (by omega) (by omega) (by omega) (by omega) (by omega) (by omega) (by omega), hs.fr 276 (by omega) (by omega) (by omega) (by omega) (by omega) (by omega) (by omega) (by omega) (by omega), hs.fr 1241 (by omega) (by omega) (by omega) (by omega) (by omega) (by omega) (by omega) (by omega) (by omega), hs.fr 1242 (by omega) (by omega) (by omega) (by omega) (by omega) (by omega) (by omega) (by omega) (by omega)]; exact h.tel k hk),
   (fun k hk => by
    obtain ⟨h1, h2, h3⟩ := h.hel k hk
    rw [hs.fr 145 (by omega) (by omega) (by omega) (by omega) (by omega) (by omega) (by omega) (by omega) (by omega), hs.fr 1244 (by omega) (by omega) (by omega) (by omega) (by omega) (by omega) (by omega) (by omega) (by omega), hs.fr 1245 (by omega) (by omega) (by omega) (by omega) (by omega) (by omega) (by omega) (by omega) (by omega)]
    exact ⟨h1, h2, fun e => ⟨(h3 e).1, (h3 e).2.1.same (fun j' hj' => hs.fr _ (by omega) (by omega) (by omega) (by omega) (by omega) (by omega) (by omega) (by omega) (by omega)), (h3 e).2.2⟩⟩),
   (h.keys)⟩
theorem INV.mono (h : INV B x n K A Lg G) {B' : Nat} (hB : B ≤ B') : INV B' x n K A Lg G :=
  ⟨h.vt, h.vf, h.cm, h.mm, h.g03, h.xok, h.fok, h.mok, h.vr.mono hB, h.tv, h.mr, h.tp1, h.tp2, h.tp3, h.plc, h.u40, h.cu, h.mu, h.w40, h.cw, fun j hj => ⟨(h.his j hj).1.mono hB, (h.his j hj).2⟩, h.to20, h.cto, h.mto, h.tel, fun k hk => ⟨(h.hel k hk).1, (h.hel k hk).2.1, fun e => ⟨((h.hel k hk).2.2 e).1.mono hB, ((h.hel k hk).2.2 e).2⟩⟩, h.keys⟩
theorem INV.same (h : INV B x n K A Lg G) : SCR x.R A A := ⟨fun _ _ _ _ _ _ _ _ _ _ => rfl, fun _ _ => rfl, h.tv⟩
theorem SCR.trans {R : Rw} {A A1 A2 : pA} (h1 : SCR R A A1) (h2 : SCR R A1 A2) : SCR R A A2 :=
  ⟨fun c a1 a2 a3 a4 a5 a6 a7 a8 a9 => by rw [h2.fr c a1 a2 a3 a4 a5 a6 a7 a8 a9, h1.fr c a1 a2 a3 a4 a5 a6 a7 a8 a9], fun j hj => by rw [h2.fi j hj, h1.fi j hj], h2.tv⟩
/-- the model's store, worked on -/
theorem MS.scr (h : INV B x n K A Lg G) {R : Rw} (hm : MS A A1 R) : SCR x.R A A1 :=
  ⟨fun c a1 a2 a3 a4 a5 a6 a7 a8 a9 => hm.fr c a5 a6 a7 a4, hm.fi, h.tv.same (fun j hj => hm.fr _ (by omega) (by omega) (by omega) (by omega))⟩
/-- the trial, worked on -/
theorem CS.scrT (h : INV B x n K A Lg G) {R : Rw} (hc : CS A A1 48 R) : SCR x.R A A1 :=
  ⟨fun c a1 a2 a3 a4 a5 a6 a7 a8 a9 => hc.fr c (by omega), fun j hj => by rw [hc.fr 1198 (by omega)], h.tv.same (fun j hj => hc.fr _ (by omega))⟩
/-- the town itself, asked -/
theorem CS.scrO (h : INV B x n K A Lg G) (hc : CS A A1 25 x.R) : SCR x.R A A1 :=
  ⟨fun c a1 a2 a3 a4 a5 a6 a7 a8 a9 => hc.fr c (by omega), fun j hj => by rw [hc.fr 1198 (by omega)], hc.tv⟩
theorem INV.cs (h : INV B x n K A Lg G) : CS A A 25 x.R := ⟨fun _ _ => rfl, h.tv⟩
theorem oT25 : oT 25 := by unfold oT; omega
theorem oT48 : oT 48 := by unfold oT; omega
end I
