set_option maxRecDepth 100000
set_option linter.all false
/-! ===== THE COMPONENT's cells ===== -/
def opC (op : Nat) : Int32 := if op = 2 then 43 else if op = 3 then 45 else if op = 4 then 42 else 47
/-- the sum at cell a -/
def cEx (n : Nat) (K : Nat → pKd) (A : pA) (G : pG) : Term → Nat → Prop
  | .int v, a => a < n ∧ 1246 ≤ a ∧ K a = .inl 11 ∧ A a 0 = v
  | .index k, a => a < n ∧ 1246 ≤ a ∧ K a = .inl 12 ∧ A a 0 = Int32.ofNat k ∧ k < 9
  | .op2 o x y, a => a < n ∧ 1246 ≤ a ∧ K a = .inl 13 ∧ A a 0 = opC (opN o) ∧ 2 ≤ opN o ∧ opN o ≤ 5 ∧ ∃ ax ay, G a 1 = .ref ax ∧ G a 2 = .ref ay ∧ cEx n K A G x ax ∧ cEx n K A G y ay
  | _, _ => False
def exDep : Term → Nat
  | .int _ => 1
  | .index _ => 1
  | .op2 _ a b => max (exDep a) (exDep b) + 1
  | _ => 1
/-- row e of sums, from place i on -/
def cRow (n : Nat) (K : Nat → pKd) (A : pA) (G : pG) (e : Nat) : Nat → List Ex → Prop
  | _, [] => True
  | i, x :: l => (∃ a, G e i = .ref a ∧ cEx n K A G x a ∧ exDep x ≤ 500) ∧ cRow n K A G e (i + 1) l
def cLaw (n : Nat) (K : Nat → pKd) (A : pA) (G : pG) (c : Nat) (l : LawT) : Prop :=
  (c < n) ∧
  (1246 ≤ c) ∧
  (c < 2000000) ∧
  (K c = .inl 10) ∧
  (A c 3 = Int32.ofNat l.1.length) ∧
  (l.1.length ≤ 4) ∧
  (∃ e, G c 0 = .ref e ∧ e < n ∧ K e = .inr (8, 4) ∧ cRow n K A G e 0 (l.1.map (fun q => q.1))) ∧
  (∃ e, G c 1 = .ref e ∧ e < n ∧ K e = .inr (8, 4) ∧ cRow n K A G e 0 (l.1.map (fun q => q.2.1))) ∧
  (∃ e, G c 2 = .ref e ∧ e < n ∧ K e = .inr (8, 5) ∧ cRow n K A G e 0 (l.1.map (fun q => q.2.2) ++ [l.2]))
theorem cLaw.lt {n : Nat} {K : Nat → pKd} {A : pA} {G : pG} {c : Nat} {l : LawT} (h : cLaw n K A G c l) : c < n := h.1
theorem cLaw.ge {n : Nat} {K : Nat → pKd} {A : pA} {G : pG} {c : Nat} {l : LawT} (h : cLaw n K A G c l) : 1246 ≤ c := h.2.1
theorem cLaw.lt2 {n : Nat} {K : Nat → pKd} {A : pA} {G : pG} {c : Nat} {l : LawT} (h : cLaw n K A G c l) : c < 2000000 := h.2.2.1
theorem cLaw.kd {n : Nat} {K : Nat → pKd} {A : pA} {G : pG} {c : Nat} {l : LawT} (h : cLaw n K A G c l) : K c = .inl 10 := h.2.2.2.1
theorem cLaw.ifs {n : Nat} {K : Nat → pKd} {A : pA} {G : pG} {c : Nat} {l : LawT} (h : cLaw n K A G c l) : A c 3 = Int32.ofNat l.1.length := h.2.2.2.2.1
theorem cLaw.le {n : Nat} {K : Nat → pKd} {A : pA} {G : pG} {c : Nat} {l : LawT} (h : cLaw n K A G c l) : l.1.length ≤ 4 := h.2.2.2.2.2.1
theorem cLaw.less {n : Nat} {K : Nat → pKd} {A : pA} {G : pG} {c : Nat} {l : LawT} (h : cLaw n K A G c l) : ∃ e, G c 0 = .ref e ∧ e < n ∧ K e = .inr (8, 4) ∧ cRow n K A G e 0 (l.1.map (fun q => q.1)) := h.2.2.2.2.2.2.1
theorem cLaw.than {n : Nat} {K : Nat → pKd} {A : pA} {G : pG} {c : Nat} {l : LawT} (h : cLaw n K A G c l) : ∃ e, G c 1 = .ref e ∧ e < n ∧ K e = .inr (8, 4) ∧ cRow n K A G e 0 (l.1.map (fun q => q.2.1)) := h.2.2.2.2.2.2.2.1
theorem cLaw.then_ {n : Nat} {K : Nat → pKd} {A : pA} {G : pG} {c : Nat} {l : LawT} (h : cLaw n K A G c l) : ∃ e, G c 2 = .ref e ∧ e < n ∧ K e = .inr (8, 5) ∧ cRow n K A G e 0 (l.1.map (fun q => q.2.2) ++ [l.2]) := h.2.2.2.2.2.2.2.2
/-- list c of the text: place i holds r -/
def cGet (n : Nat) (K : Nat → pKd) (G : pG) (c i r : Nat) : Prop := ∃ e z, G c 1 = .ref e ∧ e < n ∧ K e = .inr (6, z) ∧ i < z ∧ z ≤ 100 ∧ G e i = .ref r ∧ r < n ∧ 1246 ≤ r
def farC (k : Nat) : Int32 := if k < 99 then Int32.ofNat k else 1000000
def CM (n : Nat) (K : Nat → pKd) (A : pA) (G : pG) (tx : Nat) (T : Tx) : Prop :=
  ((10 ≤ tx ∧ tx + 15 ≤ 25) ∨ 1246 ≤ tx) ∧
  (A (tx + 1) 2 = Int32.ofNat T.pl) ∧
  (A (tx + 2) 2 = Int32.ofNat T.dg) ∧
  (A (tx + 3) 2 = Int32.ofNat T.pe) ∧
  (∀ p, p < T.pl → ∃ r, cGet n K G (tx + 1) p r ∧ K r = .inl 14 ∧ A r 1 = T.nx p) ∧
  (∀ d, d < T.dg → ∃ r, cGet n K G (tx + 2) d r ∧ K r = .inl 15 ∧ A r 1 = Int32.ofNat (T.ken d) ∧ A r 2 = T.bit d ∧ A r 3 = T.hun d) ∧
  (∀ a, a < T.pe → ∃ r, cGet n K G (tx + 3) a r ∧ K r = .inl 16 ∧ A r 1 = Int32.ofNat (T.hom a) ∧ A r 2 = T.pok a) ∧
  (A tx 7 = Int32.ofNat T.pa) ∧
  (A tx 8 = Int32.ofNat T.er) ∧
  (∀ e, e < T.er → A (tx + 4) e = Int32.ofNat (T.who e)) ∧
  (∀ e, e < T.er → A (tx + 5) e = Int32.ofNat (T.whr e)) ∧
  (A tx 9 = Int32.ofNat T.hf) ∧
  (A tx 10 = Int32.ofNat T.ht) ∧
  (A tx 11 = Int32.ofNat T.st) ∧
  (∀ p q, p < 7 → q < 7 → A (tx + 8 + p) q = farC (T.far p q)) ∧
  (∀ k, k < 4 → match T.law k with
    | none => G (tx + 6) k = .null
    | some l => ∃ c, G (tx + 6) k = .ref c ∧ cLaw n K A G c l)
theorem CM.tc {n : Nat} {K : Nat → pKd} {A : pA} {G : pG} {tx : Nat} {T : Tx} (h : CM n K A G tx T) : (10 ≤ tx ∧ tx + 15 ≤ 25) ∨ 1246 ≤ tx := h.1
theorem CM.pl {n : Nat} {K : Nat → pKd} {A : pA} {G : pG} {tx : Nat} {T : Tx} (h : CM n K A G tx T) : A (tx + 1) 2 = Int32.ofNat T.pl := h.2.1
theorem CM.dg {n : Nat} {K : Nat → pKd} {A : pA} {G : pG} {tx : Nat} {T : Tx} (h : CM n K A G tx T) : A (tx + 2) 2 = Int32.ofNat T.dg := h.2.2.1
theorem CM.pe {n : Nat} {K : Nat → pKd} {A : pA} {G : pG} {tx : Nat} {T : Tx} (h : CM n K A G tx T) : A (tx + 3) 2 = Int32.ofNat T.pe := h.2.2.2.1
theorem CM.spot {n : Nat} {K : Nat → pKd} {A : pA} {G : pG} {tx : Nat} {T : Tx} (h : CM n K A G tx T) : ∀ p, p < T.pl → ∃ r, cGet n K G (tx + 1) p r ∧ K r = .inl 14 ∧ A r 1 = T.nx p := h.2.2.2.2.1
theorem CM.dog {n : Nat} {K : Nat → pKd} {A : pA} {G : pG} {tx : Nat} {T : Tx} (h : CM n K A G tx T) : ∀ d, d < T.dg → ∃ r, cGet n K G (tx + 2) d r ∧ K r = .inl 15 ∧ A r 1 = Int32.ofNat (T.ken d) ∧ A r 2 = T.bit d ∧ A r 3 = T.hun d := h.2.2.2.2.2.1
theorem CM.per {n : Nat} {K : Nat → pKd} {A : pA} {G : pG} {tx : Nat} {T : Tx} (h : CM n K A G tx T) : ∀ a, a < T.pe → ∃ r, cGet n K G (tx + 3) a r ∧ K r = .inl 16 ∧ A r 1 = Int32.ofNat (T.hom a) ∧ A r 2 = T.pok a := h.2.2.2.2.2.2.1
theorem CM.pa {n : Nat} {K : Nat → pKd} {A : pA} {G : pG} {tx : Nat} {T : Tx} (h : CM n K A G tx T) : A tx 7 = Int32.ofNat T.pa := h.2.2.2.2.2.2.2.1
theorem CM.er {n : Nat} {K : Nat → pKd} {A : pA} {G : pG} {tx : Nat} {T : Tx} (h : CM n K A G tx T) : A tx 8 = Int32.ofNat T.er := h.2.2.2.2.2.2.2.2.1
theorem CM.who {n : Nat} {K : Nat → pKd} {A : pA} {G : pG} {tx : Nat} {T : Tx} (h : CM n K A G tx T) : ∀ e, e < T.er → A (tx + 4) e = Int32.ofNat (T.who e) := h.2.2.2.2.2.2.2.2.2.1
theorem CM.whr {n : Nat} {K : Nat → pKd} {A : pA} {G : pG} {tx : Nat} {T : Tx} (h : CM n K A G tx T) : ∀ e, e < T.er → A (tx + 5) e = Int32.ofNat (T.whr e) := h.2.2.2.2.2.2.2.2.2.2.1
theorem CM.hf {n : Nat} {K : Nat → pKd} {A : pA} {G : pG} {tx : Nat} {T : Tx} (h : CM n K A G tx T) : A tx 9 = Int32.ofNat T.hf := h.2.2.2.2.2.2.2.2.2.2.2.1
theorem CM.ht {n : Nat} {K : Nat → pKd} {A : pA} {G : pG} {tx : Nat} {T : Tx} (h : CM n K A G tx T) : A tx 10 = Int32.ofNat T.ht := h.2.2.2.2.2.2.2.2.2.2.2.2.1
theorem CM.st {n : Nat} {K : Nat → pKd} {A : pA} {G : pG} {tx : Nat} {T : Tx} (h : CM n K A G tx T) : A tx 11 = Int32.ofNat T.st := h.2.2.2.2.2.2.2.2.2.2.2.2.2.1
theorem CM.far {n : Nat} {K : Nat → pKd} {A : pA} {G : pG} {tx : Nat} {T : Tx} (h : CM n K A G tx T) : ∀ p q, p < 7 → q < 7 → A (tx + 8 + p) q = farC (T.far p q) := h.2.2.2.2.2.2.2.2.2.2.2.2.2.2.1
theorem CM.law {n : Nat} {K : Nat → pKd} {A : pA} {G : pG} {tx : Nat} {T : Tx} (h : CM n K A G tx T) : ∀ k, k < 4 → match T.law k with
    | none => G (tx + 6) k = .null
    | some l => ∃ c, G (tx + 6) k = .ref c ∧ cLaw n K A G c l := h.2.2.2.2.2.2.2.2.2.2.2.2.2.2.2
def bits4 (R : Rw) : Int32 := R 27 ||| (R 28 <<< 1) ||| (R 29 <<< 2) ||| (R 30 <<< 3)
/-- the town at o -/
def TV (o : Nat) (A : pA) (R : Rw) : Prop :=
  (∀ d, d < 5 → A (o + 1) d = R d) ∧
  (∀ d, d < 5 → A (o + 2) d = R (5 + d)) ∧
  (∀ d, d < 5 → A (o + 3) d = R (10 + d)) ∧
  (∀ a, a < 4 → A (o + 4) a = R (15 + a)) ∧
  (∀ a, a < 4 → A (o + 5) a = R (19 + a)) ∧
  (∀ a, a < 4 → A (o + 6) a = R (23 + a)) ∧
  (∀ a, a < 4 → A (o + 7) a = R (31 + a)) ∧
  (∀ d a, d < 5 → a < 4 → A (o + 9 + d) a = R (35 + (4 * d + a))) ∧
  (∀ d a, d < 5 → a < 4 → A (o + 15 + d) a = R (55 + (4 * d + a))) ∧
  (A o 9 = bits4 R) ∧
  (A o 10 = R 75) ∧
  (A o 11 = R 76)
theorem TV.dog {o : Nat} {A : pA} {R : Rw} (h : TV o A R) : ∀ d, d < 5 → A (o + 1) d = R d := h.1
theorem TV.tak {o : Nat} {A : pA} {R : Rw} (h : TV o A R) : ∀ d, d < 5 → A (o + 2) d = R (5 + d) := h.2.1
theorem TV.too {o : Nat} {A : pA} {R : Rw} (h : TV o A R) : ∀ d, d < 5 → A (o + 3) d = R (10 + d) := h.2.2.1
theorem TV.at_ {o : Nat} {A : pA} {R : Rw} (h : TV o A R) : ∀ a, a < 4 → A (o + 4) a = R (15 + a) := h.2.2.2.1
theorem TV.goal {o : Nat} {A : pA} {R : Rw} (h : TV o A R) : ∀ a, a < 4 → A (o + 5) a = R (19 + a) := h.2.2.2.2.1
theorem TV.pok {o : Nat} {A : pA} {R : Rw} (h : TV o A R) : ∀ a, a < 4 → A (o + 6) a = R (23 + a) := h.2.2.2.2.2.1
theorem TV.oft {o : Nat} {A : pA} {R : Rw} (h : TV o A R) : ∀ a, a < 4 → A (o + 7) a = R (31 + a) := h.2.2.2.2.2.2.1
theorem TV.fed {o : Nat} {A : pA} {R : Rw} (h : TV o A R) : ∀ d a, d < 5 → a < 4 → A (o + 9 + d) a = R (35 + (4 * d + a)) := h.2.2.2.2.2.2.2.1
theorem TV.kik {o : Nat} {A : pA} {R : Rw} (h : TV o A R) : ∀ d a, d < 5 → a < 4 → A (o + 15 + d) a = R (55 + (4 * d + a)) := h.2.2.2.2.2.2.2.2.1
theorem TV.fet {o : Nat} {A : pA} {R : Rw} (h : TV o A R) : A o 9 = bits4 R := h.2.2.2.2.2.2.2.2.2.1
theorem TV.don {o : Nat} {A : pA} {R : Rw} (h : TV o A R) : A o 10 = R 75 := h.2.2.2.2.2.2.2.2.2.2.1
theorem TV.tim {o : Nat} {A : pA} {R : Rw} (h : TV o A R) : A o 11 = R 76 := h.2.2.2.2.2.2.2.2.2.2.2
def CS (A0 A : pA) (o : Nat) (R : Rw) : Prop :=
  (∀ c, (c < o ∨ o + 23 ≤ c) → A c = A0 c) ∧
  (TV o A R)
theorem CS.fr {A0 A : pA} {o : Nat} {R : Rw} (h : CS A0 A o R) : ∀ c, (c < o ∨ o + 23 ≤ c) → A c = A0 c := h.1
theorem CS.tv {A0 A : pA} {o : Nat} {R : Rw} (h : CS A0 A o R) : TV o A R := h.2
/-- cells of towns -/
def oT (o : Nat) : Prop := 25 ≤ o ∧ o + 23 ≤ 1198
section C
variable {n : Nat} {K : Nat → pKd} {A0 A : pA} {G : pG} {tx o : Nat} {T : Tx} {B : Nat} {R : Rw}
theorem CS.hi (h : CS A0 A o R) (ho : oT o) {c : Nat} (hc : 1246 ≤ c) : A c = A0 c := h.fr c (Or.inr (by have := ho.2; omega))
theorem CS.txj (h : CS A0 A o R) (ho : oT o) (hM : CM n K A0 G tx T) {j : Nat} (hj : j < 15) : A (tx + j) = A0 (tx + j) := h.fr _ (by have := ho.1; have := ho.2; rcases hM.tc with hc | hc <;> omega)
theorem CS.tx0 (h : CS A0 A o R) (ho : oT o) (hM : CM n K A0 G tx T) : A tx = A0 tx := h.txj ho hM (j := 0) (by omega)
theorem CS.tx8 (h : CS A0 A o R) (ho : oT o) (hM : CM n K A0 G tx T) {p : Nat} (hp : p < 7) : A (tx + 8 + p) = A0 (tx + 8 + p) := by
  rw [Nat.add_assoc]; exact h.txj ho hM (by omega)
theorem cEx_same {A A' : pA} (h : ∀ c, 1246 ≤ c → A' c = A c) (e : Term) : ∀ (a : Nat), cEx n K A G e a → cEx n K A' G e a := by
  induction e with
  | int v => intro a hh; exact ⟨hh.1, hh.2.1, hh.2.2.1, by rw [h a hh.2.1]; exact hh.2.2.2⟩
  | index k => intro a hh; exact ⟨hh.1, hh.2.1, hh.2.2.1, by rw [h a hh.2.1]; exact hh.2.2.2.1, hh.2.2.2.2⟩
  | op2 o x y ihx ihy =>
    intro a hh
    obtain ⟨h1, h2, h3, h4, h5, h6, ax, ay, g1, g2, hx, hy⟩ := hh
    exact ⟨h1, h2, h3, by rw [h a h2]; exact h4, h5, h6, ax, ay, g1, g2, ihx ax hx, ihy ay hy⟩
  | _ => intro a hh; exact absurd hh id
theorem cRow_same {A A' : pA} (h : ∀ c, 1246 ≤ c → A' c = A c) {e : Nat} : ∀ (l : List Ex) (i : Nat), cRow n K A G e i l → cRow n K A' G e i l
  | [], _, _ => trivial
  | x :: l, i, hh => by
    obtain ⟨⟨a, h1, h2, h3⟩, h4⟩ := hh
    exact ⟨⟨a, h1, cEx_same h x a h2, h3⟩, cRow_same h l (i + 1) h4⟩
/-- what a sum's cell is worth -/
theorem c_sum {v : Nat → Int32} : ∀ (e : Ex) (d a : Nat) (A : pA) (Q : Int32 → pA → Prop), oT o → exDep e ≤ d → cEx n K A G e a → (∀ k, k < 9 → A (o + 22) k = v k) →
    (∀ x, exEv v e = some x → Q x A) → (∀ r, exEv v e = none → Q r (pup A (o + 21) 1 1)) → fSum o n K G d a A Q := by
  intro e
  induction e with
  | int x =>
    intro d a A Q ho hd he hv k1 k2
    obtain ⟨d, rfl⟩ : ∃ d', d = d' + 1 := ⟨d - 1, by simp only [exDep] at hd; omega⟩
    obtain ⟨h1, h2, h3, h4⟩ := he
    refine ⟨h1, Or.inl ⟨h3, ?_⟩⟩
    unfold fX13_of
    rw [h4]
    exact k1 x rfl
  | index k =>
    intro d a A Q ho hd he hv k1 k2
    obtain ⟨d, rfl⟩ : ∃ d', d = d' + 1 := ⟨d - 1, by simp only [exDep] at hd; omega⟩
    obtain ⟨h1, h2, h3, h4, h5⟩ := he
    refine ⟨h1, Or.inr (Or.inl ⟨h3, ?_⟩)⟩
    unfold fX14_of
    rw [h4, n_nat (by omega), hv k h5]
    exact ⟨n_in h5 (by omega), k1 _ rfl⟩
  | op2 ob x y ihx ihy =>
    intro d a A Q ho hd he hv k1 k2
    simp only [exDep] at hd
    obtain ⟨d, rfl⟩ : ∃ d', d = d' + 1 := ⟨d - 1, by omega⟩
    obtain ⟨h1, h2, h3, h4, h5, h6, ax, ay, g1, g2, hx, hy⟩ := he
    have evE : exEv v (Term.op2 ob x y) = (exEv v x).bind fun x => (exEv v y).bind fun y => if opN ob = 5 ∧ y = 0 then none else some (binV (opN ob) x y) := rfl
    have o1 := ho.1
    have o2 := ho.2
    refine ⟨h1, Or.inr (Or.inr ⟨h3, ?_⟩)⟩
    unfold fX15_of
    refine ⟨ax, g1, ?_⟩
    have pp : pup (pup A (o + 21) 1 1) (o + 21) 1 1 = pup A (o + 21) 1 1 := by
      funext c j
      unfold pup
      by_cases c1 : c = o + 21
      · subst c1
        simp only [if_true]
        by_cases c2 : j = 1
        · simp only [c2, if_true]
        · simp only [c2, if_false, if_true]
      · simp only [c1, if_false]
    have e0 : ∀ A3 : pA, (A3 = A ∨ A3 = pup A (o + 21) 1 1) → A3 a 0 = opC (opN ob) := by
      intro A3 hh
      rcases hh with rfl | rfl
      · exact h4
      · rw [pup_ne (by omega)]; exact h4
    have v3 : ∀ A3 : pA, (A3 = A ∨ A3 = pup A (o + 21) 1 1) → ∀ k, k < 9 → A3 (o + 22) k = v k := by
      intro A3 hh
      rcases hh with rfl | rfl
      · exact hv
      · intro k hk; rw [pup_ne (by omega)]; exact hv k hk
    have x3 : ∀ A3 : pA, (A3 = A ∨ A3 = pup A (o + 21) 1 1) → cEx n K A3 G y ay := by
      intro A3 hh
      rcases hh with rfl | rfl
      · exact hy
      · exact cEx_same (fun c hc => pup_ne (by omega)) y ay hy
    -- what is done with both values
    have body : ∀ (r2 r5 : Int32) (A6 : pA), (A6 = A ∨ A6 = pup A (o + 21) 1 1) → (¬ ((opN ob) = 5 ∧ r5 = 0) → Q (binV (opN ob) r2 r5) A6) → ((opN ob) = 5 → r5 = 0 → Q 0 (pup A6 (o + 21) 1 1)) →
        (if (A6 a 0) = 42 then Q (r2 * r5) A6 else (if (A6 a 0) = 43 then Q (r2 + r5) A6 else (if (A6 a 0) = 44 then (if r5 = 0 then ∀ A12 : pA, A12 = pup A6 (o + 21) 1 1 → Q 0 A12 else (¬ r5 = 0) ∧ (Q (r2 / r5) A6)) else (if (A6 a 0) = 45 then Q (r2 - r5) A6 else ((if r5 = 0 then ∀ A7 : pA, A7 = pup A6 (o + 21) 1 1 → Q 0 A7 else (¬ r5 = 0) ∧ (Q (r2 / r5) A6))))))) := by
      intro r2 r5 A6 h6' q1 q2
      rw [e0 A6 h6']
      rcases (show (opN ob) = 2 ∨ (opN ob) = 3 ∨ (opN ob) = 4 ∨ (opN ob) = 5 by omega) with q | q | q | q <;> rw [q] at q1 q2 ⊢
      · exact q1 (by omega)
      · exact q1 (by omega)
      · exact q1 (by omega)
      · show (if r5 = 0 then _ else _)
        by_cases c : r5 = 0
        · rw [if_pos c]; intro A7 e7; rw [e7]; exact q2 rfl c
        · rw [if_neg c]; exact ⟨c, q1 (fun hh => c hh.2)⟩
    have evs : ∀ r2 r5, exEv v x = some r2 → exEv v y = some r5 → ¬ ((opN ob) = 5 ∧ r5 = 0) → exEv v (Term.op2 ob x y) = some (binV (opN ob) r2 r5) := by
      intro r2 r5 e1 e2 hz
      simp only [evE, e1, e2, Option.bind_some, if_neg hz]
    have evn : ∀ r2 r5, exEv v x = some r2 → exEv v y = some r5 → ((opN ob) = 5 ∧ r5 = 0) → exEv v (Term.op2 ob x y) = none := by
      intro r2 r5 e1 e2 hz
      simp only [evE, e1, e2, Option.bind_some, if_pos hz]
    have evx : exEv v x = none → exEv v (Term.op2 ob x y) = none := by
      intro e1; simp only [evE, e1, Option.bind_none]
    have evy : ∀ r2, exEv v x = some r2 → exEv v y = none → exEv v (Term.op2 ob x y) = none := by
      intro r2 e1 e2; simp only [evE, e1, e2, Option.bind_some, Option.bind_none]
    refine ihx d ax A _ ho (by omega) hx hv ?_ ?_
    · intro r2 e2
      refine ⟨ay, g2, ?_⟩
      refine ihy d ay A _ ho (by omega) hy hv ?_ ?_
      · intro r5 e5
        refine body r2 r5 A (Or.inl rfl) (fun hz => k1 _ (evs r2 r5 e2 e5 hz)) (fun z1 z2 => k2 0 (evn r2 r5 e2 e5 ⟨z1, z2⟩))
      · intro r5 e5
        have q := fun r => k2 r (evy r2 e2 e5)
        exact body r2 r5 _ (Or.inr rfl) (fun hz => q _) (fun z1 z2 => by rw [pp]; exact q 0)
    · intro r2 e2
      have q := fun r => k2 r (evx e2)
      refine ⟨ay, g2, ?_⟩
      refine ihy d ay _ _ ho (by omega) (x3 _ (Or.inr rfl)) (v3 _ (Or.inr rfl)) ?_ ?_
      · intro r5 e5
        exact body r2 r5 _ (Or.inr rfl) (fun hz => q _) (fun z1 z2 => by rw [pp]; exact q 0)
      · intro r5 e5
        rw [pp]
        exact body r2 r5 _ (Or.inr rfl) (fun hz => q _) (fun z1 z2 => by rw [pp]; exact q 0)
  | _ => intro d a A Q ho hd he; exact absurd he id
theorem c_law (ho : oT o) {c : Nat} {l : LawT} (hl : cLaw n K A G c l) {v : Nat → Int32} (hv : ∀ k, k < 9 → A (o + 22) k = v k) {Q : Int32 → pA → Prop} (hQ : ∀ A', (∀ c, c ≠ o + 21 → A' c = A c) → Q ((lawEv v l.2 l.1).getD 0) A') : fX11_of c o n K A G Q := by
  have o2 := ho.2
  obtain ⟨e0, g0, lt0, k0, r0⟩ := hl.less
  obtain ⟨e1, g1, lt1, k1, r1⟩ := hl.than
  obtain ⟨e2, g2, lt2, k2, r2⟩ := hl.then_
  have hle := hl.le
  have hge := hl.ge
  have J : ∀ (A1 : pA) (x : Ex) (i : Nat) (v0 : Int32), (∀ c, c ≠ o + 21 → A1 c = A c) → i < 5 → (∃ a, G e2 i = .ref a ∧ cEx n K A G x a ∧ exDep x ≤ 500) → ((A1 (o + 21) 1 = 0 ∧ v0 = (exEv v x).getD 0) ∨ (A1 (o + 21) 1 = 1 ∧ v0 = 0)) → (∀ A', (∀ c, c ≠ o + 21 → A' c = A c) → Q v0 A') → fX11_of_J44 c o n K G Q (Int32.ofNat i) A1 := by
    intro A1 x i v0 f1 hi hx hz hq
    obtain ⟨a, ga, ca, da⟩ := hx
    unfold fX11_of_J44
    refine ⟨e2, g2, lt2, 5, k2, n_in hi (by omega), a, by rw [n_nat (by omega)]; exact ga, ?_⟩
    refine c_sum (v := v) x 500 a A1 _ ho da (cEx_same (fun c hc => f1 c (by omega)) x a ca) (fun k hk => by rw [f1 _ (by omega)]; exact hv k hk) ?_ ?_
    · intro y ey
      rcases hz with ⟨z1, z2⟩ | ⟨z1, z2⟩
      · rw [if_pos z1]; rw [ey] at z2; have := hq A1 f1; rw [z2] at this; exact this
      · rw [if_neg (by rw [z1]; decide)]; have := hq A1 f1; rw [z2] at this; exact this
    · intro y ey
      rw [pup_row, wup_self, if_neg (by decide)]
      have z3 : v0 = 0 := by
        rcases hz with ⟨z1, z2⟩ | ⟨z1, z2⟩
        · rw [ey] at z2; exact z2
        · exact z2
      have := hq (pup A1 (o + 21) 1 1) (fun c hc => by rw [pup_ne hc]; exact f1 c hc)
      rw [z3] at this
      exact this
  have L : ∀ (r : List (Ex × Ex × Ex)) (i : Nat) (A1 : pA) (v0 : Int32), i + r.length = l.1.length → (∀ c, c ≠ o + 21 → A1 c = A c) → cRow n K A G e0 i (r.map (fun q => q.1)) → cRow n K A G e1 i (r.map (fun q => q.2.1)) → cRow n K A G e2 i (r.map (fun q => q.2.2) ++ [l.2]) → ((A1 (o + 21) 1 = 0 ∧ v0 = (lawEv v l.2 r).getD 0) ∨ (A1 (o + 21) 1 = 1 ∧ v0 = 0)) → (∀ A', (∀ c, c ≠ o + 21 → A' c = A c) → Q v0 A') → fX11_of_L7 c o n K G Q (r.length + 1) (Int32.ofNat i) A1 := by
    intro r
    induction r with
    | nil =>
      intro i A1 v0 hi f1 s0 s1 s2 hz hq
      simp only [List.length_nil, Nat.add_zero] at hi
      unfold fX11_of_L7
      rw [f1 c (by omega), hl.ifs, if_pos (by rw [n_le (by omega) (by omega)]; omega)]
      exact J A1 l.2 i v0 f1 (by omega) s2.1 hz hq
    | cons q r ih =>
      obtain ⟨xa, xb, xc⟩ := q
      intro i A1 v0 hi f1 s0 s1 s2 hz hq
      simp only [List.length_cons] at hi
      obtain ⟨⟨a, ga, ca, da⟩, s0'⟩ := s0
      obtain ⟨⟨b, gb, cb, db⟩, s1'⟩ := s1
      obtain ⟨sc, s2'⟩ := s2
      unfold fX11_of_L7
      rw [f1 c (by omega), hl.ifs, if_neg (by rw [n_le (by omega) (by omega)]; omega)]
      have cx : ∀ A2 : pA, (∀ c, c ≠ o + 21 → A2 c = A c) → ∀ x a, cEx n K A G x a → cEx n K A2 G x a := fun A2 f2 x a hx => cEx_same (fun c hc => f2 c (by omega)) x a hx
      have cv : ∀ A2 : pA, (∀ c, c ≠ o + 21 → A2 c = A c) → ∀ k, k < 9 → A2 (o + 22) k = v k := fun A2 f2 k hk => by rw [f2 _ (by omega)]; exact hv k hk
      have fp : ∀ A2 : pA, (∀ c, c ≠ o + 21 → A2 c = A c) → ∀ c, c ≠ o + 21 → pup A2 (o + 21) 1 1 c = A c := fun A2 f2 c hc => by rw [pup_ne hc]; exact f2 c hc
      refine ⟨e0, g0, lt0, 4, k0, n_in (by omega) (by omega), a, by rw [n_nat (by omega)]; exact ga, ?_⟩
      -- whatever is worth: on with a store in which all is well or something was divided by nought
      have go : ∀ (x y : Int32) (A2 : pA), (∀ c, c ≠ o + 21 → A2 c = A c) → ((A2 (o + 21) 1 = 0 ∧ exEv v xa = some x ∧ exEv v xb = some y ∧ v0 = (lawEv v l.2 ((xa, xb, xc) :: r)).getD 0) ∨ (A2 (o + 21) 1 = 1 ∧ v0 = 0)) → (if x < y then fX11_of_J44 c o n K G Q (Int32.ofNat i) A2 else fX11_of_L7 c o n K G Q (r.length + 1) (Int32.ofNat i + 1) A2) := by
        intro x y A2 f2 hh
        by_cases cxy : x < y
        · rw [if_pos cxy]
          refine J A2 xc i v0 f2 (by omega) sc ?_ hq
          rcases hh with ⟨z1, z2, z3, z4⟩ | z
          · refine Or.inl ⟨z1, ?_⟩
            rw [z4]
            simp only [lawEv, z2, z3, Option.bind_some, if_neg (Int32.not_le.mpr cxy)]
          · exact Or.inr z
        · rw [if_neg cxy, n_addR]
          refine ih (i + 1) A2 v0 (by omega) f2 s0' s1' s2' ?_ hq
          rcases hh with ⟨z1, z2, z3, z4⟩ | z
          · refine Or.inl ⟨z1, ?_⟩
            rw [z4]
            simp only [lawEv, z2, z3, Option.bind_some, if_pos (Int32.not_lt.mp cxy)]
          · exact Or.inr z
      have z0 : exEv v xa = none ∨ exEv v xb = none → v0 = 0 := by
        intro hn
        rcases hz with ⟨z1, z2⟩ | ⟨z1, z2⟩
        · rw [z2]
          rcases hn with hn | hn
          · simp only [lawEv, hn, Option.bind_none, Option.getD_none]
          · cases e : exEv v xa with
            | none => simp only [lawEv, e, Option.bind_none, Option.getD_none]
            | some w => simp only [lawEv, e, hn, Option.bind_none, Option.bind_some, Option.getD_none]
        · exact z2
      have second : ∀ (x : Int32) (A2 : pA), (∀ c, c ≠ o + 21 → A2 c = A c) → ((A2 (o + 21) 1 = 0 ∧ exEv v xa = some x ∧ v0 = (lawEv v l.2 ((xa, xb, xc) :: r)).getD 0) ∨ (A2 (o + 21) 1 = 1 ∧ v0 = 0)) → fSum o n K G 500 b A2 (fun r23 A24 => (if x < r23 then fX11_of_J44 c o n K G Q (Int32.ofNat i) A24 else fX11_of_L7 c o n K G Q (r.length + 1) (Int32.ofNat i + 1) A24)) := by
        intro x A2 f2 hh
        refine c_sum (v := v) xb 500 b A2 _ ho db (cx A2 f2 xb b cb) (cv A2 f2) ?_ ?_
        · intro y ey
          refine go x y A2 f2 ?_
          rcases hh with ⟨z1, z2, w⟩ | z
          · exact Or.inl ⟨z1, z2, ey, w⟩
          · exact Or.inr z
        · intro y ey
          exact go x y _ (fp A2 f2) (Or.inr ⟨by rw [pup_row, wup_self], z0 (Or.inr ey)⟩)
      refine c_sum (v := v) xa 500 a A1 _ ho da (cx A1 f1 xa a ca) (cv A1 f1) ?_ ?_
      · intro x ex
        refine ⟨e1, g1, lt1, 4, k1, n_in (by omega) (by omega), b, by rw [n_nat (by omega)]; exact gb, ?_⟩
        refine second x A1 f1 ?_
        rcases hz with ⟨z1, z2⟩ | z
        · exact Or.inl ⟨z1, ex, z2⟩
        · exact Or.inr z
      · intro x ex
        refine ⟨e1, g1, lt1, 4, k1, n_in (by omega) (by omega), b, by rw [n_nat (by omega)]; exact gb, ?_⟩
        exact second x _ (fp A1 f1) (Or.inr ⟨by rw [pup_row, wup_self], z0 (Or.inl ex)⟩)
  unfold fX11_of
  intro A25 e25
  refine ⟨l.1.length + 1, L l.1 0 A25 _ (by omega) (fun c hc => by rw [e25, pup_ne hc]) r0 r1 r2 (Or.inl ⟨by rw [e25, pup_row, wup_self], rfl⟩) hQ⟩
end C
