set_option maxRecDepth 100000
set_option linter.all false
/-! ===== THE SPEC: expressions, laws, a text, a row of 77 ===== -/
abbrev Ex : Type := Term
def opN (o : Binary) : Nat := match o with
  | .ladd => 2
  | .lsub => 3
  | .lmul => 4
  | .ldiv => 5
  | _ => 0
def binV (op : Nat) (x y : Int32) : Int32 := if op = 2 then x + y else if op = 3 then x - y else if op = 4 then x * y else x / y
def exEv (v : Nat → Int32) : Term → Option Int32
  | .int n => some n
  | .index k => some (v k)
  | .op2 o a b => (exEv v a).bind fun x => (exEv v b).bind fun y => if opN o = 5 ∧ y = 0 then none else some (binV (opN o) x y)
  | _ => none
abbrev LawT : Type := List (Ex × Ex × Ex) × Ex
def lawEv (v : Nat → Int32) (e : Ex) : List (Ex × Ex × Ex) → Option Int32
  | [] => exEv v e
  | (a, b, c) :: l => (exEv v a).bind fun x => (exEv v b).bind fun y => if y ≤ x then lawEv v e l else exEv v c
def Tx : Type := (Nat) × (Nat) × (Nat) × (Nat) × (Nat) × (Nat → Int32) × (Nat → Nat) × (Nat → Int32) × (Nat → Int32) × (Nat → Nat) × (Nat → Int32) × (Nat → Nat) × (Nat → Nat) × (Nat) × (Nat) × (Nat) × (Nat → Nat → Nat) × (Nat → Option LawT)
abbrev Tx.pl (x : Tx) : Nat := x.1
abbrev Tx.pa (x : Tx) : Nat := x.2.1
abbrev Tx.dg (x : Tx) : Nat := x.2.2.1
abbrev Tx.pe (x : Tx) : Nat := x.2.2.2.1
abbrev Tx.er (x : Tx) : Nat := x.2.2.2.2.1
abbrev Tx.nx (x : Tx) : Nat → Int32 := x.2.2.2.2.2.1
abbrev Tx.ken (x : Tx) : Nat → Nat := x.2.2.2.2.2.2.1
abbrev Tx.bit (x : Tx) : Nat → Int32 := x.2.2.2.2.2.2.2.1
abbrev Tx.hun (x : Tx) : Nat → Int32 := x.2.2.2.2.2.2.2.2.1
abbrev Tx.hom (x : Tx) : Nat → Nat := x.2.2.2.2.2.2.2.2.2.1
abbrev Tx.pok (x : Tx) : Nat → Int32 := x.2.2.2.2.2.2.2.2.2.2.1
abbrev Tx.who (x : Tx) : Nat → Nat := x.2.2.2.2.2.2.2.2.2.2.2.1
abbrev Tx.whr (x : Tx) : Nat → Nat := x.2.2.2.2.2.2.2.2.2.2.2.2.1
abbrev Tx.hf (x : Tx) : Nat := x.2.2.2.2.2.2.2.2.2.2.2.2.2.1
abbrev Tx.ht (x : Tx) : Nat := x.2.2.2.2.2.2.2.2.2.2.2.2.2.2.1
abbrev Tx.st (x : Tx) : Nat := x.2.2.2.2.2.2.2.2.2.2.2.2.2.2.2.1
abbrev Tx.far (x : Tx) : Nat → Nat → Nat := x.2.2.2.2.2.2.2.2.2.2.2.2.2.2.2.2.1
abbrev Tx.law (x : Tx) : Nat → Option LawT := x.2.2.2.2.2.2.2.2.2.2.2.2.2.2.2.2.2
abbrev Tx.mk (pl : Nat) (pa : Nat) (dg : Nat) (pe : Nat) (er : Nat) (nx : Nat → Int32) (ken : Nat → Nat) (bit : Nat → Int32) (hun : Nat → Int32) (hom : Nat → Nat) (pok : Nat → Int32) (who : Nat → Nat) (whr : Nat → Nat) (hf : Nat) (ht : Nat) (st : Nat) (far : Nat → Nat → Nat) (law : Nat → Option LawT) : Tx := (pl, pa, dg, pe, er, nx, ken, bit, hun, hom, pok, who, whr, hf, ht, st, far, law)
abbrev Rw : Type := Nat → Int32
abbrev ix (x : Int32) : Nat := x.toNatClampNeg
def lawV (T : Tx) (k : Nat) (v : Nat → Int32) (plain : Int32) : Int32 := match T.law k with
  | none => plain
  | some l => (lawEv v l.2 l.1).getD 0
def wth (v lo hi : Int32) : Int32 := if v < lo then lo else if hi < v then hi else v
def md (x : Int32) : Int32 := x - x / 1440 * 1440
def sMin (T : Tx) (R : Rw) : Int32 := md (Int32.ofNat T.st + R 76)
abbrev sHour (T : Tx) (R : Rw) : Prop := Int32.ofNat T.hf ≤ sMin T R ∧ sMin T R < Int32.ofNat T.ht
def sVarD (T : Tx) (R : Rw) (d : Nat) : Nat → Int32 := fun k => if k = 4 then T.bit d else if k = 5 then T.hun d else if k = 6 then sMin T R else if k = 7 then Int32.ofNat d else if k = 8 then R (5 + d) else 0
def sVar (T : Tx) (R : Rw) (d a : Nat) : Nat → Int32 := fun k => if k = 0 then R (35 + (4 * d + a)) else if k = 1 then R (55 + (4 * d + a)) else if k = 2 then Int32.ofNat (T.far (ix (R d)) (ix (R (15 + a)))) else if k = 3 then R (23 + a) else sVarD T R d k
def sWants (T : Tx) (R : Rw) (d a : Nat) : Int32 := lawV T 0 (sVar T R d a) (R (55 + (4 * d + a)))
def sTakes (T : Tx) (R : Rw) (d a : Nat) : Int32 := wth (lawV T 1 (sVar T R d a) (T.bit d)) 0 (R (23 + a))
def sFades (T : Tx) (R : Rw) (d a : Nat) : Int32 := wth (lawV T 2 (sVar T R d a) 1) 0 99
def sDues (T : Tx) (R : Rw) (d : Nat) : Int32 := wth (lawV T 3 (sVarD T R d) (R (5 + d))) 0 99
/-- whether q is next to p -/
abbrev nxt (T : Tx) (p q : Nat) : Prop := (T.nx p >>> Int32.ofNat q) &&& 1 = 1
/-- the first of the places next to p from which it is less far -/
def sStep (T : Tx) (p to : Nat) : Nat := (iter (fun q (s : Nat × Nat) => if nxt T p q ∧ T.far q to < s.2 then (q, T.far q to) else s) T.pl (p, 99)).1
def sMindsF (T : Tx) (R : Rw) (d : Nat) (a : Nat) (s : Int32 × Int32) : Int32 × Int32 :=
  if R (27 + a) = 1 ∨ 99 ≤ T.far (ix (R d)) (ix (R (15 + a))) then s else if 0 ≤ s.1 ∧ sWants T R d a ≤ s.2 then s else (Int32.ofNat a, sWants T R d a)
def sMinds (T : Tx) (R : Rw) (d : Nat) : Int32 := (iter (sMindsF T R d) T.pe (-2, 0)).1
def sErrF (T : Tx) (a : Nat) (e : Nat) (R : Rw) : Rw := if T.who e = a ∧ Int32.ofNat (T.whr e) = R (15 + a) then wup R 75 (R 75 ||| ((1 : Int32) <<< Int32.ofNat e)) else R
def sMove (T : Tx) (R : Rw) (a : Nat) : Rw := if 0 ≤ R (19 + a) ∧ R (19 + a) ≠ R (15 + a) ∧ T.far (ix (R (15 + a))) (ix (R (19 + a))) < 99 then wup R (15 + a) (Int32.ofNat (sStep T (ix (R (15 + a))) (ix (R (19 + a))))) else R
def sPerson (T : Tx) (R : Rw) (a : Nat) : Rw := iter (sErrF T a) T.er (sMove T R a)
def sCatch (R : Rw) (a : Nat) : Rw := wup (wup (wup (wup R (15 + a) 0) (19 + a) (-2)) (27 + a) 1) (31 + a) (R (31 + a) + 1)
def sBite (T : Tx) (R : Rw) (d a : Nat) : Rw := wup (wup (wup R (23 + a) (R (23 + a) - sTakes T R d a)) (5 + d) (R (5 + d) + sTakes T R d a)) (10 + d) (R (10 + d) + sTakes T R d a)
def sDog (T : Tx) (R : Rw) (d : Nat) : Rw :=
  if sMinds T R d < 0 then R else
  if R d = R (15 + ix (sMinds T R d)) then
    if R (35 + (4 * d + ix (sMinds T R d))) < R (55 + (4 * d + ix (sMinds T R d))) then sCatch R (ix (sMinds T R d)) else sBite T R d (ix (sMinds T R d))
  else wup R d (Int32.ofNat (sStep T (ix (R d)) (ix (R (15 + ix (sMinds T R d))))))
def sRest (T : Tx) (R : Rw) : Rw := iter (fun a (R : Rw) => wup R (27 + a) 0) T.pe (iter (fun d (R : Rw) => wup (wup R d (Int32.ofNat (T.ken d))) (5 + d) 0) T.dg R)
def sFade (T : Tx) (d a : Nat) (R : Rw) : Rw := wup (wup R (35 + (4 * d + a)) (wth (R (35 + (4 * d + a)) - sFades T R d a) 0 999)) (55 + (4 * d + a)) (wth (R (55 + (4 * d + a)) - sFades T R d a) 0 999)
def sPeople (T : Tx) (R : Rw) : Rw := iter (fun a (R : Rw) => if R (27 + a) = 0 then sPerson T R a else R) T.pe R
def sTime (T : Tx) (R : Rw) : Rw := if sHour T R then iter (fun d (R : Rw) => sDog T R d) T.dg R else sRest T R
def sTick (R : Rw) : Rw := wup R 76 (R 76 + 1)
def sFadeAll (T : Tx) (R : Rw) : Rw := iter (fun d (R : Rw) => iter (fun a (R : Rw) => sFade T d a R) T.pe R) T.dg R
def sEve (T : Tx) (R : Rw) : Rw := if 0 < sMin T R then R else sFadeAll T R
def sMinute (T : Tx) (R : Rw) : Rw := sEve T (sTick (sTime T (sPeople T R)))
def sGoes (T : Tx) (n : Nat) (R : Rw) : Rw := iter (fun _ (R : Rw) => sMinute T R) n R
/-! ===== a text and a row that hold together ===== -/
def VT (T : Tx) : Prop :=
  (T.pl ≤ 7) ∧
  (T.dg ≤ 5) ∧
  (T.pe ≤ 4) ∧
  (T.er ≤ 8) ∧
  (∀ d, d < T.dg → T.ken d < T.pl) ∧
  (∀ a, a < T.pe → T.hom a < T.pl) ∧
  (∀ e, e < T.er → T.who e < T.pe) ∧
  (∀ e, e < T.er → T.whr e < T.pl) ∧
  (T.hf < T.ht) ∧
  (T.ht ≤ 1440) ∧
  (T.st < 1440) ∧
  (∀ p q, T.far p q ≤ 99)
theorem VT.pl {T : Tx} (h : VT T) : T.pl ≤ 7 := h.1
theorem VT.dg {T : Tx} (h : VT T) : T.dg ≤ 5 := h.2.1
theorem VT.pe {T : Tx} (h : VT T) : T.pe ≤ 4 := h.2.2.1
theorem VT.er {T : Tx} (h : VT T) : T.er ≤ 8 := h.2.2.2.1
theorem VT.ken {T : Tx} (h : VT T) : ∀ d, d < T.dg → T.ken d < T.pl := h.2.2.2.2.1
theorem VT.hom {T : Tx} (h : VT T) : ∀ a, a < T.pe → T.hom a < T.pl := h.2.2.2.2.2.1
theorem VT.who {T : Tx} (h : VT T) : ∀ e, e < T.er → T.who e < T.pe := h.2.2.2.2.2.2.1
theorem VT.whr {T : Tx} (h : VT T) : ∀ e, e < T.er → T.whr e < T.pl := h.2.2.2.2.2.2.2.1
theorem VT.hf {T : Tx} (h : VT T) : T.hf < T.ht := h.2.2.2.2.2.2.2.2.1
theorem VT.ht {T : Tx} (h : VT T) : T.ht ≤ 1440 := h.2.2.2.2.2.2.2.2.2.1
theorem VT.st {T : Tx} (h : VT T) : T.st < 1440 := h.2.2.2.2.2.2.2.2.2.2.1
theorem VT.far {T : Tx} (h : VT T) : ∀ p q, T.far p q ≤ 99 := h.2.2.2.2.2.2.2.2.2.2.2
/-- what may stand at place k of a row -/
def vOK (T : Tx) (B k : Nat) (v : Int32) : Prop :=
  (k < T.dg → ∃ p, p < T.pl ∧ v = Int32.ofNat p) ∧
  (5 ≤ k → k < 10 → 0 ≤ v.toInt ∧ (T.dg ≤ k - 5 → v = 0)) ∧
  (15 ≤ k → k < 15 + T.pe → ∃ p, p < T.pl ∧ v = Int32.ofNat p) ∧
  (19 ≤ k → k < 23 → v = -2 ∨ ∃ p, p < T.pl ∧ v = Int32.ofNat p) ∧
  (23 ≤ k → k < 27 → 0 ≤ v.toInt) ∧
  (27 ≤ k → k < 31 → (v = 0 ∨ v = 1) ∧ (T.pe ≤ k - 27 → v = 0)) ∧
  (35 ≤ k → k < 75 → 0 ≤ v.toInt ∧ v.toInt ≤ 999) ∧
  (55 ≤ k → k < 75 → T.dg ≤ (k - 55) / 4 → v = 0) ∧
  (k = 76 → 0 ≤ v.toInt ∧ v.toInt ≤ B)
def tot (R : Rw) : Int := (R 23).toInt + (R 24).toInt + (R 25).toInt + (R 26).toInt + (R 5).toInt + (R 6).toInt + (R 7).toInt + (R 8).toInt + (R 9).toInt
def VR (T : Tx) (B : Nat) (R : Rw) : Prop := (∀ k, k < 77 → vOK T B k (R k)) ∧ tot R ≤ 396
section V
variable {T : Tx} {B : Nat} {R : Rw}
theorem VR.dog (h : VR T B R) (hT : VT T) (d : Nat) (hd : d < T.dg) : ∃ p, p < T.pl ∧ R d = Int32.ofNat p := (h.1 d (by have := hT.dg; omega)).1 hd
theorem VR.at_ (h : VR T B R) (hT : VT T) (a : Nat) (ha : a < T.pe) : ∃ p, p < T.pl ∧ R (15 + a) = Int32.ofNat p := (h.1 (15 + a) (by have := hT.pe; omega)).2.2.1 (by omega) (by omega)
theorem VR.goal (h : VR T B R) (a : Nat) (ha : a < 4) : R (19 + a) = -2 ∨ ∃ p, p < T.pl ∧ R (19 + a) = Int32.ofNat p := (h.1 (19 + a) (by omega)).2.2.2.1 (by omega) (by omega)
theorem VR.pok (h : VR T B R) (a : Nat) (ha : a < 4) : 0 ≤ (R (23 + a)).toInt := (h.1 (23 + a) (by omega)).2.2.2.2.1 (by omega) (by omega)
theorem VR.tak (h : VR T B R) (d : Nat) (hd : d < 5) : 0 ≤ (R (5 + d)).toInt := ((h.1 (5 + d) (by omega)).2.1 (by omega) (by omega)).1
theorem VR.tak0 (h : VR T B R) (d : Nat) (hd : d < 5) (hz : T.dg ≤ d) : R (5 + d) = 0 := ((h.1 (5 + d) (by omega)).2.1 (by omega) (by omega)).2 (by omega)
theorem VR.fet (h : VR T B R) (a : Nat) (ha : a < 4) : R (27 + a) = 0 ∨ R (27 + a) = 1 := ((h.1 (27 + a) (by omega)).2.2.2.2.2.1 (by omega) (by omega)).1
theorem VR.fet0 (h : VR T B R) (a : Nat) (ha : a < 4) (hz : T.pe ≤ a) : R (27 + a) = 0 := ((h.1 (27 + a) (by omega)).2.2.2.2.2.1 (by omega) (by omega)).2 (by omega)
theorem VR.fed (h : VR T B R) (i : Nat) (hi : i < 20) : 0 ≤ (R (35 + i)).toInt ∧ (R (35 + i)).toInt ≤ 999 := (h.1 (35 + i) (by omega)).2.2.2.2.2.2.1 (by omega) (by omega)
theorem VR.kik (h : VR T B R) (i : Nat) (hi : i < 20) : 0 ≤ (R (55 + i)).toInt ∧ (R (55 + i)).toInt ≤ 999 := (h.1 (55 + i) (by omega)).2.2.2.2.2.2.1 (by omega) (by omega)
theorem VR.kik0 (h : VR T B R) (i : Nat) (hi : i < 20) (hz : T.dg ≤ i / 4) : R (55 + i) = 0 := (h.1 (55 + i) (by omega)).2.2.2.2.2.2.2.1 (by omega) (by omega) (by rw [Nat.add_sub_cancel_left]; exact hz)
theorem VR.tim (h : VR T B R) : 0 ≤ (R 76).toInt ∧ (R 76).toInt ≤ B := (h.1 76 (by omega)).2.2.2.2.2.2.2.2 rfl
theorem tot_upd {j : Nat} {v : Int32} (h1 : j < 5 ∨ 10 ≤ j) (h2 : j < 23 ∨ 27 ≤ j) : tot (wup R j v) = tot R := by
  unfold tot
  rw [wup_ne (by omega), wup_ne (by omega), wup_ne (by omega), wup_ne (by omega), wup_ne (by omega), wup_ne (by omega), wup_ne (by omega), wup_ne (by omega), wup_ne (by omega)]
theorem VR.put (h : VR T B R) {j : Nat} {v : Int32} (hv : vOK T B j v) (ht : tot (wup R j v) ≤ 396) : VR T B (wup R j v) := by
  refine ⟨fun k hk => ?_, ht⟩
  unfold wup
  by_cases c : k = j
  · rw [if_pos c, c]; exact hv
  · rw [if_neg c]; exact h.1 k hk
theorem VR.put' (h : VR T B R) {j : Nat} {v : Int32} (hv : vOK T B j v) (h1 : j < 5 ∨ 10 ≤ j) (h2 : j < 23 ∨ 27 ≤ j) : VR T B (wup R j v) := h.put hv (by rw [tot_upd h1 h2]; exact h.2)
theorem tot_upd_le {j : Nat} {v : Int32} (h : v.toInt ≤ (R j).toInt) : tot (wup R j v) ≤ tot R := by
  have key : ∀ k, (wup R j v k).toInt ≤ (R k).toInt := by
    intro k
    unfold wup
    by_cases c : k = j
    · rw [if_pos c, c]; exact h
    · rw [if_neg c]; exact Int.le_refl _
  unfold tot
  have := key 23; have := key 24; have := key 25; have := key 26; have := key 5; have := key 6; have := key 7; have := key 8; have := key 9
  omega
theorem VR.dogU (h : VR T B R) (hT : VT T) {d p : Nat} (hd : d < 5) (hp : p < T.pl) : VR T B (wup R d (Int32.ofNat p)) :=
  h.put' ⟨fun _ => ⟨p, hp, rfl⟩, by omega, by omega, by omega, by omega, by omega, by omega, by omega, by omega⟩ (by omega) (by omega)
theorem VR.atU (h : VR T B R) (hT : VT T) {a p : Nat} (ha : a < 4) (hp : p < T.pl) : VR T B (wup R (15 + a) (Int32.ofNat p)) := by
  have := hT.dg
  exact h.put' ⟨by omega, by omega, fun _ _ => ⟨p, hp, rfl⟩, by omega, by omega, by omega, by omega, by omega, by omega⟩ (by omega) (by omega)
theorem VR.goalU (h : VR T B R) (hT : VT T) {a : Nat} {v : Int32} (ha : a < 4) (hv : v = -2 ∨ ∃ p, p < T.pl ∧ v = Int32.ofNat p) : VR T B (wup R (19 + a) v) := by
  have := hT.dg; have := hT.pe
  exact h.put' ⟨by omega, by omega, by omega, fun _ _ => hv, by omega, by omega, by omega, by omega, by omega⟩ (by omega) (by omega)
theorem VR.fetU (h : VR T B R) (hT : VT T) {a : Nat} {v : Int32} (ha : a < 4) (hv : (v = 0 ∨ v = 1) ∧ (T.pe ≤ a → v = 0)) : VR T B (wup R (27 + a) v) := by
  have := hT.dg; have := hT.pe
  exact h.put' ⟨by omega, by omega, by omega, by omega, by omega, fun _ _ => ⟨hv.1, fun hz => hv.2 (by omega)⟩, by omega, by omega, by omega⟩ (by omega) (by omega)
theorem VR.oftU (h : VR T B R) (hT : VT T) {a : Nat} {v : Int32} (ha : a < 4) : VR T B (wup R (31 + a) v) := by
  have := hT.dg; have := hT.pe
  exact h.put' ⟨by omega, by omega, by omega, by omega, by omega, by omega, by omega, by omega, by omega⟩ (by omega) (by omega)
theorem VR.tooU (h : VR T B R) (hT : VT T) {d : Nat} {v : Int32} (hd : d < 5) : VR T B (wup R (10 + d) v) := by
  have := hT.dg; have := hT.pe
  exact h.put' ⟨by omega, by omega, by omega, by omega, by omega, by omega, by omega, by omega, by omega⟩ (by omega) (by omega)
theorem VR.donU (h : VR T B R) (hT : VT T) {v : Int32} : VR T B (wup R 75 v) := by
  have := hT.dg; have := hT.pe
  exact h.put' ⟨by omega, by omega, by omega, by omega, by omega, by omega, by omega, by omega, by omega⟩ (by omega) (by omega)
theorem VR.timU (h : VR T B R) (hT : VT T) {B' : Nat} {v : Int32} (hB : B ≤ B') (hv : 0 ≤ v.toInt ∧ v.toInt ≤ B') : VR T B' (wup R 76 v) := by
  have := hT.dg; have := hT.pe
  refine ⟨fun k hk => ?_, by rw [tot_upd (by omega) (by omega)]; exact h.2⟩
  unfold wup
  by_cases c : k = 76
  · rw [if_pos c, c]; exact ⟨by omega, by omega, by omega, by omega, by omega, by omega, by omega, by omega, fun _ => hv⟩
  · rw [if_neg c]
    obtain ⟨a1, a2, a3, a4, a5, a6, a7, a8, a9⟩ := h.1 k hk
    exact ⟨a1, a2, a3, a4, a5, a6, a7, a8, fun e => absurd e c⟩
theorem VR.fedU (h : VR T B R) (hT : VT T) {i : Nat} {v : Int32} (hi : i < 20) (hv : 0 ≤ v.toInt ∧ v.toInt ≤ 999) : VR T B (wup R (35 + i) v) := by
  have := hT.dg; have := hT.pe
  exact h.put' ⟨by omega, by omega, by omega, by omega, by omega, by omega, fun _ _ => hv, by omega, by omega⟩ (by omega) (by omega)
theorem VR.kikU (h : VR T B R) (hT : VT T) {i : Nat} {v : Int32} (hi : i < 4 * T.dg) (hv : 0 ≤ v.toInt ∧ v.toInt ≤ 999) : VR T B (wup R (55 + i) v) := by
  have := hT.dg; have := hT.pe
  exact h.put' ⟨by omega, by omega, by omega, by omega, by omega, by omega, fun _ _ => hv, by omega, by omega⟩ (by omega) (by omega)
theorem VR.pokU (h : VR T B R) (hT : VT T) {a : Nat} {v : Int32} (ha : a < 4) (hv : 0 ≤ v.toInt ∧ v.toInt ≤ (R (23 + a)).toInt) : VR T B (wup R (23 + a) v) := by
  have := hT.dg; have := hT.pe
  exact h.put ⟨by omega, by omega, by omega, by omega, fun _ _ => hv.1, by omega, by omega, by omega, by omega⟩ (Int.le_trans (tot_upd_le hv.2) h.2)
theorem VR.takU0 (h : VR T B R) (hT : VT T) {d : Nat} (hd : d < 5) : VR T B (wup R (5 + d) 0) := by
  have := hT.dg; have := hT.pe
  exact h.put ⟨by omega, fun _ _ => ⟨by decide, fun _ => rfl⟩, by omega, by omega, by omega, by omega, by omega, by omega, by omega⟩ (Int.le_trans (tot_upd_le (h.tak d hd)) h.2)
theorem i_sub {x y : Int32} (h1 : 0 ≤ y.toInt) (h2 : y.toInt ≤ x.toInt) : (x - y).toInt = x.toInt - y.toInt := by
  have := Int32.toInt_lt x
  have := Int32.le_toInt x
  rw [Int32.toInt_sub]
  exact Int.bmod_eq_of_le (by omega) (by omega)
theorem i_add {x y : Int32} (h1 : -1073741824 ≤ x.toInt) (h2 : x.toInt ≤ 1073741823) (h3 : -1073741824 ≤ y.toInt) (h4 : y.toInt ≤ 1073741823) : (x + y).toInt = x.toInt + y.toInt := by
  rw [Int32.toInt_add]
  exact Int.bmod_eq_of_le (by omega) (by omega)
theorem i_sub' {x y : Int32} (h1 : -1073741824 ≤ x.toInt) (h2 : x.toInt ≤ 1073741823) (h3 : -1073741824 ≤ y.toInt) (h4 : y.toInt ≤ 1073741823) : (x - y).toInt = x.toInt - y.toInt := by
  rw [Int32.toInt_sub]
  exact Int.bmod_eq_of_le (by omega) (by omega)
theorem VR.bitU (h : VR T B R) (hT : VT T) {d a : Nat} {v : Int32} (hd : d < T.dg) (ha : a < 4) (hv : 0 ≤ v.toInt ∧ v.toInt ≤ (R (23 + a)).toInt) : VR T B (wup (wup R (23 + a) (R (23 + a) - v)) (5 + d) (R (5 + d) + v)) := by
  have := hT.dg; have := hT.pe
  have e1 := i_sub hv.1 hv.2
  have t := h.2
  have p0 := h.pok 0 (by omega); have p1 := h.pok 1 (by omega); have p2 := h.pok 2 (by omega); have p3 := h.pok 3 (by omega)
  have q0 := h.tak 0 (by omega); have q1 := h.tak 1 (by omega); have q2 := h.tak 2 (by omega); have q3 := h.tak 3 (by omega); have q4 := h.tak 4 (by omega)
  have qd := h.tak d (by omega)
  simp only [Nat.reduceAdd] at p0 p1 p2 p3 q0 q1 q2 q3 q4
  unfold tot at t
  have bp : (R (23 + a)).toInt ≤ 396 := by
    rcases (show a = 0 ∨ a = 1 ∨ a = 2 ∨ a = 3 by omega) with rfl | rfl | rfl | rfl <;> simp only [Nat.reduceAdd] <;> omega
  have bq : (R (5 + d)).toInt ≤ 396 := by
    rcases (show d = 0 ∨ d = 1 ∨ d = 2 ∨ d = 3 ∨ d = 4 by omega) with rfl | rfl | rfl | rfl | rfl <;> simp only [Nat.reduceAdd] <;> omega
  have e2 : (R (5 + d) + v).toInt = (R (5 + d)).toInt + v.toInt := i_add (by omega) (by omega) (by omega) (by omega)
  refine (h.pokU hT ha ⟨by omega, by omega⟩).put ⟨by omega, fun _ _ => ⟨by omega, by omega⟩, by omega, by omega, by omega, by omega, by omega, by omega, by omega⟩ ?_
  unfold tot
  rcases (show a = 0 ∨ a = 1 ∨ a = 2 ∨ a = 3 by omega) with rfl | rfl | rfl | rfl <;> rcases (show d = 0 ∨ d = 1 ∨ d = 2 ∨ d = 3 ∨ d = 4 by omega) with rfl | rfl | rfl | rfl | rfl <;> simp only [Nat.reduceAdd] at e1 e2 <;> simp only [wup, Nat.reduceAdd, Nat.reduceEqDiff, if_true, if_false, reduceIte, Nat.reduceBEq, Nat.reduceBNe] <;> omega
theorem wth_in {v lo hi : Int32} (h : lo.toInt ≤ hi.toInt) : lo.toInt ≤ (wth v lo hi).toInt ∧ (wth v lo hi).toInt ≤ hi.toInt := by
  unfold wth
  by_cases c1 : v < lo
  · rw [if_pos c1]; exact ⟨Int.le_refl _, h⟩
  · rw [if_neg c1]
    by_cases c2 : hi < v
    · rw [if_pos c2]; exact ⟨h, Int.le_refl _⟩
    · rw [if_neg c2]
      rw [Int32.lt_iff_toInt_lt] at c1 c2
      omega
theorem iter_inv {σ : Type} (f : Nat → σ → σ) (P : σ → Prop) (N : Nat) (hf : ∀ k s, k < N → P s → P (f k s)) : ∀ n s, n ≤ N → P s → P (iter f n s)
  | 0, _, _, h => h
  | n + 1, s, hn, h => hf n _ (by omega) (iter_inv f P N hf n s (by omega) h)
theorem sStep_lt (hT : VT T) {p q : Nat} (hp : p < T.pl) : sStep T p q < T.pl := by
  unfold sStep
  refine iter_inv _ (fun s : Nat × Nat => s.1 < T.pl) T.pl (fun k s hk hs => ?_) T.pl _ (Nat.le_refl _) hp
  show (if nxt T p k ∧ T.far k q < s.2 then (k, T.far k q) else s).1 < _
  split
  · exact hk
  · exact hs
theorem n_ix {k : Nat} (h : k < 2147483648) : ix (Int32.ofNat k) = k := n_nat h
theorem VR.move (h : VR T B R) (hT : VT T) {a : Nat} (ha : a < T.pe) : VR T B (sMove T R a) := by
  have := hT.pe; have := hT.pl
  unfold sMove
  split
  · obtain ⟨k, hk, e⟩ := h.at_ hT a ha
    refine h.atU hT (by omega) (sStep_lt hT ?_)
    rw [e, n_ix (by omega)]; exact hk
  · exact h
theorem VR.person (h : VR T B R) (hT : VT T) {a : Nat} (ha : a < T.pe) : VR T B (sPerson T R a) := by
  unfold sPerson
  refine iter_inv _ (VR T B) T.er (fun k s hk hs => ?_) T.er _ (Nat.le_refl _) (h.move hT ha)
  unfold sErrF
  split
  · exact hs.donU hT
  · exact hs
theorem sMinds_in (hT : VT T) {d : Nat} : sMinds T R d = -2 ∨ ∃ a, a < T.pe ∧ sMinds T R d = Int32.ofNat a := by
  unfold sMinds
  refine iter_inv _ (fun s : Int32 × Int32 => s.1 = -2 ∨ ∃ a, a < T.pe ∧ s.1 = Int32.ofNat a) T.pe (fun k s hk hs => ?_) T.pe _ (Nat.le_refl _) (Or.inl rfl)
  unfold sMindsF
  split
  · exact hs
  · split
    · exact hs
    · exact Or.inr ⟨k, hk, rfl⟩
theorem sTakes_in (h : VR T B R) {d a : Nat} (ha : a < 4) : 0 ≤ (sTakes T R d a).toInt ∧ (sTakes T R d a).toInt ≤ (R (23 + a)).toInt := wth_in (h.pok a ha)
theorem VR.caught (h : VR T B R) (hT : VT T) {a : Nat} (ha : a < T.pe) : VR T B (sCatch R a) := by
  have := hT.pe
  have := hT.hom a ha
  exact (((h.atU hT (p := 0) (by omega) (by omega)).goalU hT (by omega) (Or.inl rfl)).fetU hT (by omega) ⟨Or.inr rfl, by omega⟩).oftU hT (by omega)
theorem VR.bite (h : VR T B R) (hT : VT T) {d a : Nat} (hd : d < T.dg) (ha : a < T.pe) : VR T B (sBite T R d a) := by
  have := hT.pe; have := hT.dg
  exact (h.bitU hT hd (by omega) (sTakes_in h (by omega))).tooU hT (by omega)
theorem VR.dogGo (h : VR T B R) (hT : VT T) {d : Nat} (hd : d < T.dg) : VR T B (sDog T R d) := by
  have := hT.pe; have := hT.dg; have := hT.pl
  unfold sDog
  rcases sMinds_in (R := R) hT (d := d) with e | ⟨a, ha, e⟩
  · rw [e, if_pos (by decide)]; exact h
  · rw [e, if_neg (by rw [n_ltR (by omega) (by simp)]; omega), n_ix (by omega)]
    split
    · split
      · exact h.caught hT ha
      · exact h.bite hT hd ha
    · obtain ⟨k, hk, e⟩ := h.dog hT d hd
      refine h.dogU hT (by omega) (sStep_lt hT ?_)
      rw [e, n_ix (by omega)]; exact hk
theorem VR.rest (h : VR T B R) (hT : VT T) : VR T B (sRest T R) := by
  have := hT.pe; have := hT.dg
  unfold sRest
  refine iter_inv _ (VR T B) T.pe (fun k s hk hs => hs.fetU hT (by omega) ⟨Or.inl rfl, fun _ => rfl⟩) _ _ (Nat.le_refl _) ?_
  exact iter_inv _ (VR T B) T.dg (fun k s hk hs => (hs.dogU hT (by omega) (hT.ken k hk)).takU0 hT (by omega)) _ _ (Nat.le_refl _) h
theorem VR.fade (h : VR T B R) (hT : VT T) {d a : Nat} (hd : d < T.dg) (ha : a < T.pe) : VR T B (sFade T d a R) := by
  have := hT.pe; have := hT.dg
  unfold sFade
  exact (h.fedU hT (by omega) (wth_in (lo := 0) (hi := 999) (by decide))).kikU hT (by omega) (wth_in (lo := 0) (hi := 999) (by decide))
theorem VR.mono (h : VR T B R) {B' : Nat} (hB : B ≤ B') : VR T B' R := by
  refine ⟨fun k hk => ?_, h.2⟩
  obtain ⟨a1, a2, a3, a4, a5, a6, a7, a8, a9⟩ := h.1 k hk
  exact ⟨a1, a2, a3, a4, a5, a6, a7, a8, fun e => ⟨(a9 e).1, by have := (a9 e).2; omega⟩⟩
theorem VR.tick (h : VR T B R) (hT : VT T) (hB : B < 1000000000) : VR T (B + 1) (wup R 76 (R 76 + 1)) := by
  have := h.tim
  have e : (R 76 + 1).toInt = (R 76).toInt + 1 := i_add (by omega) (by omega) (by decide) (by decide)
  exact h.timU hT (by omega) (by omega)
theorem VR.people (h : VR T B R) (hT : VT T) {n : Nat} (hn : n ≤ T.pe) : VR T B (iter (fun a (R : Rw) => if R (27 + a) = 0 then sPerson T R a else R) n R) :=
  iter_inv _ (VR T B) T.pe (fun k s hk hs => by
    show VR T B (ite _ _ _)
    split
    · exact hs.person hT hk
    · exact hs) _ _ hn h
theorem VR.dogs (h : VR T B R) (hT : VT T) {n : Nat} (hn : n ≤ T.dg) : VR T B (iter (fun d (R : Rw) => sDog T R d) n R) :=
  iter_inv _ (VR T B) T.dg (fun k s hk hs => hs.dogGo hT hk) _ _ hn h
theorem VR.fadeD (h : VR T B R) (hT : VT T) {d n : Nat} (hd : d < T.dg) (hn : n ≤ T.pe) : VR T B (iter (fun a (R : Rw) => sFade T d a R) n R) :=
  iter_inv _ (VR T B) T.pe (fun k s hk hs => hs.fade hT hd hk) _ _ hn h
theorem VR.fadeA (h : VR T B R) (hT : VT T) {n : Nat} (hn : n ≤ T.dg) : VR T B (iter (fun d (R : Rw) => iter (fun a (R : Rw) => sFade T d a R) T.pe R) n R) :=
  iter_inv _ (VR T B) T.dg (fun k s hk hs => hs.fadeD hT hk (Nat.le_refl _)) _ _ hn h
theorem VR.minute (h : VR T B R) (hT : VT T) (hB : B < 1000000000) : VR T (B + 1) (sMinute T R) := by
  unfold sMinute sEve
  have h1 : VR T B (sPeople T R) := h.people hT (Nat.le_refl _)
  have h2 : VR T B (sTime T (sPeople T R)) := by
    unfold sTime
    split
    · exact h1.dogs hT (Nat.le_refl _)
    · exact h1.rest hT
  have h3 : VR T (B + 1) (sTick (sTime T (sPeople T R))) := h2.tick hT hB
  split
  · exact h3
  · exact h3.fadeA hT (Nat.le_refl _)
theorem VR.goes (h : VR T B R) (hT : VT T) : ∀ n, B + n < 1000000000 → VR T (B + n) (sGoes T n R)
  | 0, _ => h
  | n + 1, hn => (VR.goes h hT n (by omega)).minute hT (by omega)
end V
