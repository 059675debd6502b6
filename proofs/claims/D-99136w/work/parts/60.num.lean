set_option maxRecDepth 100000
set_option linter.all false
/-! ===== numbers ===== -/
theorem n_addL (n a : Nat) : (no_index (OfNat.ofNat n) : Int32) + Int32.ofNat a = Int32.ofNat ((OfNat.ofNat n : Nat) + a) := (Int32.ofNat_add n a).symm
theorem n_addR (n a : Nat) : Int32.ofNat a + (no_index (OfNat.ofNat n) : Int32) = Int32.ofNat (a + (OfNat.ofNat n : Nat)) := (Int32.ofNat_add a n).symm
theorem n_add (n a : Nat) : Int32.ofNat a + Int32.ofNat n = Int32.ofNat (a + n) := (Int32.ofNat_add a n).symm
theorem n_mulL (n a : Nat) : (no_index (OfNat.ofNat n) : Int32) * Int32.ofNat a = Int32.ofNat ((OfNat.ofNat n : Nat) * a) := (Int32.ofNat_mul n a).symm
theorem n_mul (n a : Nat) : Int32.ofNat a * Int32.ofNat n = Int32.ofNat (a * n) := (Int32.ofNat_mul a n).symm
theorem n_nat {k : Nat} (h : k < 2147483648) : (Int32.ofNat k).toNatClampNeg = k := Int32.toNatClampNeg_ofNat_of_lt h
theorem n_natL {k : Nat} (h : (OfNat.ofNat k : Nat) < 2147483648) : (no_index (OfNat.ofNat k) : Int32).toNatClampNeg = (OfNat.ofNat k : Nat) := Int32.toNatClampNeg_ofNat_of_lt h
theorem n_in {k N : Nat} (h : k < N) (hN : N ≤ 2147483648) : vp_in (Int32.ofNat k) N := by
  unfold vp_in
  rw [n_nat (by omega)]
  intro hh
  rcases hh with hh | hh
  · have := (Int32.ofNat_lt_iff_lt (a := k) (b := 0) (by omega) (by omega)).mp hh
    omega
  · omega
theorem n_inL {k N : Nat} (h : (OfNat.ofNat k : Nat) < N) (hN : N ≤ 2147483648) : vp_in (no_index (OfNat.ofNat k)) N := n_in h hN
theorem n_le {a b : Nat} (ha : a < 2147483648) (hb : b < 2147483648) : (Int32.ofNat a ≤ Int32.ofNat b) = (a ≤ b) := propext (Int32.ofNat_le_iff_le ha hb)
theorem n_lt {a b : Nat} (ha : a < 2147483648) (hb : b < 2147483648) : (Int32.ofNat a < Int32.ofNat b) = (a < b) := propext (Int32.ofNat_lt_iff_lt ha hb)
theorem n_leL {a b : Nat} (ha : (OfNat.ofNat a : Nat) < 2147483648) (hb : b < 2147483648) : ((no_index (OfNat.ofNat a) : Int32) ≤ Int32.ofNat b) = ((OfNat.ofNat a : Nat) ≤ b) := n_le ha hb
theorem n_leR {a b : Nat} (ha : a < 2147483648) (hb : (OfNat.ofNat b : Nat) < 2147483648) : (Int32.ofNat a ≤ (no_index (OfNat.ofNat b) : Int32)) = (a ≤ (OfNat.ofNat b : Nat)) := n_le ha hb
theorem n_ltL {a b : Nat} (ha : (OfNat.ofNat a : Nat) < 2147483648) (hb : b < 2147483648) : ((no_index (OfNat.ofNat a) : Int32) < Int32.ofNat b) = ((OfNat.ofNat a : Nat) < b) := n_lt ha hb
theorem n_ltR {a b : Nat} (ha : a < 2147483648) (hb : (OfNat.ofNat b : Nat) < 2147483648) : (Int32.ofNat a < (no_index (OfNat.ofNat b) : Int32)) = (a < (OfNat.ofNat b : Nat)) := n_lt ha hb
theorem n_eq {a b : Nat} (ha : a < 2147483648) (hb : b < 2147483648) : (Int32.ofNat a = Int32.ofNat b) = (a = b) := by
  refine propext ⟨fun h => ?_, fun h => h ▸ rfl⟩
  have := congrArg Int32.toNatClampNeg h
  rwa [n_nat ha, n_nat hb] at this
theorem n_eqR {a b : Nat} (ha : a < 2147483648) (hb : (OfNat.ofNat b : Nat) < 2147483648) : (Int32.ofNat a = (no_index (OfNat.ofNat b) : Int32)) = (a = (OfNat.ofNat b : Nat)) := n_eq ha hb
theorem n_eqL {a b : Nat} (ha : (OfNat.ofNat a : Nat) < 2147483648) (hb : b < 2147483648) : ((no_index (OfNat.ofNat a) : Int32) = Int32.ofNat b) = ((OfNat.ofNat a : Nat) = b) := n_eq ha hb
theorem n_int {k : Nat} (h : k < 2147483648) : (Int32.ofNat k).toInt = k := Int32.toInt_ofNat_of_lt h
theorem n_in_iff {i : Int32} {N : Nat} (hN : N ≤ 2147483648) : vp_in i N ↔ 0 ≤ i.toInt ∧ i.toInt < N := by
  unfold vp_in
  have h0 : (0 : Int32).toInt = 0 := rfl
  rw [Int32.lt_iff_toInt_lt, h0]
  have : i.toNatClampNeg = i.toInt.toNat := rfl
  rw [this]
  omega
/-- an int that is a place of a row -/
theorem n_of_in {i : Int32} {N : Nat} (h : vp_in i N) : ∃ k, k < N ∧ i = Int32.ofNat k := by
  refine ⟨i.toNatClampNeg, ?_, ?_⟩
  · unfold vp_in at h; exact Nat.lt_of_not_le fun hh => h (Or.inr hh)
  · unfold vp_in at h
    have h0 : (0 : Int32).toInt = 0 := rfl
    rw [Int32.lt_iff_toInt_lt, h0] at h
    have e : i.toNatClampNeg = i.toInt.toNat := rfl
    apply Int32.toInt_inj.mp
    have h2 := Int32.toInt_lt i
    rw [n_int (by omega), e]
    omega
theorem n_of_nn {i : Int32} (h : 0 ≤ i.toInt) : ∃ k, k < 2147483648 ∧ i = Int32.ofNat k := by
  have h2 := Int32.toInt_lt i
  exact n_of_in ((n_in_iff (N := 2147483648) (by omega)).mpr ⟨h, by omega⟩)
/-! ===== rows, loops ===== -/
theorem n_inT {k N : Nat} (h : k < N) (hN : N ≤ 2147483648) : vp_in (Int32.ofNat k) N = True := eq_true (n_in h hN)
theorem n_inLT {k N : Nat} (h : (OfNat.ofNat k : Nat) < N) (hN : N ≤ 2147483648) : vp_in (no_index (OfNat.ofNat k)) N = True := eq_true (n_in h hN)
def wup {α : Type} (f : Nat → α) (j : Nat) (v : α) : Nat → α := fun k => if k = j then v else f k
theorem wup_self {α : Type} {f : Nat → α} {j : Nat} {v : α} : wup f j v j = v := if_pos rfl
theorem wup_ne {α : Type} {f : Nat → α} {j k : Nat} {v : α} (h : k ≠ j) : wup f j v k = f k := if_neg h
theorem wup_at {α : Type} {f : Nat → α} {j k : Nat} {v : α} (h : k = j) : wup f j v k = v := if_pos h
theorem pup_row {α : Type} {A : Nat → Nat → α} {a j : Nat} {v : α} : pup A a j v a = wup (A a) j v := by
  unfold pup wup
  rw [if_pos rfl]
def iter {σ : Type} (f : Nat → σ → σ) : Nat → σ → σ
  | 0, s => s
  | n + 1, s => f n (iter f n s)
theorem lp_up {σ : Type} (F : Nat → Int32 → σ → Prop) (N : Nat) (hN : N < 2147483648) (Inv : Nat → σ → Prop)
    (hstep : ∀ m i s, i < N → Inv i s → (∀ s', Inv (i + 1) s' → F m (Int32.ofNat (i + 1)) s') → F (m + 1) (Int32.ofNat i) s)
    (hexit : ∀ m s, Inv N s → F (m + 1) (Int32.ofNat N) s) (s : σ) (h0 : Inv 0 s) : ∃ m, F m 0 s := by
  have key : ∀ d i s, i + d = N → Inv i s → F (d + 1) (Int32.ofNat i) s := by
    intro d
    induction d with
    | zero => intro i s e h; obtain rfl : i = N := by omega
              exact hexit 0 s h
    | succ d ih => intro i s e h; exact hstep (d + 1) i s (by omega) h (fun s' h' => ih (i + 1) s' (by omega) h')
  exact ⟨N + 1, key N 0 s (by omega) h0⟩
/-- from a place on -/
theorem lp_from {σ : Type} (F : Nat → Int32 → σ → Prop) (b N : Nat) (hb : b ≤ N) (hN : N < 2147483648) (Inv : Nat → σ → Prop)
    (hstep : ∀ m i s, b ≤ i → i < N → Inv i s → (∀ s', Inv (i + 1) s' → F m (Int32.ofNat (i + 1)) s') → F (m + 1) (Int32.ofNat i) s)
    (hexit : ∀ m s, Inv N s → F (m + 1) (Int32.ofNat N) s) (s : σ) (h0 : Inv b s) : ∃ m, F m (Int32.ofNat b) s := by
  have key : ∀ d i s, i + d = N → b ≤ i → Inv i s → F (d + 1) (Int32.ofNat i) s := by
    intro d
    induction d with
    | zero => intro i s e hi h; obtain rfl : i = N := by omega
              exact hexit 0 s h
    | succ d ih => intro i s e hi h; exact hstep (d + 1) i s hi (by omega) h (fun s' h' => ih (i + 1) s' (by omega) (by omega) h')
  exact ⟨N - b + 1, key (N - b) b s (by omega) (Nat.le_refl b) h0⟩
theorem n_pos {c : Prop} [Decidable c] {a b : Prop} (hc : c) (h : a) : if c then a else b := by rw [if_pos hc]; exact h
theorem n_neg {c : Prop} [Decidable c] {a b : Prop} (hc : ¬ c) (h : b) : if c then a else b := by rw [if_neg hc]; exact h
theorem n_ite {c : Prop} [Decidable c] {a b : Prop} (h1 : c → a) (h2 : ¬ c → b) : if c then a else b := by
  by_cases h : c
  · rw [if_pos h]; exact h1 h
  · rw [if_neg h]; exact h2 h
theorem n_m31 {q : Nat} (h : q < 32) : Int32.ofNat q &&& 31 = Int32.ofNat q := by
  have : ∀ q : Fin 32, Int32.ofNat q.1 &&& 31 = Int32.ofNat q.1 := by decide
  exact this ⟨q, h⟩
theorem n_bit {x y : Int32} : (x >>> y &&& 1 = 0) = ¬ (x >>> y &&& 1 = 1) := by
  have : ∀ z : Int32, (z &&& 1 = 0) = ¬ (z &&& 1 = 1) := by
    intro z
    have h : (z &&& 1).toBitVec = z.toBitVec &&& 1#32 := rfl
    have e : (z &&& 1).toBitVec = 0#32 ∨ (z &&& 1).toBitVec = 1#32 := by
      rw [h, BitVec.and_one_eq_setWidth_ofBool_getLsbD]
      cases z.toBitVec.getLsbD 0
      · left; rfl
      · right; rfl
    rcases e with e | e
    · have : z &&& 1 = 0 := Int32.toBitVec_inj.mp e
      rw [this]; simp
    · have : z &&& 1 = 1 := Int32.toBitVec_inj.mp e
      rw [this]; simp
  exact this _
