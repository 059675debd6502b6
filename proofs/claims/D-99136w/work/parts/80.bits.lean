set_option maxRecDepth 100000
set_option linter.all false
/-! ===== how many bits ===== -/
theorem b_and {a u M N k : Nat} (ha : a < 2 ^ k) (hM : M < 2 ^ k) : (a + 2 ^ k * u) &&& (M + 2 ^ k * N) = (a &&& M) + 2 ^ k * (u &&& N) := by
  apply Nat.eq_of_testBit_eq
  intro j
  rw [Nat.testBit_and]
  have h1 : a &&& M < 2 ^ k := Nat.lt_of_le_of_lt Nat.and_le_left ha
  rw [Nat.add_comm a, Nat.add_comm M, Nat.add_comm (a &&& M), Nat.testBit_two_pow_mul_add u ha, Nat.testBit_two_pow_mul_add N hM, Nat.testBit_two_pow_mul_add _ h1]
  split
  · rw [Nat.testBit_and]
  · rw [Nat.testBit_and]
theorem b_and8 {a u M N : Nat} (ha : a < 256) (hM : M < 256) : (a + 256 * u) &&& (M + 256 * N) = (a &&& M) + 256 * (u &&& N) := b_and (k := 8) ha hM
def bcN (m : Nat) : Nat :=
  let m1 := m - ((m / 2) &&& 1431655765)
  let m2 := (m1 &&& 858993459) + ((m1 / 4) &&& 858993459)
  let m3 := (m2 + m2 / 16) &&& 252645135
  let m4 := m3 + m3 / 256
  let m5 := m4 + m4 / 65536
  m5 &&& 63
/-- of a byte -/
def bc1 (a : Nat) : Nat := a - ((a / 2) &&& 85)
def bc2 (a : Nat) : Nat := (a &&& 51) + ((a / 4) &&& 51)
def bc3 (a : Nat) : Nat := (a + a / 16) &&& 15
def bcB (a : Nat) : Nat := bc3 (bc2 (bc1 a))
theorem b_d1 : ∀ a : Fin 256, ∀ e : Fin 2, ((a.1 / 2 + 128 * e.1) &&& 85) = ((a.1 / 2) &&& 85) ∧ ((a.1 / 2) &&& 85) ≤ a.1 := by decide +kernel
theorem b_d2 : ∀ a : Fin 256, ∀ e : Fin 4, ((a.1 / 4 + 64 * e.1) &&& 51) = ((a.1 / 4) &&& 51) ∧ bc2 a.1 ≤ 102 := by decide +kernel
theorem b_d2' : ∀ a : Fin 256, bc1 a.1 < 256 ∧ bc2 (bc1 a.1) ≤ 68 ∧ bc2 (bc1 a.1) % 16 ≤ 4 ∧ bcB a.1 ≤ 8 := by decide +kernel
theorem b_bytes {a b c : Nat} (ha : a < 256) (hb : b < 256) (hc : c < 256) : bcN (a + 256 * (b + 256 * c)) = bcB a + bcB b + bcB c := by
  obtain ⟨a1, a2, a3, a4⟩ := b_d2' ⟨a, ha⟩
  obtain ⟨b1, b2, b3, b4⟩ := b_d2' ⟨b, hb⟩
  obtain ⟨c1, c2, c3, c4⟩ := b_d2' ⟨c, hc⟩
  simp only at a1 a2 a3 a4 b1 b2 b3 b4 c1 c2 c3 c4
  -- the first step
  have s1 : (a + 256 * (b + 256 * c)) - (((a + 256 * (b + 256 * c)) / 2) &&& 1431655765) = bc1 a + 256 * (bc1 b + 256 * bc1 c) := by
    have e : (a + 256 * (b + 256 * c)) / 2 = (a / 2 + 128 * (b % 2)) + 256 * ((b / 2 + 128 * (c % 2)) + 256 * (c / 2)) := by omega
    have m : (1431655765 : Nat) = 85 + 256 * (85 + 256 * (85 + 256 * 85)) := rfl
    have ec : c / 2 = c / 2 + 256 * 0 := by omega
    have x1 := (b_d1 ⟨a, ha⟩ ⟨b % 2, by omega⟩)
    have x2 := (b_d1 ⟨b, hb⟩ ⟨c % 2, by omega⟩)
    have x3 := (b_d1 ⟨c, hc⟩ ⟨0, by omega⟩)
    simp only at x1 x2 x3
    rw [e, m, b_and8 (by omega) (by omega), b_and8 (by omega) (by omega), ec, b_and8 (by omega) (by omega), Nat.zero_and, x1.1, x2.1]
    unfold bc1
    omega
  have s2 : ((bc1 a + 256 * (bc1 b + 256 * bc1 c)) &&& 858993459) + (((bc1 a + 256 * (bc1 b + 256 * bc1 c)) / 4) &&& 858993459) = bc2 (bc1 a) + 256 * (bc2 (bc1 b) + 256 * bc2 (bc1 c)) := by
    generalize bc1 a = p at *
    generalize bc1 b = q at *
    generalize bc1 c = r at *
    have e : (p + 256 * (q + 256 * r)) / 4 = (p / 4 + 64 * (q % 4)) + 256 * ((q / 4 + 64 * (r % 4)) + 256 * (r / 4)) := by omega
    have m : (858993459 : Nat) = 51 + 256 * (51 + 256 * (51 + 256 * 51)) := rfl
    have ec : r / 4 = r / 4 + 256 * 0 := by omega
    have er : r = r + 256 * 0 := by omega
    have x1 := (b_d2 ⟨p, a1⟩ ⟨q % 4, by omega⟩)
    have x2 := (b_d2 ⟨q, b1⟩ ⟨r % 4, by omega⟩)
    simp only at x1 x2
    have l : (p + 256 * (q + 256 * r)) &&& 858993459 = (p &&& 51) + 256 * ((q &&& 51) + 256 * (r &&& 51)) := by
      rw [m, b_and8 a1 (by omega), b_and8 b1 (by omega)]
      have : r &&& (51 + 256 * 51) = r &&& 51 := by
        have := b_and8 (a := r) (u := 0) (M := 51) (N := 51) c1 (by omega)
        rw [Nat.zero_and] at this
        simpa using this
      rw [this]
    have l2 : ((p + 256 * (q + 256 * r)) / 4) &&& 858993459 = ((p / 4) &&& 51) + 256 * (((q / 4) &&& 51) + 256 * ((r / 4) &&& 51)) := by
      rw [e, m, b_and8 (by omega) (by omega), b_and8 (by omega) (by omega), x1.1, x2.1]
      have : (r / 4) &&& (51 + 256 * 51) = (r / 4) &&& 51 := by
        have := b_and8 (a := r / 4) (u := 0) (M := 51) (N := 51) (by omega) (by omega)
        rw [Nat.zero_and] at this
        simpa using this
      rw [this]
    rw [l, l2]
    unfold bc2
    omega
  have s3 : ((bc2 (bc1 a) + 256 * (bc2 (bc1 b) + 256 * bc2 (bc1 c))) + (bc2 (bc1 a) + 256 * (bc2 (bc1 b) + 256 * bc2 (bc1 c))) / 16) &&& 252645135 = bcB a + 256 * (bcB b + 256 * bcB c) := by
    unfold bcB
    generalize bc2 (bc1 a) = p at *
    generalize bc2 (bc1 b) = q at *
    generalize bc2 (bc1 c) = r at *
    have e : (p + 256 * (q + 256 * r)) + (p + 256 * (q + 256 * r)) / 16 = (p + p / 16 + 16 * (q % 16)) + 256 * ((q + q / 16 + 16 * (r % 16)) + 256 * (r + r / 16)) := by omega
    have m : (252645135 : Nat) = 15 + 256 * (15 + 256 * (15 + 256 * 15)) := rfl
    have y : ∀ (u v : Nat), u ≤ 68 → v < 16 → (u + u / 16 + 16 * v) &&& 15 = bc3 u := by
      intro u v hu hv
      unfold bc3
      rw [show (15 : Nat) = 2 ^ 4 - 1 from rfl, Nat.and_two_pow_sub_one_eq_mod, Nat.and_two_pow_sub_one_eq_mod]
      omega
    rw [e, m, b_and8 (by omega) (by omega), b_and8 (by omega) (by omega), y p (q % 16) a2 (by omega), y q (r % 16) b2 (by omega)]
    have : (r + r / 16) &&& (15 + 256 * 15) = bc3 r := by
      have t := b_and8 (a := r + r / 16) (u := 0) (M := 15) (N := 15) (by omega) (by omega)
      rw [Nat.zero_and] at t
      have t2 := y r 0 c2 (by omega)
      simp only [Nat.mul_zero, Nat.add_zero] at t t2
      rw [t, t2]
    rw [this]
  unfold bcN
  simp only
  rw [s1, s2, s3]
  generalize bcB a = p at *
  generalize bcB b = q at *
  generalize bcB c = r at *
  clear s1 s2 s3 a1 a2 a3 b1 b2 b3 c1 c2 c3
  have h1 : (p + 256 * (q + 256 * r)) / 256 = q + 256 * r := by omega
  have h2 : (p + 256 * (q + 256 * r) + (q + 256 * r)) / 65536 = r := by omega
  rw [h1, h2, show (63 : Nat) = 2 ^ 6 - 1 from rfl, Nat.and_two_pow_sub_one_eq_mod]
  omega
/-! as Java's ints -/
theorem n_and {a b : Nat} : Int32.ofNat a &&& Int32.ofNat b = Int32.ofNat (a &&& b) := by
  apply Int32.toBitVec_inj.mp
  show BitVec.ofNat 32 a &&& BitVec.ofNat 32 b = BitVec.ofNat 32 (a &&& b)
  rw [BitVec.ofNat_and]
theorem n_ushr {a k : Nat} (ha : a < 2147483648) (hk : k < 32) : ((Int32.ofNat a).toUInt32 >>> ((Int32.ofNat k).toUInt32 &&& Int32.toUInt32 31)).toInt32 = Int32.ofNat (a / 2 ^ k) := by
  have e : (Int32.ofNat k).toUInt32 &&& Int32.toUInt32 31 = (Int32.ofNat k).toUInt32 := by
    have : ∀ q : Fin 32, (Int32.ofNat q.1).toUInt32 &&& Int32.toUInt32 31 = (Int32.ofNat q.1).toUInt32 := by decide
    exact this ⟨k, hk⟩
  rw [e]
  apply Int32.toBitVec_inj.mp
  apply BitVec.eq_of_toNat_eq
  have e2 : (((Int32.ofNat a).toUInt32 >>> (Int32.ofNat k).toUInt32).toInt32).toBitVec.toNat = ((Int32.ofNat a).toUInt32 >>> (Int32.ofNat k).toUInt32).toNat := rfl
  have e3 : (Int32.ofNat a).toUInt32.toNat = a := by
    show a % 2 ^ 32 = a
    exact Nat.mod_eq_of_lt (by omega)
  have e4 : (Int32.ofNat k).toUInt32.toNat = k := by
    show k % 2 ^ 32 = k
    exact Nat.mod_eq_of_lt (by omega)
  rw [e2, UInt32.toNat_shiftRight, e3, e4, Nat.mod_eq_of_lt hk, Nat.shiftRight_eq_div_pow]
  have h2 : a / 2 ^ k ≤ a := Nat.div_le_self _ _
  show _ = (a / 2 ^ k) % 2 ^ 32
  rw [Nat.mod_eq_of_lt (by omega)]
theorem c_bitCount {A : pA} {a b c : Nat} (ha : a < 256) (hb : b < 256) (hc : c < 256) {Q : Int32 → Prop} (hQ : Q (Int32.ofNat (bcB a + bcB b + bcB c))) : fJ16_bitCount A (Int32.ofNat (a + 256 * (b + 256 * c))) Q := by
  rw [← b_bytes ha hb hc] at hQ
  generalize hm : a + 256 * (b + 256 * c) = m at *
  have hm' : m < 16777216 := by omega
  have x1 : ((m / 2) &&& 1431655765) ≤ m / 2 := Nat.and_le_left
  unfold fJ16_bitCount
  have k1 : (1 : Int32) = Int32.ofNat 1 := rfl
  have k2 : (2 : Int32) = Int32.ofNat 2 := rfl
  have k4 : (4 : Int32) = Int32.ofNat 4 := rfl
  have k8 : (8 : Int32) = Int32.ofNat 8 := rfl
  have k16 : (16 : Int32) = Int32.ofNat 16 := rfl
  have w1 : (1431655765 : Int32) = Int32.ofNat 1431655765 := rfl
  have w2 : (858993459 : Int32) = Int32.ofNat 858993459 := rfl
  have w3 : (252645135 : Int32) = Int32.ofNat 252645135 := rfl
  have w4 : (63 : Int32) = Int32.ofNat 63 := rfl
  have s1 : Int32.ofNat m - (((Int32.ofNat m).toUInt32 >>> ((1 : Int32).toUInt32 &&& Int32.toUInt32 31)).toInt32 &&& 1431655765) = Int32.ofNat (m - ((m / 2) &&& 1431655765)) := by
    rw [k1, n_ushr (by omega) (by omega), w1, n_and, n_sub (by simp only [Nat.pow_one]; omega)]
  unfold bcN at hQ
  simp only at hQ
  simp only [s1]
  have b1 : m - ((m / 2) &&& 1431655765) < 16777216 := by omega
  generalize m - ((m / 2) &&& 1431655765) = m1 at *
  have x2 : (m1 &&& 858993459) ≤ m1 := Nat.and_le_left
  have x3 : ((m1 / 4) &&& 858993459) ≤ m1 / 4 := Nat.and_le_left
  have s2 : (Int32.ofNat m1 &&& 858993459) + (((Int32.ofNat m1).toUInt32 >>> ((2 : Int32).toUInt32 &&& Int32.toUInt32 31)).toInt32 &&& 858993459) = Int32.ofNat ((m1 &&& 858993459) + ((m1 / 4) &&& 858993459)) := by
    rw [k2, n_ushr (by omega) (by omega), w2, n_and, n_and, n_add]
  simp only [s2]
  have b2 : (m1 &&& 858993459) + ((m1 / 4) &&& 858993459) < 33554432 := by omega
  generalize (m1 &&& 858993459) + ((m1 / 4) &&& 858993459) = m2 at *
  have x4 : ((m2 + m2 / 16) &&& 252645135) ≤ m2 + m2 / 16 := Nat.and_le_left
  have s3 : (Int32.ofNat m2 + ((Int32.ofNat m2).toUInt32 >>> ((4 : Int32).toUInt32 &&& Int32.toUInt32 31)).toInt32) &&& 252645135 = Int32.ofNat ((m2 + m2 / 16) &&& 252645135) := by
    rw [k4, n_ushr (by omega) (by omega), w3, n_add, n_and]
  simp only [s3]
  have b3 : ((m2 + m2 / 16) &&& 252645135) < 67108864 := by omega
  generalize ((m2 + m2 / 16) &&& 252645135) = m3 at *
  have s4 : Int32.ofNat m3 + ((Int32.ofNat m3).toUInt32 >>> ((8 : Int32).toUInt32 &&& Int32.toUInt32 31)).toInt32 = Int32.ofNat (m3 + m3 / 256) := by
    rw [k8, n_ushr (by omega) (by omega), n_add]
  simp only [s4]
  have b4 : m3 + m3 / 256 < 134217728 := by omega
  generalize m3 + m3 / 256 = m4 at *
  have s5 : Int32.ofNat m4 + ((Int32.ofNat m4).toUInt32 >>> ((16 : Int32).toUInt32 &&& Int32.toUInt32 31)).toInt32 = Int32.ofNat (m4 + m4 / 65536) := by
    rw [k16, n_ushr (by omega) (by omega), n_add]
  simp only [s5]
  rw [w4, n_and]
  exact hQ
/-! a set of numbers below 20 -/
def nBits (f : Nat → Prop) [DecidablePred f] : Nat → Nat
  | 0 => 0
  | m + 1 => nBits f m + if f m then 2 ^ m else 0
def nNum (f : Nat → Prop) [DecidablePred f] : Nat → Nat
  | 0 => 0
  | m + 1 => nNum f m + if f m then 1 else 0
theorem nBits_lt (f : Nat → Prop) [DecidablePred f] : ∀ m, nBits f m < 2 ^ m
  | 0 => by show 0 < 1; omega
  | m + 1 => by
    have := nBits_lt f m
    show nBits f m + (if f m then 2 ^ m else 0) < 2 ^ (m + 1)
    rw [Nat.pow_succ]
    split <;> omega
theorem nNum_le (f : Nat → Prop) [DecidablePred f] : ∀ m, nNum f m ≤ m
  | 0 => Nat.le_refl _
  | m + 1 => by
    have := nNum_le f m
    show nNum f m + (if f m then 1 else 0) ≤ m + 1
    split <;> omega
theorem n_or {a b : Nat} : Int32.ofNat a ||| Int32.ofNat b = Int32.ofNat (a ||| b) := by
  apply Int32.toBitVec_inj.mp
  show BitVec.ofNat 32 a ||| BitVec.ofNat 32 b = BitVec.ofNat 32 (a ||| b)
  rw [BitVec.ofNat_or]
theorem n_shl1 {k : Nat} (h : k < 31) : (1 : Int32) <<< Int32.ofNat k = Int32.ofNat (2 ^ k) := by
  have : ∀ q : Fin 31, (1 : Int32) <<< Int32.ofNat q.1 = Int32.ofNat (2 ^ q.1) := by decide
  exact this ⟨k, h⟩
theorem or_add {a k : Nat} (h : a < 2 ^ k) : a ||| 2 ^ k = a + 2 ^ k := by
  apply Nat.eq_of_testBit_eq
  intro j
  have e : a + 2 ^ k = 2 ^ k * 1 + a := by omega
  rw [Nat.testBit_or, e, Nat.testBit_two_pow_mul_add 1 h]
  by_cases c : j < k
  · rw [if_pos c, Nat.testBit_two_pow_of_ne (by omega), Bool.or_false]
  · rw [if_neg c]
    have : a.testBit j = false := Nat.testBit_lt_two_pow (Nat.lt_of_lt_of_le h (Nat.pow_le_pow_right (by omega) (by omega)))
    rw [this, Bool.false_or, Nat.testBit_two_pow]
    by_cases c2 : j = k
    · subst c2; simp
    · have : 0 < j - k := by omega
      obtain ⟨d, hd⟩ : ∃ d, j - k = d + 1 := ⟨j - k - 1, by omega⟩
      rw [hd]
      simp [Nat.testBit_succ]
      omega
theorem qBits_nat (f : Nat → Prop) [DecidablePred f] : ∀ m, m ≤ 31 → qBits f m = Int32.ofNat (nBits f m)
  | 0, _ => rfl
  | m + 1, h => by
    show (if f m then qBits f m ||| ((1 : Int32) <<< Int32.ofNat m) else qBits f m) = Int32.ofNat (nBits f m + if f m then 2 ^ m else 0)
    rw [qBits_nat f m (by omega)]
    split
    · rw [n_shl1 (by omega), n_or, or_add (nBits_lt f m)]
    · rfl
theorem qNum_nat (f : Nat → Prop) [DecidablePred f] : ∀ m, qNum f m = Int32.ofNat (nNum f m)
  | 0 => rfl
  | m + 1 => by
    show (if f m then qNum f m + 1 else qNum f m) = Int32.ofNat (nNum f m + if f m then 1 else 0)
    rw [qNum_nat f m]
    split
    · rw [n_addR]
    · rfl
theorem nBits_split (f : Nat → Prop) [DecidablePred f] (k : Nat) : ∀ m, nBits f (k + m) = nBits f k + 2 ^ k * nBits (fun j => f (k + j)) m
  | 0 => by show nBits f k = nBits f k + 2 ^ k * 0; omega
  | m + 1 => by
    show nBits f (k + m) + (if f (k + m) then 2 ^ (k + m) else 0) = nBits f k + 2 ^ k * (nBits (fun j => f (k + j)) m + if f (k + m) then 2 ^ m else 0)
    rw [nBits_split f k m, Nat.mul_add]
    split
    · rw [Nat.pow_add]; omega
    · omega
theorem nNum_split (f : Nat → Prop) [DecidablePred f] (k : Nat) : ∀ m, nNum f (k + m) = nNum f k + nNum (fun j => f (k + j)) m
  | 0 => rfl
  | m + 1 => by
    show nNum f (k + m) + (if f (k + m) then 1 else 0) = nNum f k + (nNum (fun j => f (k + j)) m + if f (k + m) then 1 else 0)
    rw [nNum_split f k m]; omega
theorem bcB_step : ∀ k : Fin 8, ∀ a : Fin 256, a.1 < 2 ^ k.1 → bcB (a.1 + 2 ^ k.1) = bcB a.1 + 1 := by decide +kernel
theorem bcB_num (f : Nat → Prop) [DecidablePred f] : ∀ m, m ≤ 8 → bcB (nBits f m) = nNum f m
  | 0, _ => by show bcB 0 = 0; decide
  | m + 1, h => by
    have l := nBits_lt f m
    have p : 2 ^ m ≤ 2 ^ 7 := Nat.pow_le_pow_right (by omega) (by omega)
    show bcB (nBits f m + if f m then 2 ^ m else 0) = nNum f m + if f m then 1 else 0
    split
    · have := bcB_step ⟨m, by omega⟩ ⟨nBits f m, by omega⟩ l
      simp only at this
      rw [this, bcB_num f m (by omega)]
    · exact bcB_num f m (by omega)
theorem c_bitCountQ {A : pA} (f : Nat → Prop) [DecidablePred f] {Q : Int32 → Prop} (hQ : Q (qNum f 20)) : fJ16_bitCount A (qBits f 20) Q := by
  rw [qBits_nat f 20 (by omega)]
  rw [qNum_nat] at hQ
  have e1 := nBits_split f 8 12
  have e2 := nBits_split (fun j => f (8 + j)) 8 4
  have e3 := nNum_split f 8 12
  have e4 := nNum_split (fun j => f (8 + j)) 8 4
  simp only [Nat.reduceAdd, Nat.reducePow] at e1 e2 e3 e4
  rw [e1, e2]
  rw [e3, e4] at hQ
  have l1 := nBits_lt f 8
  have l2 := nBits_lt (fun j => f (8 + j)) 8
  have l3 := nBits_lt (fun j => (fun j => f (8 + j)) (8 + j)) 4
  simp only [Nat.reducePow] at l1 l2 l3
  refine c_bitCount l1 l2 (by omega) ?_
  rw [bcB_num f 8 (by omega), bcB_num (fun j => f (8 + j)) 8 (by omega), bcB_num _ 4 (by omega), Nat.add_assoc]
  exact hQ
/-- one number alone -/
theorem nBits_one (f : Nat → Prop) [DecidablePred f] {p : Nat} (hp : f p) (hu : ∀ q, f q → q = p) : ∀ m, nBits f m = if p < m then 2 ^ p else 0
  | 0 => by rw [if_neg (by omega)]; rfl
  | m + 1 => by
    show nBits f m + (if f m then 2 ^ m else 0) = _
    rw [nBits_one f hp hu m]
    by_cases c : f m
    · have := hu m c
      subst this
      rw [if_pos c, if_neg (by omega), if_pos (by omega), Nat.zero_add]
    · have hne : m ≠ p := fun hh => c (hh ▸ hp)
      rw [if_neg c, Nat.add_zero]
      by_cases c2 : p < m
      · rw [if_pos c2, if_pos (by omega)]
      · rw [if_neg c2, if_neg (by omega)]
theorem c_ntz {A : pA} {p : Nat} (hp : p < 20) {Q : Int32 → Prop} (hQ : Q (Int32.ofNat p)) : fJ16_numberOfTrailingZeros A (Int32.ofNat (2 ^ p)) Q := by
  have key : ∀ (v w : Int32), v = w → Q v → Q w := fun v w e h => e ▸ h
  rcases (show p = 0 ∨ p = 1 ∨ p = 2 ∨ p = 3 ∨ p = 4 ∨ p = 5 ∨ p = 6 ∨ p = 7 ∨ p = 8 ∨ p = 9 ∨ p = 10 ∨ p = 11 ∨ p = 12 ∨ p = 13 ∨ p = 14 ∨ p = 15 ∨ p = 16 ∨ p = 17 ∨ p = 18 ∨ p = 19 by omega) with rfl | rfl | rfl | rfl | rfl | rfl | rfl | rfl | rfl | rfl | rfl | rfl | rfl | rfl | rfl | rfl | rfl | rfl | rfl | rfl <;>
  · unfold fJ16_numberOfTrailingZeros fJ16_numberOfTrailingZeros_J34 fJ16_numberOfTrailingZeros_J49 fJ16_numberOfTrailingZeros_J62 fJ16_numberOfTrailingZeros_J74
    repeat (first | refine n_neg (by decide) ?_ | refine n_pos (by decide) ?_)
    exact key _ _ (by decide) hQ
