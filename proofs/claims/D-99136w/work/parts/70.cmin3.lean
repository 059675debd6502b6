set_option maxRecDepth 100000
set_option linter.all false
theorem n_div {a b : Nat} (ha : a < 2147483648) (hb : b < 2147483648) : Int32.ofNat a / Int32.ofNat b = Int32.ofNat (a / b) := by
  apply Int32.toInt_inj.mp
  have h := Nat.div_le_self a b
  rw [Int32.toInt_div, n_int ha, n_int hb, n_int (by omega)]
  rw [show (a : Int).tdiv (b : Int) = ((a / b : Nat) : Int) from by
    rw [Int.tdiv_eq_ediv_of_nonneg (by omega)]; exact (Int.natCast_ediv a b).symm]
  generalize a / b = c at *
  exact Int.bmod_eq_of_le (by omega) (by omega)
theorem n_sub {a b : Nat} (h : b ≤ a) : Int32.ofNat a - Int32.ofNat b = Int32.ofNat (a - b) := by
  obtain ⟨c, rfl⟩ := Nat.exists_eq_add_of_le h
  have e : Int32.ofNat (b + c) = Int32.ofNat b + Int32.ofNat c := Int32.ofNat_add b c
  rw [e, Nat.add_sub_cancel_left, Int32.add_comm, Int32.add_sub_cancel]
theorem md_nat {k : Nat} (h : k < 2147483648) : md (Int32.ofNat k) = Int32.ofNat (k % 1440) := by
  unfold md
  have e : (1440 : Int32) = Int32.ofNat 1440 := rfl
  have h2 := Nat.div_mul_le_self k 1440
  rw [e, n_div h (by omega), n_mul, n_sub h2]
  congr 1
  omega
section C
variable {n : Nat} {K : Nat → pKd} {A0 A : pA} {G : pG} {tx o : Nat} {T : Tx} {B : Nat} {R : Rw}
/-- the minute of the day, as a number -/
theorem sMin_nat (hT : VT T) (hV : VR T B R) (hB : B ≤ 1000000000) : ∃ t, t ≤ B ∧ R 76 = Int32.ofNat t ∧ sMin T R = Int32.ofNat ((T.st + t) % 1440) := by
  have := hT.st
  obtain ⟨h1, h2⟩ := hV.tim
  obtain ⟨t, ht, e⟩ := n_of_nn h1
  rw [e, n_int ht] at h2
  refine ⟨t, by omega, e, ?_⟩
  unfold sMin
  rw [e, n_add, md_nat (by omega)]
theorem bits4_0 {R : Rw} (h : ∀ a, a < 4 → R (27 + a) = 0) : bits4 R = 0 := by
  have h0 := h 0 (by omega); have h1 := h 1 (by omega); have h2 := h 2 (by omega); have h3 := h 3 (by omega)
  simp only [Nat.reduceAdd] at h0 h1 h2 h3
  unfold bits4
  rw [h0, h1, h2, h3]
  decide
theorem iter_zero27 {R : Rw} : ∀ m, (∀ a, a < m → iter (fun a (R : Rw) => wup R (27 + a) 0) m R (27 + a) = 0) ∧ (∀ k, k < 27 ∨ 27 + m ≤ k → iter (fun a (R : Rw) => wup R (27 + a) 0) m R k = R k)
  | 0 => ⟨fun a h => absurd h (Nat.not_lt_zero a), fun _ _ => rfl⟩
  | m + 1 => by
    obtain ⟨h1, h2⟩ := iter_zero27 (R := R) m
    refine ⟨fun a ha => ?_, fun k hk => ?_⟩
    · show wup _ (27 + m) 0 (27 + a) = 0
      by_cases c : a = m
      · rw [c, wup_self]
      · rw [wup_ne (by omega)]; exact h1 a (by omega)
    · show wup _ (27 + m) 0 k = R k
      rw [wup_ne (by omega)]; exact h2 k (by omega)
theorem c_rests (hT : VT T) (hV : VR T B R) (ho : oT o) (hM : CM n K A0 G tx T) (h : CS A0 A o R) {Q : pA → Prop} (hQ : ∀ A', CS A0 A' o (sRest T R) → Q A') : fX5_rests o tx n K A G Q := by
  have := hT.pe; have := hT.pl; have := hT.dg
  unfold fX5_rests
  refine lp_up (fun m i (x : pA) => fX5_rests_L2 o tx n K G Q m i x) T.dg (by omega) (fun i x => CS A0 x o (iter (fun d (R : Rw) => wup (wup R d (Int32.ofNat (T.ken d))) (5 + d) 0) i R)) ?_ ?_ A h
  · intro m i x hi hx hn
    unfold fX5_rests_L2
    refine c_size2 ho hM hx ?_
    rw [if_neg (by rw [n_le (by omega) (by omega)]; omega)]
    refine c_dog hT ho hM hx hi (fun r r1 r2 r3 r4 r5 => ⟨r1, r2, ?_⟩)
    simp (disch := omega) only [n_inT, n_nat, true_and, n_addR]
    rw [r3]
    intro A7 e7
    have h7 := hx.step e7 (by omega) (hx.tv.dogU (by omega))
    intro A9 e9
    have h9 := h7.step e9 (by omega) (h7.tv.takU (by omega))
    exact hn A9 h9
  · intro m x hx
    unfold fX5_rests_L2
    refine c_size2 ho hM hx ?_
    rw [if_pos (Int32.le_refl _)]
    intro A2 e2
    refine hQ A2 ?_
    have hv2 : VR T B (iter (fun d (R : Rw) => wup (wup R d (Int32.ofNat (T.ken d))) (5 + d) 0) T.dg R) :=
      iter_inv _ (VR T B) T.dg (fun k s hk hs => (hs.dogU hT (by omega) (hT.ken k hk)).takU0 hT (by omega)) _ _ (Nat.le_refl _) hV
    obtain ⟨z1, z2⟩ := iter_zero27 (R := iter (fun d (R : Rw) => wup (wup R d (Int32.ofNat (T.ken d))) (5 + d) 0) T.dg R) T.pe
    refine hx.step0 e2 (hx.tv.fetU ?_ ?_)
    · refine (bits4_0 (fun a ha => ?_)).symm
      by_cases c : a < T.pe
      · exact z1 a c
      · show iter (fun a (R : Rw) => wup R (27 + a) 0) T.pe _ (27 + a) = 0
        rw [z2 (27 + a) (by omega)]
        exact hv2.fet0 a ha (by omega)
    · intro k hk hc
      exact z2 k (by omega)
/-- fading of one person leaves the others' numbers -/
theorem fade_other {d : Nat} : ∀ (m : Nat) (k : Nat), (∀ b, b < m → k ≠ 35 + (4 * d + b) ∧ k ≠ 55 + (4 * d + b)) → iter (fun a (R : Rw) => sFade T d a R) m R k = R k
  | 0, _, _ => rfl
  | m + 1, k, h => by
    show sFade T d m _ k = R k
    unfold sFade
    obtain ⟨h1, h2⟩ := h m (by omega)
    rw [wup_ne h2, wup_ne h1]
    exact fade_other m k (fun b hb => h b (by omega))
theorem fade_var (hT : VT T) {d a m : Nat} (hd : d < 5) (ha : a < 4) (hm : m ≤ a) : sFades T (iter (fun a (R : Rw) => sFade T d a R) m R) d a = sFades T R d a := by
  unfold sFades
  have e : sVar T (iter (fun a (R : Rw) => sFade T d a R) m R) d a = sVar T R d a := by
    funext k
    unfold sVar sVarD sMin
    rw [fade_other m (35 + (4 * d + a)) (fun b hb => by omega), fade_other m (55 + (4 * d + a)) (fun b hb => by omega), fade_other m d (fun b hb => by omega), fade_other m (15 + a) (fun b hb => by omega), fade_other m (23 + a) (fun b hb => by omega), fade_other m 76 (fun b hb => by omega), fade_other m (5 + d) (fun b hb => by omega)]
  rw [e]
theorem pmax_wth {x v : Int32} (hx : 0 ≤ x.toInt ∧ x.toInt ≤ 999) (hv : 0 ≤ v.toInt ∧ v.toInt ≤ 99) : pmax 0 (x - v) = wth (x - v) 0 999 := by
  have e : (x - v).toInt = x.toInt - v.toInt := i_sub' (by omega) (by omega) (by omega) (by omega)
  unfold pmax wth
  have e0 : (0 : Int32).toInt = 0 := rfl
  have e9 : (999 : Int32).toInt = 999 := rfl
  by_cases c : 0 < x - v
  · rw [if_pos c]
    rw [Int32.lt_iff_toInt_lt, e0] at c
    rw [if_neg (by rw [Int32.lt_iff_toInt_lt, e0]; omega), if_neg (by rw [Int32.lt_iff_toInt_lt, e9]; omega)]
  · rw [if_neg c]
    by_cases c2 : x - v < 0
    · rw [if_pos c2]
    · rw [if_neg c2, if_neg (by rw [Int32.lt_iff_toInt_lt, e9]; omega)]
      rw [Int32.lt_iff_toInt_lt, e0] at c c2
      exact Int32.toInt_inj.mp (by omega)
theorem sFades_in {d a : Nat} : 0 ≤ (sFades T R d a).toInt ∧ (sFades T R d a).toInt ≤ 99 := wth_in (lo := 0) (hi := 99) (by decide)
theorem c_forgets (hT : VT T) (hV : VR T B R) (ho : oT o) (hM : CM n K A0 G tx T) (h : CS A0 A o R) {d : Nat} (hd : d < T.dg) {Q : pA → Prop} (hQ : ∀ A', CS A0 A' o (iter (fun a (R : Rw) => sFade T d a R) T.pe R) → Q A') : fX5_forgets o tx n K A G (Int32.ofNat d) Q := by
  have := hT.pe; have := hT.pl; have := hT.dg
  unfold fX5_forgets
  refine lp_up (fun m i (x : pA) => fX5_forgets_L2 o tx n K G Q m (Int32.ofNat d) i x) T.pe (by omega) (fun i x => CS A0 x o R ∧ ∀ k, k < i → x (o + 20) k = sFades T R d k) ?_ ?_ A ⟨h, fun k hk => absurd hk (Nat.not_lt_zero k)⟩
  · intro m i x hi ⟨hx, hz⟩ hn
    unfold fX5_forgets_L2
    refine c_size3 ho hM hx ?_
    rw [if_neg (by rw [n_le (by omega) (by omega)]; omega)]
    refine c_fades hT hV ho hM hx hd hi (fun A17 h17 f17 => ?_)
    simp (disch := omega) only [n_inT, n_nat, true_and, n_addR]
    intro A19 e19
    refine hn A19 ⟨h17.step e19 (by omega) h17.tv.fadi, fun k hk => ?_⟩
    rw [e19, pup_row]
    unfold wup
    by_cases c : k = i
    · rw [if_pos c, c]
    · rw [if_neg c, f17]; exact hz k (by omega)
  · intro m x ⟨hx, hz⟩
    unfold fX5_forgets_L2
    refine c_size3 ho hM hx ?_
    rw [if_pos (Int32.le_refl _)]
    refine lp_up (fun m i (x : pA) => fX5_forgets_L34 o tx n K G Q m (Int32.ofNat d) i x) T.pe (by omega) (fun i x => CS A0 x o (iter (fun a (R : Rw) => sFade T d a R) i R) ∧ ∀ k, k < T.pe → x (o + 20) k = sFades T R d k) ?_ ?_ x ⟨hx, hz⟩
    · intro m i x hi ⟨hx, hz⟩ hn
      unfold fX5_forgets_L34
      refine c_size3 ho hM hx ?_
      rw [if_neg (by rw [n_le (by omega) (by omega)]; omega)]
      have Vi := hV.fadeD hT hd (n := i) (by omega)
      simp (disch := omega) only [n_inT, n_nat, true_and, n_addR]
      rw [hx.tv.fed d i (by omega) (by omega), hz i hi, pmax_wth (Vi.fed _ (by omega)) sFades_in]
      intro A7 e7
      have h7 := hx.stepD e7 (by omega) (hx.tv.fedU (by omega) (by omega))
      intro A13 e13
      rw [h7.tv.kik d i (by omega) (by omega), wup_ne (by omega), e7, pup_ne (show o + 20 ≠ o + 9 + d by omega), hz i hi, ← e7, pmax_wth (Vi.kik _ (by omega)) sFades_in] at e13
      have h13 := h7.stepD e13 (by omega) (h7.tv.kikU (by omega) (by omega))
      refine hn A13 ⟨?_, fun k hk => ?_⟩
      · show CS A0 A13 o (sFade T d i _)
        have ev := fade_var (R := R) hT (d := d) (a := i) (m := i) (by omega) (by omega) (Nat.le_refl i)
        generalize iter (fun a (R : Rw) => sFade T d a R) i R = X at *
        unfold sFade
        rw [ev]
        exact h13
      · rw [e13, pup_ne (by omega), e7, pup_ne (by omega)]; exact hz k hk
    · intro m x ⟨hx, hz⟩
      unfold fX5_forgets_L34
      refine c_size3 ho hM hx ?_
      rw [if_pos (Int32.le_refl _)]
      exact hQ x hx
theorem c_isHour (hT : VT T) (ho : oT o) (hM : CM n K A0 G tx T) (h : CS A0 A o R) {Q : Int32 → Prop} (hQ : Q (if sHour T R then 1 else 0)) : fX4_isHour tx A (sMin T R) Q := by
  unfold fX4_isHour
  rw [h.tx0 ho hM, hM.hf, hM.ht]
  by_cases c1 : sMin T R < Int32.ofNat T.hf
  · rw [if_pos c1]
    rw [if_neg (fun hh : sHour T R => Int32.not_le.mpr c1 hh.1)] at hQ
    exact hQ
  · rw [if_neg c1]
    by_cases c2 : Int32.ofNat T.ht ≤ sMin T R
    · rw [if_pos c2]
      rw [if_neg (fun hh : sHour T R => Int32.not_lt.mpr c2 hh.2)] at hQ
      exact hQ
    · rw [if_neg c2]
      rw [if_pos (show sHour T R from ⟨Int32.not_lt.mp c1, Int32.not_le.mp c2⟩)] at hQ
      exact hQ
theorem c_time (hT : VT T) (hF : VF T) (hV : VR T B R) (ho : oT o) (hM : CM n K A0 G tx T) (h : CS A0 A o R) {j : Nat} (hj : j = if sHour T R then 1 else 0) {Q : pA → Prop} (hQ : ∀ A', CS A0 A' o (sTime T R) → Q A') : fTime o tx j n K A G Q := by
  have := hT.pe; have := hT.pl; have := hT.dg
  unfold fTime
  unfold sTime at hQ
  by_cases c : sHour T R
  · rw [if_pos c] at hj hQ
    refine Or.inr ⟨hj, ?_⟩
    unfold fX9_goes
    refine lp_up (fun m i (x : pA) => fX9_goes_L2 144 o tx n K G Q m i x) T.dg (by omega) (fun i x => CS A0 x o (iter (fun d (R : Rw) => sDog T R d) i R)) ?_ ?_ A h
    · intro m i x hi hx hn
      unfold fX9_goes_L2
      refine c_size2 ho hM hx ?_
      rw [if_neg (by rw [n_le (by omega) (by omega)]; omega)]
      refine c_hunts hT hF (hV.dogs hT (n := i) (by omega)) ho hM hx hi (fun A2 h2 => ?_)
      rw [n_addR]
      exact hn A2 h2
    · intro m x hx
      unfold fX9_goes_L2
      refine c_size2 ho hM hx ?_
      rw [if_pos (Int32.le_refl _)]
      exact hQ x hx
  · rw [if_neg c] at hj hQ
    refine Or.inl ⟨hj, ?_⟩
    unfold fX8_goes
    exact c_rests hT hV ho hM h hQ
theorem c_goesBy (hT : VT T) (hF : VF T) (hV : VR T B R) (hB : B < 1000000000) (ho : oT o) (hM : CM n K A0 G tx T) (h : CS A0 A o R) {Q : pA → Prop} (hQ : ∀ A', CS A0 A' o (sMinute T R) → Q A') : fX5_goesBy o tx n K A G Q := by
  have := hT.pe; have := hT.pl; have := hT.dg
  have V1 : VR T B (sPeople T R) := hV.people hT (Nat.le_refl _)
  have V2 : VR T B (sTime T (sPeople T R)) := by
    unfold sTime
    split
    · exact V1.dogs hT (Nat.le_refl _)
    · exact V1.rest hT
  have V3 : VR T (B + 1) (sTick (sTime T (sPeople T R))) := V2.tick hT hB
  unfold sMinute at hQ
  have tail : ∀ (s0 : Int32) A1, CS A0 A1 o (sPeople T R) → s0 = (if sHour T (sPeople T R) then 1 else 0) → fX5_goesBy_J51 o tx n K G Q s0 A1 := by
    intro s0 A1 h1 es
    unfold fX5_goesBy_J51
    have e2 : s0 = Int32.ofNat (if sHour T (sPeople T R) then 1 else 0) := by
      rw [es]; split <;> rfl
    rw [e2]
    have l2 : (if sHour T (sPeople T R) then 1 else 0) < 2 := by split <;> omega
    refine ⟨n_in l2 (by omega), ?_⟩
    rw [n_nat (by omega)]
    refine c_time hT hF V1 ho hM h1 rfl (fun A4 h4 => ?_)
    intro A5 e5
    rw [h4.tv.tim] at e5
    have h5 : CS A0 A5 o (sTick (sTime T (sPeople T R))) := h4.step0 e5 h4.tv.timU
    refine c_minute ho hM h5 ?_
    obtain ⟨t, ht, et, em⟩ := sMin_nat hT V3 (by omega)
    generalize sTick (sTime T (sPeople T R)) = R3 at *
    unfold sEve at hQ
    have hm : (T.st + t) % 1440 < 1440 := Nat.mod_lt _ (by omega)
    by_cases c : 0 < sMin T R3
    · rw [if_pos c] at hQ
      rw [if_neg (by
        rw [em, n_ltL (by simp) (by omega)] at c
        rw [em, n_eqR (by omega) (by simp)]; omega)]
      exact hQ A5 h5
    · rw [if_neg c] at hQ
      rw [if_pos (by
        rw [em, n_ltL (by simp) (by omega)] at c
        rw [em, n_eqR (by omega) (by simp)]; omega)]
      refine lp_up (fun m i (x : pA) => fX5_goesBy_L78 o tx n K G Q m i x) T.dg (by omega) (fun i x => CS A0 x o (iter (fun d (R : Rw) => iter (fun a (R : Rw) => sFade T d a R) T.pe R) i R3)) ?_ ?_ A5 h5
      · intro m i x hi hx hn
        unfold fX5_goesBy_L78
        refine c_size2 ho hM hx ?_
        rw [if_neg (by rw [n_le (by omega) (by omega)]; omega)]
        refine c_forgets hT (V3.fadeA hT (n := i) (by omega)) ho hM hx hi (fun A2 h2 => ?_)
        rw [n_addR]
        exact hn A2 h2
      · intro m x hx
        unfold fX5_goesBy_L78
        refine c_size2 ho hM hx ?_
        rw [if_pos (Int32.le_refl _)]
        exact hQ x hx
  unfold fX5_goesBy
  refine lp_up (fun m i (x : pA) => fX5_goesBy_L2 o tx n K G Q m i x) T.pe (by omega) (fun i x => CS A0 x o (iter (fun a (R : Rw) => if R (27 + a) = 0 then sPerson T R a else R) i R)) ?_ ?_ A h
  · intro m i x hi hx hn
    unfold fX5_goesBy_L2 fX5_goesBy_J27
    refine c_size3 ho hM hx ?_
    rw [if_neg (by rw [n_le (by omega) (by omega)]; omega)]
    have Vi := hV.people hT (n := i) (by omega)
    refine c_isFetched hx Vi (by omega) ?_
    rw [n_addR]
    by_cases c : iter (fun a (R : Rw) => if R (27 + a) = 0 then sPerson T R a else R) i R (27 + i) = 0
    · have c0 : ¬ iter (fun a (R : Rw) => if R (27 + a) = 0 then sPerson T R a else R) i R (27 + i) = 1 := by rw [c]; decide
      rw [if_neg c0, if_pos rfl]
      refine c_walks hT hF Vi ho hM hx hi (fun A15 h15 => ?_)
      refine hn A15 ?_
      show CS A0 A15 o (ite _ _ _)
      rw [if_pos c]; exact h15
    · have c1 : iter (fun a (R : Rw) => if R (27 + a) = 0 then sPerson T R a else R) i R (27 + i) = 1 := by
        rcases Vi.fet i (by omega) with e | e
        · exact absurd e c
        · exact e
      rw [if_pos c1, if_neg (by decide)]
      refine hn x ?_
      show CS A0 x o (ite _ _ _)
      rw [if_neg c]; exact hx
  · intro m x hx
    unfold fX5_goesBy_L2
    refine c_size3 ho hM hx ?_
    rw [if_pos (Int32.le_refl _)]
    have hx' : CS A0 x o (sPeople T R) := hx
    clear hx
    refine c_minute ho hM hx' ?_
    refine c_isHour hT ho hM hx' ?_
    by_cases c : sHour T (sPeople T R)
    · rw [if_pos c, if_neg (by decide)]
      exact tail 1 x hx' (by rw [if_pos c])
    · rw [if_neg c, if_pos rfl]
      exact tail 0 x hx' (by rw [if_neg c])
theorem c_runs (hT : VT T) (hF : VF T) (hV : VR T B R) (ho : oT o) (hM : CM n K A0 G tx T) (h : CS A0 A o R) {m : Nat} (hm : B + m < 1000000000) {Q : pA → Prop} (hQ : ∀ A', CS A0 A' o (sGoes T m R) → Q A') : fX0_runs tx o n K A G (Int32.ofNat m) Q := by
  unfold fX0_runs
  refine lp_up (fun f i (x : pA) => fX0_runs_L2 tx o n K G Q f (Int32.ofNat m) i x) m (by omega) (fun i x => CS A0 x o (sGoes T i R)) ?_ ?_ A h
  · intro f i x hi hx hk
    unfold fX0_runs_L2
    rw [if_neg (by rw [n_le (by omega) (by omega)]; omega)]
    refine c_goesBy hT hF (hV.goes hT i (by omega)) (by omega) ho hM hx (fun A1 h1 => ?_)
    rw [n_addR]
    exact hk A1 h1
  · intro f x hx
    unfold fX0_runs_L2
    rw [if_pos (Int32.le_refl _)]
    exact hQ x hx
end C
