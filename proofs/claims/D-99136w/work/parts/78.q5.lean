set_option maxRecDepth 100000
set_option linter.all false
/-! ===== the next hour ===== -/
theorem wup_comm {α : Type} {f : Nat → α} {i j : Nat} {v w : α} (h : i ≠ j) : wup (wup f i v) j w = wup (wup f j w) i v := by
  funext k
  unfold wup
  by_cases c : k = j
  · rw [if_pos c, if_neg (by omega), if_pos c]
  · rw [if_neg c]
    by_cases c2 : k = i
    · rw [if_pos c2, if_pos c2]
    · rw [if_neg c2, if_neg c2, if_neg c]
theorem iter_comm {σ : Type} (f : Nat → σ → σ) (g : σ → σ) : ∀ n, (∀ k s, k < n → f k (g s) = g (f k s)) → ∀ s, iter f n (g s) = g (iter f n s)
  | 0, _, _ => rfl
  | n + 1, h, s => by
    show f n (iter f n (g s)) = g (f n (iter f n s))
    rw [iter_comm f g n (fun k s hk => h k s (by omega)) s, h n _ (by omega)]
theorem iter_at {f : Nat → Rw → Rw} {j : Nat} : ∀ n, (∀ k s, k < n → f k s j = s j) → ∀ s, iter f n s j = s j
  | 0, _, _ => rfl
  | n + 1, h, s => by
    show f n (iter f n s) j = s j
    rw [h n _ (by omega), iter_at n (fun k s hk => h k s (by omega)) s]
def sGoal0 (R : Rw) : Rw := iter (fun a (R : Rw) => wup R (19 + a) (-2)) 4 R
def sNext (T : Tx) (R : Rw) : Rw := sGoal0 (sRest T (wup R 76 (R 76 + sTill T R)))
/-- the hour as the component has it: only dogs go -/
def cHour (T : Tx) (m : Nat) (R : Rw) : Rw := iter (fun _ (R : Rw) => sTick (iter (fun d (R : Rw) => sDog T R d) T.dg R)) m R
section N
variable {T : Tx} {B : Nat} {R : Rw}
theorem sTill_upd {j : Nat} {v : Int32} (hj : j ≠ 76) : sTill T (wup R j v) = sTill T R := by
  unfold sTill sMin
  rw [wup_ne (Ne.symm hj)]
theorem sRest_upd (hT : VT T) {j : Nat} {v : Int32} (h1 : 10 ≤ j) (h2 : j < 27 ∨ 31 ≤ j) : sRest T (wup R j v) = wup (sRest T R) j v := by
  have := hT.dg; have := hT.pe
  unfold sRest
  rw [iter_comm (fun d (R : Rw) => wup (wup R d (Int32.ofNat (T.ken d))) (5 + d) 0) (fun R => wup R j v) T.dg (fun k s hk => by
    show wup (wup (wup s j v) k _) (5 + k) 0 = wup (wup (wup s k _) (5 + k) 0) j v
    rw [wup_comm (show j ≠ k by omega), wup_comm (show j ≠ 5 + k by omega)])]
  exact iter_comm (fun a (R : Rw) => wup R (27 + a) 0) (fun R => wup R j v) T.pe (fun k s hk => wup_comm (show j ≠ 27 + k by omega)) _
theorem sRest_at (hT : VT T) {j : Nat} (h1 : 10 ≤ j) (h2 : j < 27 ∨ 31 ≤ j) : sRest T R j = R j := by
  have := hT.dg; have := hT.pe
  unfold sRest
  rw [iter_at T.pe (fun k s hk => wup_ne (by omega)) _, iter_at T.dg (fun k s hk => by rw [wup_ne (by omega), wup_ne (by omega)]) _]
theorem sNext_upd (hT : VT T) {j : Nat} {v : Int32} (h1 : 10 ≤ j) (h2 : j < 19 ∨ 31 ≤ j) (h3 : j ≠ 76) : sNext T (wup R j v) = wup (sNext T R) j v := by
  unfold sNext
  rw [sTill_upd h3, wup_ne (Ne.symm h3), wup_comm (show j ≠ 76 from h3), sRest_upd hT h1 (by omega)]
  exact iter_comm (fun a (R : Rw) => wup R (19 + a) (-2)) (fun R => wup R j v) 4 (fun k s hk => wup_comm (show j ≠ 19 + k by omega)) _
theorem sNext_at (hT : VT T) {j : Nat} (h1 : 10 ≤ j) (h2 : j < 19 ∨ 31 ≤ j) (h3 : j ≠ 76) : sNext T R j = R j := by
  unfold sNext sGoal0
  rw [iter_at 4 (fun k s hk => wup_ne (by omega)) _, sRest_at hT h1 (by omega), wup_ne h3]
theorem sNext_goal : ∀ a, a < 4 → sNext T R (19 + a) = -2 := by
  intro a ha
  unfold sNext sGoal0
  generalize sRest T (wup R 76 (R 76 + sTill T R)) = R0
  have key : ∀ m a, a < m → iter (fun a (R : Rw) => wup R (19 + a) (-2)) m R0 (19 + a) = -2 := by
    intro m
    induction m with
    | zero => intro a ha; omega
    | succ m ih =>
      intro a ha
      show wup _ (19 + m) (-2) (19 + a) = -2
      by_cases c : a = m
      · rw [c, wup_self]
      · rw [wup_ne (by omega)]; exact ih a (by omega)
  exact key 4 a ha
/-- how long it is till the hour -/
theorem sTill_nat (hT : VT T) (hV : VR T B R) (hB : B ≤ 1000000000) : ∃ t u, t ≤ B ∧ R 76 = Int32.ofNat t ∧ 1 ≤ u ∧ u ≤ 1440 ∧ sTill T R = Int32.ofNat u ∧ (T.st + (t + u)) % 1440 = T.hf := by
  have := hT.hf; have := hT.ht; have := hT.st
  obtain ⟨t, ht, e1, e2⟩ := sMin_nat hT hV hB
  have hm : (T.st + t) % 1440 < 1440 := Nat.mod_lt _ (by omega)
  have e3 : Int32.ofNat T.hf - sMin T R + 1440 = Int32.ofNat (T.hf + 1440 - (T.st + t) % 1440) := by
    rw [e2]
    apply Int32.toInt_inj.mp
    have a1 : (Int32.ofNat T.hf - Int32.ofNat ((T.st + t) % 1440)).toInt = (T.hf : Int) - (((T.st + t) % 1440 : Nat) : Int) := by
      rw [i_sub' (by rw [n_int (by omega)]; omega) (by rw [n_int (by omega)]; omega) (by rw [n_int (by omega)]; omega) (by rw [n_int (by omega)]; omega), n_int (by omega), n_int (by omega)]
    have a2 : (1440 : Int32).toInt = 1440 := rfl
    rw [i_add (by rw [a1]; omega) (by rw [a1]; omega) (by decide) (by decide), a1, a2, n_int (by omega)]
    omega
  have e4 : md (Int32.ofNat T.hf - sMin T R + 1440) = Int32.ofNat ((T.hf + 1440 - (T.st + t) % 1440) % 1440) := by
    rw [e3, md_nat (by omega)]
  have hm2 : (T.hf + 1440 - (T.st + t) % 1440) % 1440 < 1440 := Nat.mod_lt _ (by omega)
  unfold sTill
  by_cases c : (T.hf + 1440 - (T.st + t) % 1440) % 1440 = 0
  · refine ⟨t, 1440, ht, e1, by omega, by omega, ?_, by omega⟩
    rw [e4, c]; rfl
  · refine ⟨t, (T.hf + 1440 - (T.st + t) % 1440) % 1440, ht, e1, by omega, by omega, ?_, by omega⟩
    rw [e4, if_neg (by rw [n_eqR (by omega) (by simp)]; exact c)]
theorem VR.next (hV : VR T B R) (hT : VT T) (hB : B ≤ 900000000) : VR T (B + 1440) (sNext T R) := by
  have := hT.pe
  obtain ⟨t, u, h1, h2, h3, h4, h5, h6⟩ := sTill_nat hT hV (by omega)
  unfold sNext sGoal0
  have v1 : VR T (B + 1440) (wup R 76 (R 76 + sTill T R)) := by
    refine hV.timU hT (by omega) ?_
    rw [h2, h5, n_add, n_int (by omega)]
    omega
  exact iter_inv _ (VR T (B + 1440)) 4 (fun k s hk hs => hs.goalU hT (by omega) (Or.inl rfl)) _ _ (Nat.le_refl _) (v1.rest hT)
theorem sNext_time (hT : VT T) (hV : VR T B R) (hB : B ≤ 900000000) : ∃ t, t ≤ B + 1440 ∧ sNext T R 76 = Int32.ofNat t ∧ (T.st + t) % 1440 = T.hf := by
  obtain ⟨t, u, h1, h2, h3, h4, h5, h6⟩ := sTill_nat hT hV (by omega)
  refine ⟨t + u, by omega, ?_, h6⟩
  unfold sNext sGoal0
  rw [iter_at 4 (fun k s hk => wup_ne (by omega)) _, sRest_at hT (by omega) (by omega), wup_self, h2, h5, n_add]
/-! done errands change nothing else -/
theorem sVar75 {d a : Nat} {v : Int32} (hd : d < 5) (ha : a < 4) : sVar T (wup R 75 v) d a = sVar T R d a := by
  funext k
  unfold sVar sVarD sMin
  rw [wup_ne (by omega), wup_ne (by omega), wup_ne (by omega), wup_ne (by omega), wup_ne (by omega), wup_ne (by omega), wup_ne (by omega)]
theorem sWants75 {d a : Nat} {v : Int32} (hd : d < 5) (ha : a < 4) : sWants T (wup R 75 v) d a = sWants T R d a := by
  unfold sWants
  rw [sVar75 hd ha, wup_ne (by omega)]
theorem sTakes75 {d a : Nat} {v : Int32} (hd : d < 5) (ha : a < 4) : sTakes T (wup R 75 v) d a = sTakes T R d a := by
  unfold sTakes
  rw [sVar75 hd ha, wup_ne (by omega)]
theorem iter_congr {σ : Type} {f g : Nat → σ → σ} : ∀ n, (∀ k s, k < n → f k s = g k s) → ∀ s, iter f n s = iter g n s
  | 0, _, _ => rfl
  | n + 1, h, s => by
    show f n (iter f n s) = g n (iter g n s)
    rw [iter_congr n (fun k s hk => h k s (by omega)) s, h n _ (by omega)]
theorem sMindsF75 {d a : Nat} {v : Int32} (hd : d < 5) (ha : a < 4) (s : Int32 × Int32) : sMindsF T (wup R 75 v) d a s = sMindsF T R d a s := by
  have e1 : wup R 75 v (27 + a) = R (27 + a) := wup_ne (by omega)
  have e2 : wup R 75 v (15 + a) = R (15 + a) := wup_ne (by omega)
  have e3 : wup R 75 v d = R d := wup_ne (by omega)
  have e4 := sWants75 (T := T) (R := R) (v := v) hd ha
  unfold sMindsF
  simp only [e1, e2, e3, e4]
theorem sMinds75 (hT : VT T) {d : Nat} {v : Int32} (hd : d < 5) : sMinds T (wup R 75 v) d = sMinds T R d := by
  have := hT.pe
  unfold sMinds
  rw [iter_congr T.pe (fun k s hk => sMindsF75 hd (by omega) s)]
theorem sDog75 (hT : VT T) {d : Nat} {v : Int32} (hd : d < 5) : sDog T (wup R 75 v) d = wup (sDog T R d) 75 v := by
  have := hT.pe
  unfold sDog
  rw [sMinds75 hT hd]
  rcases sMinds_in (R := R) hT (d := d) with e | ⟨a, ha, e⟩
  · rw [e, if_pos (by decide), if_pos (by decide)]
  · have hn : ¬ Int32.ofNat a < 0 := by rw [n_ltR (by omega) (by simp)]; omega
    rw [e, if_neg hn, if_neg hn, n_ix (by omega)]
    rw [wup_ne (show d ≠ 75 by omega), wup_ne (show 15 + a ≠ 75 by omega), wup_ne (show 35 + (4 * d + a) ≠ 75 by omega), wup_ne (show 55 + (4 * d + a) ≠ 75 by omega)]
    by_cases c1 : R d = R (15 + a)
    · rw [if_pos c1, if_pos c1]
      by_cases c2 : R (35 + (4 * d + a)) < R (55 + (4 * d + a))
      · rw [if_pos c2, if_pos c2]
        unfold sCatch
        rw [wup_ne (show 31 + a ≠ 75 by omega), wup_comm (show 75 ≠ 15 + a by omega), wup_comm (show 75 ≠ 19 + a by omega), wup_comm (show 75 ≠ 27 + a by omega), wup_comm (show 75 ≠ 31 + a by omega)]
      · rw [if_neg c2, if_neg c2]
        unfold sBite
        rw [sTakes75 hd (by omega), wup_ne (show 23 + a ≠ 75 by omega), wup_ne (show 5 + d ≠ 75 by omega), wup_ne (show 10 + d ≠ 75 by omega), wup_comm (show 75 ≠ 23 + a by omega), wup_comm (show 75 ≠ 5 + d by omega), wup_comm (show 75 ≠ 10 + d by omega)]
    · rw [if_neg c1, if_neg c1, wup_comm (show 75 ≠ d by omega)]
theorem sDogs75 (hT : VT T) {v : Int32} : iter (fun d (R : Rw) => sDog T R d) T.dg (wup R 75 v) = wup (iter (fun d (R : Rw) => sDog T R d) T.dg R) 75 v := by
  have := hT.dg
  exact iter_comm (fun d (R : Rw) => sDog T R d) (fun R => wup R 75 v) T.dg (fun k s hk => sDog75 hT (by omega)) R
/-- with no goals people do their errands only -/
theorem sPeople75 (hT : VT T) (hg : ∀ a, a < 4 → R (19 + a) = -2) : ∃ v, sPeople T R = wup R 75 v := by
  have := hT.pe
  have p1 : ∀ (R1 : Rw) a, R1 (19 + a) = -2 → ∃ v, sPerson T R1 a = wup R1 75 v := by
    intro R1 a h1
    unfold sPerson sMove
    rw [if_neg (fun hh => by rw [h1] at hh; exact absurd hh.1 (by decide))]
    have key : ∀ m, ∃ v, iter (sErrF T a) m R1 = wup R1 75 v := by
      intro m
      induction m with
      | zero => exact ⟨R1 75, wup_same.symm⟩
      | succ m ih =>
        obtain ⟨v, hv⟩ := ih
        show ∃ v, sErrF T a m (iter (sErrF T a) m R1) = _
        rw [hv]
        unfold sErrF
        split
        · refine ⟨wup R1 75 v 75 ||| ((1 : Int32) <<< Int32.ofNat m), ?_⟩
          funext k
          unfold wup
          by_cases c : k = 75
          · rw [if_pos c, if_pos c]
          · rw [if_neg c, if_neg c, if_neg c]
        · exact ⟨v, rfl⟩
    exact key T.er
  unfold sPeople
  have key : ∀ m, m ≤ 4 → ∃ v, iter (fun a (R : Rw) => if R (27 + a) = 0 then sPerson T R a else R) m R = wup R 75 v := by
    intro m
    induction m with
    | zero => intro _; exact ⟨R 75, wup_same.symm⟩
    | succ m ih =>
      intro hm
      obtain ⟨v, hv⟩ := ih (by omega)
      show ∃ v, (if (iter (fun a (R : Rw) => if R (27 + a) = 0 then sPerson T R a else R) m R) (27 + m) = 0 then sPerson T (iter (fun a (R : Rw) => if R (27 + a) = 0 then sPerson T R a else R) m R) m else (iter (fun a (R : Rw) => if R (27 + a) = 0 then sPerson T R a else R) m R)) = _
      rw [hv]
      split
      · obtain ⟨w, hw⟩ := p1 (wup R 75 v) m (by rw [wup_ne (by omega)]; exact hg m (by omega))
        rw [hw]
        refine ⟨w, ?_⟩
        funext k
        unfold wup
        by_cases c : k = 75
        · rw [if_pos c, if_pos c]
        · rw [if_neg c, if_neg c, if_neg c]
      · exact ⟨v, rfl⟩
  exact key T.pe (by omega)
theorem sDog_goal (hT : VT T) {d : Nat} (hd : d < 5) (hg : ∀ a, a < 4 → R (19 + a) = -2) : ∀ a, a < 4 → sDog T R d (19 + a) = -2 := by
  have := hT.pe
  intro b hb
  unfold sDog
  rcases sMinds_in (R := R) hT (d := d) with e | ⟨a, ha, e⟩
  · rw [e, if_pos (by decide)]; exact hg b hb
  · rw [e, if_neg (by rw [n_ltR (by omega) (by simp)]; omega), n_ix (by omega)]
    split
    · split
      · unfold sCatch
        rw [wup_ne (by omega), wup_ne (by omega)]
        by_cases c : b = a
        · rw [c, wup_self]
        · rw [wup_ne (by omega), wup_ne (by omega)]; exact hg b hb
      · unfold sBite
        rw [wup_ne (by omega), wup_ne (by omega), wup_ne (by omega)]; exact hg b hb
    · rw [wup_ne (by omega)]; exact hg b hb
theorem sDog_time (hT : VT T) {d : Nat} (hd : d < 5) : sDog T R d 76 = R 76 := by
  have := hT.pe
  unfold sDog
  rcases sMinds_in (R := R) hT (d := d) with e | ⟨a, ha, e⟩
  · rw [e, if_pos (by decide)]
  · rw [e, if_neg (by rw [n_ltR (by omega) (by simp)]; omega), n_ix (by omega)]
    split
    · split
      · unfold sCatch
        rw [wup_ne (by omega), wup_ne (by omega), wup_ne (by omega), wup_ne (by omega)]
      · unfold sBite
        rw [wup_ne (by omega), wup_ne (by omega), wup_ne (by omega)]
    · rw [wup_ne (by omega)]
theorem sFadeAll_lo {k : Nat} (hk : k < 35) : sFadeAll T R k = R k := by
  unfold sFadeAll
  exact iter_at T.dg (fun d s hd => iter_at T.pe (fun a s ha => by unfold sFade; rw [wup_ne (by omega), wup_ne (by omega)]) s) R
/-- the model's hour, from its beginning on -/
theorem hour_eq (hT : VT T) (hg : ∀ a, a < 4 → R (19 + a) = -2) {t : Nat} (ht : R 76 = Int32.ofNat t) (htb : t < 1000000000) (hm : (T.st + t) % 1440 = T.hf) :
    ∀ m, T.hf + m < T.ht → (∃ v, sGoes T m R = wup (cHour T m R) 75 v) ∧ cHour T m R 76 = Int32.ofNat (t + m) ∧ ∀ a, a < 4 → cHour T m R (19 + a) = -2 := by
  have := hT.hf; have := hT.ht; have := hT.st; have := hT.dg
  intro m
  induction m with
  | zero => intro _; exact ⟨⟨R 75, wup_same.symm⟩, ht, hg⟩
  | succ m ih =>
    intro hlt
    obtain ⟨⟨v, e1⟩, e2, e3⟩ := ih (by omega)
    have f1 : cHour T (m + 1) R = sTick (iter (fun d (R : Rw) => sDog T R d) T.dg (cHour T m R)) := rfl
    have f2 : sGoes T (m + 1) R = sMinute T (sGoes T m R) := rfl
    rw [f2, e1, f1]
    generalize cHour T m R = C at *
    have g0 : ∀ a, a < 4 → (wup C 75 v) (19 + a) = -2 := fun a ha => by rw [wup_ne (by omega)]; exact e3 a ha
    obtain ⟨w, e4⟩ := sPeople75 (T := T) hT g0
    have e5 : sPeople T (wup C 75 v) = wup C 75 w := by
      rw [e4]
      funext k
      unfold wup
      by_cases c : k = 75
      · rw [if_pos c, if_pos c]
      · rw [if_neg c, if_neg c, if_neg c]
    have dt : iter (fun d (R : Rw) => sDog T R d) T.dg C 76 = C 76 := iter_at T.dg (fun d s hd => sDog_time hT (by omega)) C
    have mi : ∀ C' : Rw, C' 76 = Int32.ofNat (t + m) → sMin T C' = Int32.ofNat (T.hf + m) := by
      intro C' h'
      unfold sMin
      rw [h', n_add, md_nat (by omega)]
      congr 1
      omega
    have hh : sHour T (wup C 75 w) := by
      have := mi (wup C 75 w) (by rw [wup_ne (by omega)]; exact e2)
      unfold sHour
      rw [this, n_le (by omega) (by omega), n_lt (by omega) (by omega)]
      omega
    have tk : sTick (wup (iter (fun d (R : Rw) => sDog T R d) T.dg C) 75 w) = wup (sTick (iter (fun d (R : Rw) => sDog T R d) T.dg C)) 75 w := by
      unfold sTick
      rw [wup_ne (by omega), wup_comm (by omega)]
    have st : sTick (iter (fun d (R : Rw) => sDog T R d) T.dg C) 76 = Int32.ofNat (t + m + 1) := by
      unfold sTick
      rw [wup_self, dt, e2, n_addR]
    refine ⟨⟨w, ?_⟩, st, fun a ha => ?_⟩
    · unfold sMinute sTime
      rw [e5, if_pos hh, sDogs75 hT, tk]
      unfold sEve
      rw [if_pos]
      unfold sMin
      rw [wup_ne (by omega), st, n_add, md_nat (by omega), n_ltL (by simp) (by omega)]
      omega
    · unfold sTick
      rw [wup_ne (by omega)]
      exact iter_inv (fun d (R : Rw) => sDog T R d) (fun R => ∀ a, a < 4 → R (19 + a) = -2) T.dg (fun d s hd hs => sDog_goal hT (by omega) hs) _ _ (Nat.le_refl _) e3 a ha
/-- at its end: whatever faded -/
theorem hour_end (hT : VT T) (hg : ∀ a, a < 4 → R (19 + a) = -2) {t : Nat} (ht : R 76 = Int32.ofNat t) (htb : t < 1000000000) (hm : (T.st + t) % 1440 = T.hf) :
    ∀ k, k < 35 → sGoes T (T.ht - T.hf) R k = cHour T (T.ht - T.hf) R k := by
  have h1 := hT.hf; have h2 := hT.ht; have := hT.st; have := hT.dg
  obtain ⟨m, em⟩ : ∃ m, T.ht - T.hf = m + 1 := ⟨T.ht - T.hf - 1, by omega⟩
  obtain ⟨⟨v, e1⟩, e2, e3⟩ := hour_eq hT hg ht htb hm m (by omega)
  intro k hk
  rw [em]
  have f1 : cHour T (m + 1) R = sTick (iter (fun d (R : Rw) => sDog T R d) T.dg (cHour T m R)) := rfl
  have f2 : sGoes T (m + 1) R = sMinute T (sGoes T m R) := rfl
  rw [f2, e1, f1]
  generalize cHour T m R = C at *
  have g0 : ∀ a, a < 4 → (wup C 75 v) (19 + a) = -2 := fun a ha => by rw [wup_ne (by omega)]; exact e3 a ha
  obtain ⟨w, e4⟩ := sPeople75 (T := T) hT g0
  have e5 : sPeople T (wup C 75 v) = wup C 75 w := by
    rw [e4]
    funext k
    unfold wup
    by_cases c : k = 75
    · rw [if_pos c, if_pos c]
    · rw [if_neg c, if_neg c, if_neg c]
  have mi : ∀ C' : Rw, C' 76 = Int32.ofNat (t + m) → sMin T C' = Int32.ofNat (T.hf + m) := by
    intro C' h'
    unfold sMin
    rw [h', n_add, md_nat (by omega)]
    congr 1
    omega
  have hh : sHour T (wup C 75 w) := by
    have := mi (wup C 75 w) (by rw [wup_ne (by omega)]; exact e2)
    unfold sHour
    rw [this, n_le (by omega) (by omega), n_lt (by omega) (by omega)]
    omega
  have tk : sTick (wup (iter (fun d (R : Rw) => sDog T R d) T.dg C) 75 w) = wup (sTick (iter (fun d (R : Rw) => sDog T R d) T.dg C)) 75 w := by
    unfold sTick
    rw [wup_ne (by omega), wup_comm (by omega)]
  unfold sMinute sTime
  rw [e5, if_pos hh, sDogs75 hT, tk]
  unfold sEve
  split
  · rw [wup_ne (by omega)]
  · rw [sFadeAll_lo hk, wup_ne (by omega)]
theorem VR.chour (hV : VR T B R) (hT : VT T) : ∀ m, B + m < 1000000000 → VR T (B + m) (cHour T m R)
  | 0, _ => hV
  | m + 1, hm => by
    have ih := VR.chour hV hT m (by omega)
    exact (ih.dogs hT (Nat.le_refl _)).tick hT (by omega)
end N
