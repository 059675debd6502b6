set_option maxRecDepth 100000
set_option linter.all false
/-! ===== rounds: sets of places as numbers below 128 ===== -/
abbrev has (s q : Nat) : Prop := s / 2 ^ q % 2 = 1
def nb (s : Nat) : Nat := s % 2 + s / 2 % 2 + s / 4 % 2 + s / 8 % 2 + s / 16 % 2 + s / 32 % 2 + s / 64 % 2
theorem k_add : ∀ s : Fin 128, ∀ q : Fin 7, ¬ has s.1 q.1 → (s.1 ||| 2 ^ q.1) = s.1 + 2 ^ q.1 ∧ s.1 + 2 ^ q.1 < 128 ∧ nb (s.1 + 2 ^ q.1) = nb s.1 + 1 := by decide +kernel
theorem k_has : ∀ s : Fin 128, ∀ q r : Fin 7, ¬ has s.1 q.1 → (has (s.1 + 2 ^ q.1) r.1 ↔ (has s.1 r.1 ∨ r.1 = q.1)) := by decide +kernel
theorem k_or : ∀ s : Fin 128, ∀ q r : Fin 7, (s.1 ||| 2 ^ q.1) < 128 ∧ (has (s.1 ||| 2 ^ q.1) r.1 ↔ (has s.1 r.1 ∨ r.1 = q.1)) := by decide +kernel
theorem k_one : ∀ q r : Fin 7, 2 ^ q.1 < 128 ∧ (has (2 ^ q.1) r.1 ↔ r.1 = q.1) ∧ nb (2 ^ q.1) = 1 := by decide +kernel
theorem k_and : ∀ s : Fin 128, ∀ q : Fin 7, (s.1 &&& 2 ^ q.1) = if has s.1 q.1 then 2 ^ q.1 else 0 := by decide +kernel
theorem k_zero : ∀ q : Fin 7, ¬ has 0 q.1 := by decide +kernel
theorem nb_le (s : Nat) : nb s ≤ 7 := by unfold nb; omega
theorem mask_le {a b : Nat} (ha : a < 128) (hb : b < 128) (h : ∀ q, q < 7 → has a q → has b q) : a ≤ b := by
  have h0 := h 0 (by omega); have h1 := h 1 (by omega); have h2 := h 2 (by omega); have h3 := h 3 (by omega); have h4 := h 4 (by omega); have h5 := h 5 (by omega); have h6 := h 6 (by omega)
  simp only [has, Nat.reducePow, Nat.div_one] at h0 h1 h2 h3 h4 h5 h6
  omega
theorem mask_ext {a b : Nat} (ha : a < 128) (hb : b < 128) (h : ∀ q, q < 7 → (has a q ↔ has b q)) : a = b :=
  Nat.le_antisymm (mask_le ha hb (fun q hq => (h q hq).mp)) (mask_le hb ha (fun q hq => (h q hq).mpr))
/-- walks: from a start on, each step to a place of S not yet gone by -/
def wG (st : Nat → Nat → Nat → Prop) (g : Nat → Nat → Nat) (S : Nat) : Nat → Nat → Nat → Nat → Prop
  | 0, s, p, c => st s p c
  | k + 1, s', q, c' => ∃ s p c, wG st g S k s p c ∧ q < 7 ∧ has S q ∧ ¬ has s q ∧ s' = s + 2 ^ q ∧ c' = c + g p q
def stM (g : Nat → Nat → Nat) (u S : Nat) (s p c : Nat) : Prop := p < 7 ∧ has S p ∧ s = 2 ^ p ∧ c = g u p
def stC (u S : Nat) (s p c : Nat) : Prop := s = (if has S u then 2 ^ u else 0) ∧ p = u ∧ c = 0
/-- what is known of a table, with the edges done -/
def isTb (I : Nat) (st : Nat → Nat → Nat → Prop) (g : Nat → Nat → Nat) (S : Nat) (t : Nat → Nat → Nat) (dn : Nat → Nat → Nat → Prop) : Prop :=
  (∀ s p, t s p ≤ I) ∧ (∀ s p, s < 128 → p < 7 → t s p < I → ∃ k, wG st g S k s p (t s p)) ∧ (∀ s p c, st s p c → t s p ≤ c) ∧
  (∀ s p q, s < 128 → p < 7 → q < 7 → dn s p q → has S q → ¬ has s q → t s p < I → t (s + 2 ^ q) q ≤ t s p + g p q)
def tset (t : Nat → Nat → Nat) (s p v : Nat) : Nat → Nat → Nat := fun a b => if a = s ∧ b = p then v else t a b
section R
variable {I : Nat} {st : Nat → Nat → Nat → Prop} {g : Nat → Nat → Nat} {S : Nat} {t : Nat → Nat → Nat} {dn dn' : Nat → Nat → Nat → Prop}
theorem isTb.skip (h : isTb I st g S t dn) {s p q : Nat} (hs : s < 128) (hp : p < 7) (hq : q < 7) (hn : ¬ (has S q ∧ ¬ has s q ∧ t s p < I)) : isTb I st g S t (fun a b c => dn a b c ∨ (a = s ∧ b = p ∧ c = q)) := by
  refine ⟨h.1, h.2.1, h.2.2.1, fun a b c ha hb hc hd h1 h2 h3 => ?_⟩
  rcases hd with hd | ⟨e1, e2, e3⟩
  · exact h.2.2.2 a b c ha hb hc hd h1 h2 h3
  · subst e1; subst e2; subst e3
    exact absurd ⟨h1, h2, h3⟩ hn
theorem isTb.step (h : isTb I st g S t dn) {s p q : Nat} (hs : s < 128) (hp : p < 7) (hq : q < 7) (hd : ∀ a b c, dn a b c → a ≤ s) (h1 : has S q) (h2 : ¬ has s q) (h3 : t s p < I) : isTb I st g S (tset t (s + 2 ^ q) q (min (t (s + 2 ^ q) q) (t s p + g p q))) (fun a b c => dn a b c ∨ (a = s ∧ b = p ∧ c = q)) := by
  obtain ⟨b, snd, bas, cmp⟩ := h
  have pq := Nat.two_pow_pos q
  have le : ∀ a c, tset t (s + 2 ^ q) q (min (t (s + 2 ^ q) q) (t s p + g p q)) a c ≤ t a c := by
    intro a c
    unfold tset
    split
    · rename_i e; rw [e.1, e.2]; exact Nat.min_le_left _ _
    · exact Nat.le_refl _
  have eq : ∀ a c, a ≤ s → tset t (s + 2 ^ q) q (min (t (s + 2 ^ q) q) (t s p + g p q)) a c = t a c := by
    intro a c ha
    unfold tset
    rw [if_neg (fun e => by omega)]
  refine ⟨fun a c => Nat.le_trans (le a c) (b a c), fun a c ha hc hlt => ?_, fun a c w hw => Nat.le_trans (le a c) (bas a c w hw), fun a c e ha hc he hdn e1 e2 e3 => ?_⟩
  · unfold tset at hlt ⊢
    split
    · rename_i e
      rw [if_pos e] at hlt
      by_cases c2 : t (s + 2 ^ q) q ≤ t s p + g p q
      · rw [Nat.min_eq_left c2] at hlt ⊢
        rw [e.1, e.2]
        exact snd _ _ (by rw [← e.1]; exact ha) (by rw [← e.2]; exact hc) hlt
      · rw [Nat.min_eq_right (by omega)] at hlt ⊢
        obtain ⟨k, hk⟩ := snd s p hs hp h3
        exact ⟨k + 1, s, p, t s p, hk, by rw [e.2]; exact hq, by rw [e.2]; exact h1, by rw [e.2]; exact h2, by rw [e.1, e.2], by rw [e.2]⟩
    · rename_i e
      rw [if_neg e] at hlt
      exact snd a c ha hc hlt
  · have ha' : a ≤ s := by
      rcases hdn with hdn | hdn
      · exact hd _ _ _ hdn
      · omega
    rw [eq a c ha'] at e3 ⊢
    rcases hdn with hdn | ⟨f1, f2, f3⟩
    · exact Nat.le_trans (le _ _) (cmp a c e ha hc he hdn e1 e2 e3)
    · subst f1; subst f2; subst f3
      unfold tset
      rw [if_pos ⟨rfl, rfl⟩]
      exact Nat.min_le_right _ _
theorem isTb.ext (h : isTb I st g S t dn) (hd : ∀ a b c, a < 128 → b < 7 → c < 7 → has S c → t a b < I → dn' a b c → dn a b c) : isTb I st g S t dn' :=
  ⟨h.1, h.2.1, h.2.2.1, fun a b c ha hb hc hdn h1 h2 h3 => h.2.2.2 a b c ha hb hc (hd a b c ha hb hc h1 h3 hdn) h1 h2 h3⟩
/-- places of walks -/
theorem wG_in (hst : ∀ s p c, st s p c → s < 128 ∧ p < 7 ∧ (∀ q, q < 7 → has s q → has S q)) : ∀ k s p c, wG st g S k s p c → s < 128 ∧ p < 7 ∧ (∀ q, q < 7 → has s q → has S q)
  | 0, s, p, c, h => hst s p c h
  | k + 1, s', q', c', h => by
    obtain ⟨s, p, c, hw, hq, h1, h2, e1, e2⟩ := h
    obtain ⟨i1, i2, i3⟩ := wG_in hst k s p c hw
    obtain ⟨a1, a2, a3⟩ := k_add ⟨s, i1⟩ ⟨q', hq⟩ h2
    refine ⟨by rw [e1]; exact a2, hq, fun r hr hh => ?_⟩
    rw [e1] at hh
    rcases (k_has ⟨s, i1⟩ ⟨q', hq⟩ ⟨r, hr⟩ h2).mp hh with e | e
    · exact i3 r hr e
    · have e : r = q' := e
      rw [e]; exact h1
theorem wG_cost (hst : ∀ s p c, st s p c → s < 128 ∧ p < 7 ∧ (∀ q, q < 7 → has s q → has S q)) {M : Nat} (hc : ∀ s p c, st s p c → c ≤ M * nb s) (hg : ∀ p q, p < 7 → q < 7 → g p q ≤ M) : ∀ k s p c, wG st g S k s p c → c ≤ M * nb s
  | 0, s, p, c, h => hc s p c h
  | k + 1, s', q', c', h => by
    obtain ⟨s, p, c, hw, hq, h1, h2, e1, e2⟩ := h
    obtain ⟨i1, i2, i3⟩ := wG_in hst k s p c hw
    obtain ⟨a1, a2, a3⟩ := k_add ⟨s, i1⟩ ⟨q', hq⟩ h2
    have ih := wG_cost hst hc hg k s p c hw
    have gl := hg p q' i2 hq
    have a3 : nb (s + 2 ^ q') = nb s + 1 := a3
    rw [e1, e2, a3, Nat.mul_add, Nat.mul_one]
    omega
/-- what a walk costs the table has at most -/
theorem wG_le (h : isTb I st g S t (fun _ _ _ => True)) (hst : ∀ s p c, st s p c → s < 128 ∧ p < 7 ∧ (∀ q, q < 7 → has s q → has S q)) : ∀ k s p c, wG st g S k s p c → c < I → t s p ≤ c
  | 0, s, p, c, hw, _ => h.2.2.1 s p c hw
  | k + 1, s', q', c', hw, hlt => by
    obtain ⟨s, p, c, hw, hq, h1, h2, e1, e2⟩ := hw
    obtain ⟨i1, i2, i3⟩ := wG_in hst k s p c hw
    have ih := wG_le h hst k s p c hw (by omega)
    have := h.2.2.2 s p q' i1 i2 hq trivial h1 h2 (by omega)
    rw [e1, e2]
    omega
end R
/-! both tables, one number -/
def fCap (f : Nat → Nat → Nat) : Nat → Nat → Nat := fun p q => if f p q < 99 then f p q else 1000000
def minM (t : Nat → Nat → Nat) (f : Nat → Nat → Nat) (S h : Nat) (m : Nat) : Nat := iter (fun p b => min b (t S p + f p h)) m 999
def minC (t : Nat → Nat → Nat) (f : Nat → Nat → Nat) (S h : Nat) (m : Nat) : Nat := iter (fun p b => if t S p < 1000000 then min b (t S p + fCap f p h) else b) m 1000000
theorem minM_le {t : Nat → Nat → Nat} {f : Nat → Nat → Nat} {S h p : Nat} : ∀ m, p < m → minM t f S h m ≤ t S p + f p h
  | 0, hp => absurd hp (Nat.not_lt_zero p)
  | m + 1, hp => by
    show min (minM t f S h m) (t S m + f m h) ≤ _
    by_cases c : p = m
    · rw [c]; exact Nat.min_le_right _ _
    · exact Nat.le_trans (Nat.min_le_left _ _) (minM_le m (by omega))
theorem minM_at {t : Nat → Nat → Nat} {f : Nat → Nat → Nat} {S h : Nat} : ∀ m, minM t f S h m = 999 ∨ ∃ p, p < m ∧ minM t f S h m = t S p + f p h
  | 0 => Or.inl rfl
  | m + 1 => by
    show min (minM t f S h m) (t S m + f m h) = 999 ∨ ∃ p, p < m + 1 ∧ min (minM t f S h m) (t S m + f m h) = t S p + f p h
    by_cases c : minM t f S h m ≤ t S m + f m h
    · rw [Nat.min_eq_left c]
      rcases minM_at (t := t) (f := f) (S := S) (h := h) m with e | ⟨p, hp, e⟩
      · exact Or.inl e
      · exact Or.inr ⟨p, by omega, e⟩
    · rw [Nat.min_eq_right (by omega)]
      exact Or.inr ⟨m, by omega, rfl⟩
theorem minC_le {t : Nat → Nat → Nat} {f : Nat → Nat → Nat} {S h p : Nat} (hf : t S p < 1000000) : ∀ m, p < m → minC t f S h m ≤ t S p + fCap f p h
  | 0, hp => absurd hp (Nat.not_lt_zero p)
  | m + 1, hp => by
    show (if t S m < 1000000 then min (minC t f S h m) (t S m + fCap f m h) else minC t f S h m) ≤ _
    by_cases c : p = m
    · rw [← c, if_pos hf]; exact Nat.min_le_right _ _
    · have := minC_le (t := t) (f := f) (S := S) (h := h) hf m (by omega)
      split
      · exact Nat.le_trans (Nat.min_le_left _ _) this
      · exact this
theorem minC_at {t : Nat → Nat → Nat} {f : Nat → Nat → Nat} {S h : Nat} : ∀ m, minC t f S h m = 1000000 ∨ ∃ p, p < m ∧ t S p < 1000000 ∧ minC t f S h m = t S p + fCap f p h
  | 0 => Or.inl rfl
  | m + 1 => by
    have ih := minC_at (t := t) (f := f) (S := S) (h := h) m
    show (if t S m < 1000000 then min (minC t f S h m) (t S m + fCap f m h) else minC t f S h m) = 1000000 ∨ ∃ p, p < m + 1 ∧ t S p < 1000000 ∧ (if t S m < 1000000 then min (minC t f S h m) (t S m + fCap f m h) else minC t f S h m) = t S p + fCap f p h
    by_cases c : t S m < 1000000
    · rw [if_pos c]
      by_cases c2 : minC t f S h m ≤ t S m + fCap f m h
      · rw [Nat.min_eq_left c2]
        rcases ih with e | ⟨p, hp, e⟩
        · exact Or.inl e
        · exact Or.inr ⟨p, by omega, e⟩
      · rw [Nat.min_eq_right (by omega)]
        exact Or.inr ⟨m, by omega, c, rfl⟩
    · rw [if_neg c]
      rcases ih with e | ⟨p, hp, e⟩
      · exact Or.inl e
      · exact Or.inr ⟨p, by omega, e⟩
theorem minC_top {t : Nat → Nat → Nat} {f : Nat → Nat → Nat} {S h : Nat} : ∀ m, minC t f S h m ≤ 1000000
  | 0 => Nat.le_refl _
  | m + 1 => by
    have ih := minC_top (t := t) (f := f) (S := S) (h := h) m
    show (if t S m < 1000000 then min (minC t f S h m) (t S m + fCap f m h) else minC t f S h m) ≤ _
    split
    · exact Nat.le_trans (Nat.min_le_left _ _) ih
    · exact ih
section R2
variable {f : Nat → Nat → Nat} {u S h pl : Nat} {tM tC : Nat → Nat → Nat}
theorem stM_in (hS : S < 128) : ∀ s p c, stM f u S s p c → s < 128 ∧ p < 7 ∧ (∀ q, q < 7 → has s q → has S q) := by
  intro s p c ⟨h1, h2, h3, h4⟩
  have := k_one ⟨p, h1⟩
  refine ⟨by rw [h3]; exact (this ⟨0, by omega⟩).1, h1, fun q hq hh => ?_⟩
  rw [h3] at hh
  have e : q = p := (this ⟨q, hq⟩).2.1.mp hh
  rw [e]; exact h2
theorem stC_in (hu : u < 7) (hS : S < 128) : ∀ s p c, stC u S s p c → s < 128 ∧ p < 7 ∧ (∀ q, q < 7 → has s q → has S q) := by
  intro s p c ⟨h1, h2, h3⟩
  have := k_one ⟨u, hu⟩
  refine ⟨?_, by omega, fun q hq hh => ?_⟩
  · rw [h1]; split
    · exact (this ⟨0, by omega⟩).1
    · omega
  · rw [h1] at hh
    by_cases c : has S u
    · rw [if_pos c] at hh
      have e : q = u := (this ⟨q, hq⟩).2.1.mp hh
      rw [e]; exact c
    · rw [if_neg c] at hh
      exact absurd hh (k_zero ⟨q, hq⟩)
/-- a walk of the model is no shorter than one of the component -/
theorem wMC (h0 : ∀ p, p < 7 → f p p = 0) (htri : ∀ p q r, p < 7 → q < 7 → r < 7 → f p q ≤ f p r + f r q) (hu : u < 7) (hS : S < 128) : ∀ k s p c, wG (stM f u S) f S k s p c → ∃ k' s' p' c', wG (stC u S) f S k' s' p' c' ∧ c' + f p' p ≤ c ∧ (∀ q, q < 7 → (has s' q ↔ (has s q ∨ (q = u ∧ has S u))))
  | 0, s, p, c, ⟨hp, hSp, es, ec⟩ => by
    have o := k_one ⟨p, hp⟩
    have ou := k_one ⟨u, hu⟩
    by_cases cu : has S u
    · by_cases cp : p = u
      · refine ⟨0, 2 ^ u, u, 0, ⟨by rw [if_pos cu], rfl, rfl⟩, ?_, fun q hq => ?_⟩
        · rw [ec, cp]; omega
        · have e1 : has (2 ^ u) q ↔ q = u := (ou ⟨q, hq⟩).2.1
          have e2 : has (2 ^ p) q ↔ q = p := (o ⟨q, hq⟩).2.1
          rw [es, e1, e2, cp]
          exact ⟨fun e => Or.inl e, fun e => e.elim id (fun e => e.1)⟩
      · have nh : ¬ has (2 ^ u) p := fun hh => cp ((ou ⟨p, hp⟩).2.1.mp hh)
        refine ⟨1, 2 ^ u + 2 ^ p, p, 0 + f u p, ⟨2 ^ u, u, 0, ⟨by rw [if_pos cu], rfl, rfl⟩, hp, hSp, nh, rfl, rfl⟩, ?_, fun q hq => ?_⟩
        · rw [ec, h0 p hp]; omega
        · have e1 := k_has ⟨2 ^ u, (ou ⟨0, by omega⟩).1⟩ ⟨p, hp⟩ ⟨q, hq⟩ nh
          have e1 : has (2 ^ u + 2 ^ p) q ↔ (has (2 ^ u) q ∨ q = p) := e1
          have e2 : has (2 ^ u) q ↔ q = u := (ou ⟨q, hq⟩).2.1
          have e3 : has (2 ^ p) q ↔ q = p := (o ⟨q, hq⟩).2.1
          rw [es, e1, e2, e3]
          exact ⟨fun e => e.elim (fun e => Or.inr ⟨e, cu⟩) Or.inl, fun e => e.elim Or.inr (fun e => Or.inl e.1)⟩
    · have nh : ¬ has 0 p := k_zero ⟨p, hp⟩
      refine ⟨1, 0 + 2 ^ p, p, 0 + f u p, ⟨0, u, 0, ⟨by rw [if_neg cu], rfl, rfl⟩, hp, hSp, nh, rfl, rfl⟩, ?_, fun q hq => ?_⟩
      · rw [ec, h0 p hp]; omega
      · rw [es, Nat.zero_add]
        exact ⟨Or.inl, fun e => e.elim id (fun e => absurd e.2 cu)⟩
  | k + 1, s2, q2, c2, hw => by
    obtain ⟨s, p, c, hw, hq, h1, h2, e1, e2⟩ := hw
    obtain ⟨i1, i2, i3⟩ := wG_in (stM_in hS) k s p c hw
    obtain ⟨k', s', p', c', w', l', m'⟩ := wMC h0 htri hu hS k s p c hw
    obtain ⟨j1, j2, j3⟩ := wG_in (stC_in hu hS) k' s' p' c' w'
    have t1 := htri p' q2 p j2 hq i2
    by_cases cq : has s' q2
    · refine ⟨k', s', p', c', w', by omega, fun q hq' => ?_⟩
      have eh : has (s + 2 ^ q2) q ↔ (has s q ∨ q = q2) := k_has ⟨s, i1⟩ ⟨q2, hq⟩ ⟨q, hq'⟩ h2
      have mq := m' q hq'
      have m2 := m' q2 hq
      rw [e1, eh, mq]
      have : q2 = u ∧ has S u := (m2.mp cq).resolve_left h2
      exact ⟨fun e => e.elim (fun e => Or.inl (Or.inl e)) Or.inr, fun e => e.elim (fun e => e.elim Or.inl (fun e => Or.inr ⟨by rw [e]; exact this.1, this.2⟩)) Or.inr⟩
    · refine ⟨k' + 1, s' + 2 ^ q2, q2, c' + f p' q2, ⟨s', p', c', w', hq, h1, cq, rfl, rfl⟩, ?_, fun q hq' => ?_⟩
      · rw [h0 q2 hq]; omega
      · have eh : has (s + 2 ^ q2) q ↔ (has s q ∨ q = q2) := k_has ⟨s, i1⟩ ⟨q2, hq⟩ ⟨q, hq'⟩ h2
        have eh2 : has (s' + 2 ^ q2) q ↔ (has s' q ∨ q = q2) := k_has ⟨s', j1⟩ ⟨q2, hq⟩ ⟨q, hq'⟩ cq
        have mq := m' q hq'
        rw [e1, eh, eh2, mq]
        exact ⟨fun e => e.elim (fun e => e.elim (fun e => Or.inl (Or.inl e)) Or.inr) (fun e => Or.inl (Or.inr e)), fun e => e.elim (fun e => e.elim (fun e => Or.inl (Or.inl e)) Or.inr) (fun e => Or.inl (Or.inr e))⟩
/-- a walk of the component by ways that are there is one of the model -/
theorem wCM (h0 : ∀ p, p < 7 → f p p = 0) (hu : u < 7) (hS : S < 128) : ∀ k s p c, wG (stC u S) (fCap f) S k s p c → c < 1000000 → (has S u ∨ s ≠ 0) → ∃ k', wG (stM f u S) f S k' s p c
  | 0, s, p, c, ⟨e1, e2, e3⟩, hlt, hne => by
    by_cases cu : has S u
    · rw [if_pos cu] at e1
      exact ⟨0, by rw [e2]; exact hu, by rw [e2]; exact cu, by rw [e1, e2], by rw [e2, e3, h0 u hu]⟩
    · rw [if_neg cu] at e1
      exact absurd e1 (hne.resolve_left cu)
  | k + 1, s2, q2, c2, hw, hlt, hne => by
    obtain ⟨s, p, c, hw, hq, h1, h2, e1, e2⟩ := hw
    have hf : f p q2 < 99 ∧ fCap f p q2 = f p q2 := by
      unfold fCap at e2 ⊢
      by_cases c9 : f p q2 < 99
      · rw [if_pos c9]; exact ⟨c9, rfl⟩
      · rw [if_neg c9] at e2; omega
    rw [hf.2] at e2
    by_cases cs : has S u ∨ s ≠ 0
    · obtain ⟨k', w'⟩ := wCM h0 hu hS k s p c hw (by omega) cs
      exact ⟨k' + 1, s, p, c, w', hq, h1, h2, e1, e2⟩
    · have cu : ¬ has S u := fun hh => cs (Or.inl hh)
      have c0 : s = 0 := Classical.not_not.mp (fun hh => cs (Or.inr hh))
      -- the walk has not begun
      have key : ∀ k s p c, wG (stC u S) (fCap f) S k s p c → s = 0 → p = u ∧ c = 0 := by
        intro k
        cases k with
        | zero => intro s p c hw e; exact ⟨hw.2.1, hw.2.2⟩
        | succ k =>
          intro s p c hw e
          obtain ⟨s1, p1, c1, hw1, hq1, a1, a2, a3, a4⟩ := hw
          have := Nat.two_pow_pos p
          omega
      obtain ⟨p1, p2⟩ := key k s p c hw c0
      refine ⟨0, hq, h1, ?_, ?_⟩
      · rw [e1, c0, Nat.zero_add]
      · rw [e2, p1, p2, Nat.zero_add]
theorem round_both (h0 : ∀ p, p < 7 → f p p = 0) (htri : ∀ p q r, p < 7 → q < 7 → r < 7 → f p q ≤ f p r + f r q) (hfin : ∀ p q, p < 7 → q < 7 → f p q < 99 → f p q ≤ 6) (h99 : ∀ p q, f p q ≤ 99) (hu : u < 7) (hh : h < 7) (hS : S < 128) (hpl : pl ≤ 7) (hup : u < pl) (hSp : ∀ q, q < 7 → has S q → q < pl)
    (hM : isTb 999 (stM f u S) f S tM (fun _ _ _ => True)) (hC : isTb 1000000 (stC u S) (fCap f) S tC (fun _ _ _ => True)) :
    (minC tC f S h pl < 1000000 ∧ minC tC f S h pl = (if S = 0 then f u h else minM tM f S h 7) ∧ (if S = 0 then f u h else minM tM f S h 7) < 99) ∨ (¬ minC tC f S h pl < 1000000 ∧ ¬ (if S = 0 then f u h else minM tM f S h 7) < 99) := by
  have nbl := nb_le S
  -- the component's numbers are small
  have small : ∀ p, p < 7 → tC S p < 1000000 → tC S p ≤ 42 := by
    intro p hp hlt
    obtain ⟨k, w⟩ := hC.2.1 S p hS hp hlt
    have key : ∀ k s p c, wG (stC u S) (fCap f) S k s p c → c < 1000000 → c ≤ 6 * nb s := by
      intro k
      induction k with
      | zero => intro s p c hw _; rw [hw.2.2]; exact Nat.zero_le _
      | succ k ih =>
        intro s2 q2 c2 hw hlt
        obtain ⟨s, p, c, hw, hq, h1, h2, e1, e2⟩ := hw
        obtain ⟨i1, i2, i3⟩ := wG_in (stC_in hu hS) k s p c hw
        have ih := ih s p c hw (by omega)
        have a3 : nb (s + 2 ^ q2) = nb s + 1 := (k_add ⟨s, i1⟩ ⟨q2, hq⟩ h2).2.2
        have : fCap f p q2 ≤ 6 := by
          unfold fCap at e2 ⊢
          by_cases c9 : f p q2 < 99
          · rw [if_pos c9]; exact hfin p q2 i2 hq c9
          · rw [if_neg c9] at e2; omega
        rw [e1, e2, a3]
        omega
    have := key k S p _ w hlt
    omega
  -- what the component finds the model finds
  have up : minC tC f S h pl < 1000000 → (if S = 0 then f u h else minM tM f S h 7) ≤ minC tC f S h pl ∧ minC tC f S h pl ≤ 48 := by
    intro hlt
    rcases minC_at (t := tC) (f := f) (S := S) (h := h) pl with e | ⟨p, hp, hf, e⟩
    · omega
    · have hfp : f p h < 99 ∧ fCap f p h = f p h := by
        unfold fCap at e ⊢
        by_cases c9 : f p h < 99
        · rw [if_pos c9]; exact ⟨c9, rfl⟩
        · rw [if_neg c9] at e; omega
      have f6 := hfin p h (by omega) hh hfp.1
      have s42 := small p (by omega) hf
      refine ⟨?_, by omega⟩
      obtain ⟨k, w⟩ := hC.2.1 S p hS (by omega) hf
      by_cases cS : S = 0
      · rw [if_pos cS]
        have : p = u ∧ tC S p = 0 := by
          cases k with
          | zero => exact ⟨w.2.1, w.2.2⟩
          | succ k =>
            obtain ⟨s1, p1, c1, hw1, hq1, a1, a2, a3, a4⟩ := w
            rw [cS] at a1
            exact absurd a1 (k_zero ⟨p, by omega⟩)
        rw [e, this.2, hfp.2, this.1]; omega
      · rw [if_neg cS]
        obtain ⟨k', w'⟩ := wCM h0 hu hS k S p _ w hf (Or.inr cS)
        have l := wG_le hM (stM_in hS) k' S p _ w' (by omega)
        have := minM_le (t := tM) (f := f) (S := S) (h := h) (p := p) 7 (by omega)
        omega
  -- what the model finds the component finds
  have dn : (if S = 0 then f u h else minM tM f S h 7) < 99 → minC tC f S h pl ≤ (if S = 0 then f u h else minM tM f S h 7) := by
    intro hlt
    have fin : ∀ k s p c, wG (stC u S) f S k s p c → c < 99 → wG (stC u S) (fCap f) S k s p c := by
      intro k
      induction k with
      | zero => intro s p c hw _; exact hw
      | succ k ih =>
        intro s2 q2 c2 hw hlt
        obtain ⟨s, p, c, hw, hq, h1, h2, e1, e2⟩ := hw
        refine ⟨s, p, c, ih s p c hw (by omega), hq, h1, h2, e1, ?_⟩
        unfold fCap
        rw [if_pos (by omega)]; exact e2
    by_cases cS : S = 0
    · rw [if_pos cS] at hlt ⊢
      have b := hC.2.2.1 0 u 0 ⟨by rw [if_neg (by rw [cS]; exact k_zero ⟨u, hu⟩)], rfl, rfl⟩
      have b0 : tC S u = 0 := by rw [cS]; omega
      have := minC_le (t := tC) (f := f) (S := S) (h := h) (p := u) (by omega) pl hup
      unfold fCap at this
      rw [if_pos hlt, b0] at this
      omega
    · rw [if_neg cS] at hlt ⊢
      rcases minM_at (t := tM) (f := f) (S := S) (h := h) 7 with e | ⟨p, hp, e⟩
      · omega
      · obtain ⟨k, w⟩ := hM.2.1 S p hS hp (by omega)
        obtain ⟨k', s', p', c', w', l', m'⟩ := wMC h0 htri hu hS k S p _ w
        obtain ⟨j1, j2, j3⟩ := wG_in (stC_in hu hS) k' s' p' c' w'
        have es : s' = S := mask_ext j1 hS (fun q hq => by
          rw [m' q hq]
          exact ⟨fun e => e.elim id (fun e => by rw [e.1]; exact e.2), Or.inl⟩)
        subst es
        have tr := htri p' h p j2 hh hp
        have w2 := fin k' s' p' c' w' (by omega)
        have l2 := wG_le hC (stC_in hu hS) k' s' p' c' w2 (by omega)
        have p'l : p' < pl := by
          cases k' with
          | zero => rw [w'.2.1]; exact hup
          | succ k' =>
            obtain ⟨s1, p1, c1, hw1, hq1, a1, a2, a3, a4⟩ := w'
            exact hSp p' hq1 a1
        have := minC_le (t := tC) (f := f) (S := s') (h := h) (p := p') (by omega) pl p'l
        unfold fCap at this
        rw [if_pos (by omega)] at this
        omega
  by_cases c : minC tC f S h pl < 1000000
  · obtain ⟨u1, u2⟩ := up c
    have := dn (by omega)
    exact Or.inl ⟨c, by omega, by omega⟩
  · refine Or.inr ⟨c, fun hlt => ?_⟩
    have := dn hlt
    omega
end R2
