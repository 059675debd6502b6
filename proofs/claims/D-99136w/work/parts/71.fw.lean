set_option maxRecDepth 100000
set_option linter.all false
/-! ===== the table of ways ===== -/
def fwI (I : Nat) (adj : Nat → Nat → Prop) [DecidableRel adj] : Nat → Nat → Nat := fun p q => if p = q then 0 else if adj p q then 1 else I
def fwS (d : Nat → Nat → Nat) (m : Nat) : Nat → Nat → Nat := fun p q => min (d p q) (d p m + d m q)
def fwD (I : Nat) (adj : Nat → Nat → Prop) [DecidableRel adj] (m : Nat) : Nat → Nat → Nat := iter (fun m d => fwS d m) m (fwI I adj)
def wk (adj : Nat → Nat → Prop) : Nat → Nat → Nat → Prop
  | 0, p, q => p = q
  | k + 1, p, q => ∃ r, r < 7 ∧ adj p r ∧ wk adj k r q
section F
variable {I : Nat} {adj : Nat → Nat → Prop}
theorem wk_app : ∀ (a b p m q : Nat), wk adj a p m → wk adj b m q → wk adj (a + b) p q
  | 0, b, p, m, q, h1, h2 => by
    have h1 : p = m := h1
    subst h1; rw [Nat.zero_add]; exact h2
  | a + 1, b, p, m, q, h1, h2 => by
    obtain ⟨r, hr, ha, h3⟩ := h1
    rw [show a + 1 + b = (a + b) + 1 by omega]
    exact ⟨r, hr, ha, wk_app a b r m q h3 h2⟩
theorem fwD_le [DecidableRel adj] (hI : 1 ≤ I) : ∀ m p q, fwD I adj m p q ≤ I
  | 0, p, q => by
    show fwI I adj p q ≤ I
    unfold fwI
    split
    · omega
    · split
      · exact hI
      · exact Nat.le_refl _
  | m + 1, p, q => Nat.le_trans (Nat.min_le_left _ _) (fwD_le hI m p q)
theorem fwD_zero [DecidableRel adj] : ∀ m p, fwD I adj m p p = 0
  | 0, p => if_pos rfl
  | m + 1, p => by
    have := fwD_zero m p
    have h : fwD I adj (m + 1) p p ≤ fwD I adj m p p := Nat.min_le_left _ _
    omega
theorem fwD_one [DecidableRel adj] : ∀ m p q, adj p q → fwD I adj m p q ≤ 1
  | 0, p, q, h => by
    show fwI I adj p q ≤ 1
    unfold fwI
    rw [if_pos h]
    split <;> omega
  | m + 1, p, q, h => Nat.le_trans (Nat.min_le_left _ _) (fwD_one m p q h)
theorem fwD_tri [DecidableRel adj] : ∀ m k, k < m → ∀ p q, fwD I adj m p q ≤ fwD I adj m p k + fwD I adj m k q
  | 0, k, h, _, _ => absurd h (Nat.not_lt_zero k)
  | m + 1, k, h, p, q => by
    have e : ∀ p q, fwD I adj (m + 1) p q = min (fwD I adj m p q) (fwD I adj m p m + fwD I adj m m q) := fun _ _ => rfl
    rw [e, e, e]
    by_cases c : k = m
    · subst c
      have := fwD_zero (I := I) (adj := adj) k k
      omega
    · have ih := fwD_tri m k (by omega)
      have t1 := ih p q
      have t2 := ih m q
      have t3 := ih p m
      have t4 := ih m m
      omega
theorem fwD_snd [DecidableRel adj] (hI : 1 ≤ I) : ∀ m, m ≤ 7 → ∀ p q, p < 7 → q < 7 → fwD I adj m p q < I → wk adj (fwD I adj m p q) p q
  | 0, _, p, q, hp, hq, h => by
    have e : fwD I adj 0 p q = fwI I adj p q := rfl
    rw [e] at h ⊢
    unfold fwI at h ⊢
    by_cases c : p = q
    · rw [if_pos c] at h ⊢; exact c
    · rw [if_neg c] at h ⊢
      by_cases c2 : adj p q
      · rw [if_pos c2] at h ⊢; exact ⟨q, hq, c2, rfl⟩
      · rw [if_neg c2] at h; omega
  | m + 1, hm, p, q, hp, hq, h => by
    have e : fwD I adj (m + 1) p q = min (fwD I adj m p q) (fwD I adj m p m + fwD I adj m m q) := rfl
    rw [e] at h ⊢
    by_cases c : fwD I adj m p q ≤ fwD I adj m p m + fwD I adj m m q
    · rw [Nat.min_eq_left c] at h ⊢
      exact fwD_snd hI m (by omega) p q hp hq h
    · rw [Nat.min_eq_right (by omega)] at h ⊢
      exact wk_app _ _ p m q (fwD_snd hI m (by omega) p m hp (by omega) (by omega)) (fwD_snd hI m (by omega) m q (by omega) hq (by omega))
/-- what is known of a table of ways -/
def isFw (I : Nat) (adj : Nat → Nat → Prop) (D : Nat → Nat → Nat) : Prop := (∀ p q, D p q ≤ I) ∧ (∀ p, D p p = 0) ∧ (∀ p q, adj p q → D p q ≤ 1) ∧ (∀ k, k < 7 → ∀ p q, D p q ≤ D p k + D k q) ∧ (∀ p q, p < 7 → q < 7 → D p q < I → wk adj (D p q) p q)
theorem isFw_of [DecidableRel adj] (hI : 1 ≤ I) : isFw I adj (fwD I adj 7) := ⟨fwD_le hI 7, fwD_zero 7, fwD_one 7, fwD_tri 7, fwD_snd hI 7 (Nat.le_refl 7)⟩
theorem wk_le {D : Nat → Nat → Nat} (h : isFw I adj D) : ∀ k p q, wk adj k p q → D p q ≤ k
  | 0, p, q, w => by
    have w : p = q := w
    subst w
    rw [h.2.1]; exact Nat.le_refl _
  | k + 1, p, q, w => by
    obtain ⟨r, hr, ha, h2⟩ := w
    have t := h.2.2.2.1 r hr p q
    have o := h.2.2.1 p r ha
    have i := wk_le h k r q h2
    omega
theorem fw_step {D : Nat → Nat → Nat} (hD : isFw I adj D) {p q : Nat} (hp : p < 7) (hq : q < 7) (hne : p ≠ q) (h : D p q < I) : ∃ r, r < 7 ∧ adj p r ∧ D r q < D p q := by
  have w := hD.2.2.2.2 p q hp hq h
  generalize e : D p q = k at *
  cases k with
  | zero => exact absurd w hne
  | succ k =>
    obtain ⟨r, hr, ha, w⟩ := w
    have := wk_le hD k r q w
    exact ⟨r, hr, ha, by omega⟩
theorem n_pigeon : ∀ (n : Nat) (l : List Nat), (∀ v, v < n → v ∈ l) → n ≤ l.length
  | 0, _, _ => Nat.zero_le _
  | n + 1, l, h => by
    have h1 := h n (by omega)
    have := n_pigeon n (l.erase n) (fun v hv => (List.mem_erase_of_ne (by omega)).mpr (h v (by omega)))
    rw [List.length_erase_of_mem h1] at this
    have : 0 < l.length := List.length_pos_of_mem h1
    omega
theorem fw_fin {D : Nat → Nat → Nat} (hD : isFw I adj D) {p q : Nat} (hp : p < 7) (hq : q < 7) (h : D p q < I) : D p q ≤ 6 := by
  have key : ∀ j, j ≤ D p q → ∃ r, r < 7 ∧ D r q = D p q - j := by
    intro j
    induction j with
    | zero => intro _; exact ⟨p, hp, rfl⟩
    | succ j ih =>
      intro hj
      obtain ⟨r, hr, e⟩ := ih (by omega)
      have hne : r ≠ q := by
        intro hh; subst hh
        rw [hD.2.1] at e; omega
      obtain ⟨s, hs, ha, hl⟩ := fw_step hD hr hq hne (by omega)
      have t := hD.2.2.2.1 s hs r q
      have o := hD.2.2.1 r s ha
      exact ⟨s, hs, by omega⟩
  have := n_pigeon (D p q + 1) ((List.range 7).map (fun r => D r q)) (fun v hv => by
    obtain ⟨r, hr, e⟩ := key (D p q - v) (by omega)
    exact List.mem_map.mpr ⟨r, List.mem_range.mpr hr, by show D r q = v; omega⟩)
  rw [List.length_map, List.length_range] at this
  omega
theorem fw_two {D E : Nat → Nat → Nat} (hD : isFw 99 adj D) (hE : isFw 1000000 adj E) {p q : Nat} (hp : p < 7) (hq : q < 7) : farC (D p q) = Int32.ofNat (E p q) := by
  have b := hD.1 p q
  have b2 := hE.1 p q
  unfold farC
  by_cases c : D p q < 99
  · rw [if_pos c]
    have w := hD.2.2.2.2 p q hp hq c
    have l1 := wk_le hE _ p q w
    have w2 := hE.2.2.2.2 p q hp hq (by omega)
    have l2 := wk_le hD _ p q w2
    congr 1
    omega
  · rw [if_neg c]
    by_cases c2 : E p q < 1000000
    · have f := fw_fin hE hp hq c2
      have w2 := hE.2.2.2.2 p q hp hq (by omega)
      have l2 := wk_le hD _ p q w2
      omega
    · rw [show E p q = 1000000 by omega]
      rfl
theorem VF.of {T : Tx} (hT : VT T) (hN : ∀ p q, p < 7 → q < 7 → nxt T p q → p < T.pl ∧ q < T.pl) {D : Nat → Nat → Nat} (hD : isFw 99 (nxt T) D) (hf : ∀ p q, p < 7 → q < 7 → T.far p q = D p q) : VF T := by
  have h7 := hT.pl
  refine ⟨fun p hp => by rw [hf p p hp hp]; exact hD.2.1 p, fun p q r hp hq hr => by rw [hf p q hp hq, hf p r hp hr, hf r q hr hq]; exact hD.2.2.2.1 r hr p q, fun p q hp hq h => by rw [hf p q (by omega) (by omega)]; exact hD.2.2.1 p q h, fun p q hp hq hne h => ?_, fun p q hp hq h => by rw [hf p q hp hq] at h ⊢; exact fw_fin hD hp hq h⟩
  rw [hf p q (by omega) (by omega)] at h ⊢
  obtain ⟨r, hr, ha, hl⟩ := fw_step hD (by omega) (by omega) hne h
  exact ⟨r, (hN p r (by omega) hr ha).2, ha, by rw [hf r q hr (by omega)]; exact hl⟩
end F
