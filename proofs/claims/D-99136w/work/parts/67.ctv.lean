set_option maxRecDepth 100000
set_option linter.all false
section C
variable {n : Nat} {K : Nat → pKd} {A0 A : pA} {G : pG} {tx o : Nat} {T : Tx} {B : Nat} {R : Rw}
theorem bits4_upd {j : Nat} {v : Int32} (h : j < 27 ∨ 31 ≤ j) : bits4 (wup R j v) = bits4 R := by
  unfold bits4
  rw [wup_ne (by omega), wup_ne (by omega), wup_ne (by omega), wup_ne (by omega)]
theorem wup_same {R : Rw} {j : Nat} : wup R j (R j) = R := by
  funext k
  unfold wup
  by_cases c : k = j
  · rw [if_pos c, c]
  · rw [if_neg c]
theorem TV.dogU (h : TV o A R) {j : Nat} {v : Int32} (hj : j < 5) : TV o (pup A (o + 1) j v) (wup R (j) v) :=
  ⟨(fun x hx => by
    rw [pup_row]; unfold wup
    by_cases c : x = j
    · subst c; rw [if_pos rfl, if_pos rfl]
    · rw [if_neg c, if_neg (by omega)]; exact h.dog x hx),
   (fun x hx => by rw [pup_ne (by omega), wup_ne (by omega)]; exact h.tak x hx),
   (fun x hx => by rw [pup_ne (by omega), wup_ne (by omega)]; exact h.too x hx),
   (fun x hx => by rw [pup_ne (by omega), wup_ne (by omega)]; exact h.at_ x hx),
   (fun x hx => by rw [pup_ne (by omega), wup_ne (by omega)]; exact h.goal x hx),
   (fun x hx => by rw [pup_ne (by omega), wup_ne (by omega)]; exact h.pok x hx),
   (fun x hx => by rw [pup_ne (by omega), wup_ne (by omega)]; exact h.oft x hx),
   (fun d a hd ha => by rw [pup_ne (by omega), wup_ne (by omega)]; exact h.fed d a hd ha),
   (fun d a hd ha => by rw [pup_ne (by omega), wup_ne (by omega)]; exact h.kik d a hd ha),
   (by rw [pup_ne (by omega), bits4_upd (by omega)]; exact h.fet),
   (by rw [pup_ne (by omega), wup_ne (by omega)]; exact h.don),
   (by rw [pup_ne (by omega), wup_ne (by omega)]; exact h.tim)⟩
theorem TV.takU (h : TV o A R) {j : Nat} {v : Int32} (hj : j < 5) : TV o (pup A (o + 2) j v) (wup R (5 + j) v) :=
  ⟨(fun x hx => by rw [pup_ne (by omega), wup_ne (by omega)]; exact h.dog x hx),
   (fun x hx => by
    rw [pup_row]; unfold wup
    by_cases c : x = j
    · subst c; rw [if_pos rfl, if_pos rfl]
    · rw [if_neg c, if_neg (by omega)]; exact h.tak x hx),
   (fun x hx => by rw [pup_ne (by omega), wup_ne (by omega)]; exact h.too x hx),
   (fun x hx => by rw [pup_ne (by omega), wup_ne (by omega)]; exact h.at_ x hx),
   (fun x hx => by rw [pup_ne (by omega), wup_ne (by omega)]; exact h.goal x hx),
   (fun x hx => by rw [pup_ne (by omega), wup_ne (by omega)]; exact h.pok x hx),
   (fun x hx => by rw [pup_ne (by omega), wup_ne (by omega)]; exact h.oft x hx),
   (fun d a hd ha => by rw [pup_ne (by omega), wup_ne (by omega)]; exact h.fed d a hd ha),
   (fun d a hd ha => by rw [pup_ne (by omega), wup_ne (by omega)]; exact h.kik d a hd ha),
   (by rw [pup_ne (by omega), bits4_upd (by omega)]; exact h.fet),
   (by rw [pup_ne (by omega), wup_ne (by omega)]; exact h.don),
   (by rw [pup_ne (by omega), wup_ne (by omega)]; exact h.tim)⟩
theorem TV.tooU (h : TV o A R) {j : Nat} {v : Int32} (hj : j < 5) : TV o (pup A (o + 3) j v) (wup R (10 + j) v) :=
  ⟨(fun x hx => by rw [pup_ne (by omega), wup_ne (by omega)]; exact h.dog x hx),
   (fun x hx => by rw [pup_ne (by omega), wup_ne (by omega)]; exact h.tak x hx),
   (fun x hx => by
    rw [pup_row]; unfold wup
    by_cases c : x = j
    · subst c; rw [if_pos rfl, if_pos rfl]
    · rw [if_neg c, if_neg (by omega)]; exact h.too x hx),
   (fun x hx => by rw [pup_ne (by omega), wup_ne (by omega)]; exact h.at_ x hx),
   (fun x hx => by rw [pup_ne (by omega), wup_ne (by omega)]; exact h.goal x hx),
   (fun x hx => by rw [pup_ne (by omega), wup_ne (by omega)]; exact h.pok x hx),
   (fun x hx => by rw [pup_ne (by omega), wup_ne (by omega)]; exact h.oft x hx),
   (fun d a hd ha => by rw [pup_ne (by omega), wup_ne (by omega)]; exact h.fed d a hd ha),
   (fun d a hd ha => by rw [pup_ne (by omega), wup_ne (by omega)]; exact h.kik d a hd ha),
   (by rw [pup_ne (by omega), bits4_upd (by omega)]; exact h.fet),
   (by rw [pup_ne (by omega), wup_ne (by omega)]; exact h.don),
   (by rw [pup_ne (by omega), wup_ne (by omega)]; exact h.tim)⟩
theorem TV.at_U (h : TV o A R) {j : Nat} {v : Int32} (hj : j < 4) : TV o (pup A (o + 4) j v) (wup R (15 + j) v) :=
  ⟨(fun x hx => by rw [pup_ne (by omega), wup_ne (by omega)]; exact h.dog x hx),
   (fun x hx => by rw [pup_ne (by omega), wup_ne (by omega)]; exact h.tak x hx),
   (fun x hx => by rw [pup_ne (by omega), wup_ne (by omega)]; exact h.too x hx),
   (fun x hx => by
    rw [pup_row]; unfold wup
    by_cases c : x = j
    · subst c; rw [if_pos rfl, if_pos rfl]
    · rw [if_neg c, if_neg (by omega)]; exact h.at_ x hx),
   (fun x hx => by rw [pup_ne (by omega), wup_ne (by omega)]; exact h.goal x hx),
   (fun x hx => by rw [pup_ne (by omega), wup_ne (by omega)]; exact h.pok x hx),
   (fun x hx => by rw [pup_ne (by omega), wup_ne (by omega)]; exact h.oft x hx),
   (fun d a hd ha => by rw [pup_ne (by omega), wup_ne (by omega)]; exact h.fed d a hd ha),
   (fun d a hd ha => by rw [pup_ne (by omega), wup_ne (by omega)]; exact h.kik d a hd ha),
   (by rw [pup_ne (by omega), bits4_upd (by omega)]; exact h.fet),
   (by rw [pup_ne (by omega), wup_ne (by omega)]; exact h.don),
   (by rw [pup_ne (by omega), wup_ne (by omega)]; exact h.tim)⟩
theorem TV.goalU (h : TV o A R) {j : Nat} {v : Int32} (hj : j < 4) : TV o (pup A (o + 5) j v) (wup R (19 + j) v) :=
  ⟨(fun x hx => by rw [pup_ne (by omega), wup_ne (by omega)]; exact h.dog x hx),
   (fun x hx => by rw [pup_ne (by omega), wup_ne (by omega)]; exact h.tak x hx),
   (fun x hx => by rw [pup_ne (by omega), wup_ne (by omega)]; exact h.too x hx),
   (fun x hx => by rw [pup_ne (by omega), wup_ne (by omega)]; exact h.at_ x hx),
   (fun x hx => by
    rw [pup_row]; unfold wup
    by_cases c : x = j
    · subst c; rw [if_pos rfl, if_pos rfl]
    · rw [if_neg c, if_neg (by omega)]; exact h.goal x hx),
   (fun x hx => by rw [pup_ne (by omega), wup_ne (by omega)]; exact h.pok x hx),
   (fun x hx => by rw [pup_ne (by omega), wup_ne (by omega)]; exact h.oft x hx),
   (fun d a hd ha => by rw [pup_ne (by omega), wup_ne (by omega)]; exact h.fed d a hd ha),
   (fun d a hd ha => by rw [pup_ne (by omega), wup_ne (by omega)]; exact h.kik d a hd ha),
   (by rw [pup_ne (by omega), bits4_upd (by omega)]; exact h.fet),
   (by rw [pup_ne (by omega), wup_ne (by omega)]; exact h.don),
   (by rw [pup_ne (by omega), wup_ne (by omega)]; exact h.tim)⟩
theorem TV.pokU (h : TV o A R) {j : Nat} {v : Int32} (hj : j < 4) : TV o (pup A (o + 6) j v) (wup R (23 + j) v) :=
  ⟨(fun x hx => by rw [pup_ne (by omega), wup_ne (by omega)]; exact h.dog x hx),
   (fun x hx => by rw [pup_ne (by omega), wup_ne (by omega)]; exact h.tak x hx),
   (fun x hx => by rw [pup_ne (by omega), wup_ne (by omega)]; exact h.too x hx),
   (fun x hx => by rw [pup_ne (by omega), wup_ne (by omega)]; exact h.at_ x hx),
   (fun x hx => by rw [pup_ne (by omega), wup_ne (by omega)]; exact h.goal x hx),
   (fun x hx => by
    rw [pup_row]; unfold wup
    by_cases c : x = j
    · subst c; rw [if_pos rfl, if_pos rfl]
    · rw [if_neg c, if_neg (by omega)]; exact h.pok x hx),
   (fun x hx => by rw [pup_ne (by omega), wup_ne (by omega)]; exact h.oft x hx),
   (fun d a hd ha => by rw [pup_ne (by omega), wup_ne (by omega)]; exact h.fed d a hd ha),
   (fun d a hd ha => by rw [pup_ne (by omega), wup_ne (by omega)]; exact h.kik d a hd ha),
   (by rw [pup_ne (by omega), bits4_upd (by omega)]; exact h.fet),
   (by rw [pup_ne (by omega), wup_ne (by omega)]; exact h.don),
   (by rw [pup_ne (by omega), wup_ne (by omega)]; exact h.tim)⟩
theorem TV.oftU (h : TV o A R) {j : Nat} {v : Int32} (hj : j < 4) : TV o (pup A (o + 7) j v) (wup R (31 + j) v) :=
  ⟨(fun x hx => by rw [pup_ne (by omega), wup_ne (by omega)]; exact h.dog x hx),
   (fun x hx => by rw [pup_ne (by omega), wup_ne (by omega)]; exact h.tak x hx),
   (fun x hx => by rw [pup_ne (by omega), wup_ne (by omega)]; exact h.too x hx),
   (fun x hx => by rw [pup_ne (by omega), wup_ne (by omega)]; exact h.at_ x hx),
   (fun x hx => by rw [pup_ne (by omega), wup_ne (by omega)]; exact h.goal x hx),
   (fun x hx => by rw [pup_ne (by omega), wup_ne (by omega)]; exact h.pok x hx),
   (fun x hx => by
    rw [pup_row]; unfold wup
    by_cases c : x = j
    · subst c; rw [if_pos rfl, if_pos rfl]
    · rw [if_neg c, if_neg (by omega)]; exact h.oft x hx),
   (fun d a hd ha => by rw [pup_ne (by omega), wup_ne (by omega)]; exact h.fed d a hd ha),
   (fun d a hd ha => by rw [pup_ne (by omega), wup_ne (by omega)]; exact h.kik d a hd ha),
   (by rw [pup_ne (by omega), bits4_upd (by omega)]; exact h.fet),
   (by rw [pup_ne (by omega), wup_ne (by omega)]; exact h.don),
   (by rw [pup_ne (by omega), wup_ne (by omega)]; exact h.tim)⟩
theorem TV.fedU (h : TV o A R) {i j : Nat} {v : Int32} (hi : i < 5) (hj : j < 4) : TV o (pup A (o + 9 + i) j v) (wup R (35 + (4 * i + j)) v) :=
  ⟨(fun x hx => by rw [pup_ne (by omega), wup_ne (by omega)]; exact h.dog x hx),
   (fun x hx => by rw [pup_ne (by omega), wup_ne (by omega)]; exact h.tak x hx),
   (fun x hx => by rw [pup_ne (by omega), wup_ne (by omega)]; exact h.too x hx),
   (fun x hx => by rw [pup_ne (by omega), wup_ne (by omega)]; exact h.at_ x hx),
   (fun x hx => by rw [pup_ne (by omega), wup_ne (by omega)]; exact h.goal x hx),
   (fun x hx => by rw [pup_ne (by omega), wup_ne (by omega)]; exact h.pok x hx),
   (fun x hx => by rw [pup_ne (by omega), wup_ne (by omega)]; exact h.oft x hx),
   (fun d a hd ha => by
    by_cases c : d = i
    · subst c; rw [pup_row]; unfold wup
      by_cases c2 : a = j
      · subst c2; rw [if_pos rfl, if_pos rfl]
      · rw [if_neg c2, if_neg (by omega)]; exact h.fed d a hd ha
    · rw [pup_ne (by omega), wup_ne (by omega)]; exact h.fed d a hd ha),
   (fun d a hd ha => by rw [pup_ne (by omega), wup_ne (by omega)]; exact h.kik d a hd ha),
   (by rw [pup_ne (by omega), bits4_upd (by omega)]; exact h.fet),
   (by rw [pup_ne (by omega), wup_ne (by omega)]; exact h.don),
   (by rw [pup_ne (by omega), wup_ne (by omega)]; exact h.tim)⟩
theorem TV.kikU (h : TV o A R) {i j : Nat} {v : Int32} (hi : i < 5) (hj : j < 4) : TV o (pup A (o + 15 + i) j v) (wup R (55 + (4 * i + j)) v) :=
  ⟨(fun x hx => by rw [pup_ne (by omega), wup_ne (by omega)]; exact h.dog x hx),
   (fun x hx => by rw [pup_ne (by omega), wup_ne (by omega)]; exact h.tak x hx),
   (fun x hx => by rw [pup_ne (by omega), wup_ne (by omega)]; exact h.too x hx),
   (fun x hx => by rw [pup_ne (by omega), wup_ne (by omega)]; exact h.at_ x hx),
   (fun x hx => by rw [pup_ne (by omega), wup_ne (by omega)]; exact h.goal x hx),
   (fun x hx => by rw [pup_ne (by omega), wup_ne (by omega)]; exact h.pok x hx),
   (fun x hx => by rw [pup_ne (by omega), wup_ne (by omega)]; exact h.oft x hx),
   (fun d a hd ha => by rw [pup_ne (by omega), wup_ne (by omega)]; exact h.fed d a hd ha),
   (fun d a hd ha => by
    by_cases c : d = i
    · subst c; rw [pup_row]; unfold wup
      by_cases c2 : a = j
      · subst c2; rw [if_pos rfl, if_pos rfl]
      · rw [if_neg c2, if_neg (by omega)]; exact h.kik d a hd ha
    · rw [pup_ne (by omega), wup_ne (by omega)]; exact h.kik d a hd ha),
   (by rw [pup_ne (by omega), bits4_upd (by omega)]; exact h.fet),
   (by rw [pup_ne (by omega), wup_ne (by omega)]; exact h.don),
   (by rw [pup_ne (by omega), wup_ne (by omega)]; exact h.tim)⟩
theorem TV.donU (h : TV o A R) {v : Int32} : TV o (pup A o 10 v) (wup R 75 v) :=
  ⟨(fun x hx => by rw [pup_ne (by omega), wup_ne (by omega)]; exact h.dog x hx),
   (fun x hx => by rw [pup_ne (by omega), wup_ne (by omega)]; exact h.tak x hx),
   (fun x hx => by rw [pup_ne (by omega), wup_ne (by omega)]; exact h.too x hx),
   (fun x hx => by rw [pup_ne (by omega), wup_ne (by omega)]; exact h.at_ x hx),
   (fun x hx => by rw [pup_ne (by omega), wup_ne (by omega)]; exact h.goal x hx),
   (fun x hx => by rw [pup_ne (by omega), wup_ne (by omega)]; exact h.pok x hx),
   (fun x hx => by rw [pup_ne (by omega), wup_ne (by omega)]; exact h.oft x hx),
   (fun d a hd ha => by rw [pup_ne (by omega), wup_ne (by omega)]; exact h.fed d a hd ha),
   (fun d a hd ha => by rw [pup_ne (by omega), wup_ne (by omega)]; exact h.kik d a hd ha),
   (by rw [pup_row, wup_ne (by decide), bits4_upd (by omega)]; exact h.fet),
   (by rw [pup_row, wup_self, wup_self]),
   (by rw [pup_row, wup_ne (by decide), wup_ne (by omega)]; exact h.tim)⟩
theorem TV.timU (h : TV o A R) {v : Int32} : TV o (pup A o 11 v) (wup R 76 v) :=
  ⟨(fun x hx => by rw [pup_ne (by omega), wup_ne (by omega)]; exact h.dog x hx),
   (fun x hx => by rw [pup_ne (by omega), wup_ne (by omega)]; exact h.tak x hx),
   (fun x hx => by rw [pup_ne (by omega), wup_ne (by omega)]; exact h.too x hx),
   (fun x hx => by rw [pup_ne (by omega), wup_ne (by omega)]; exact h.at_ x hx),
   (fun x hx => by rw [pup_ne (by omega), wup_ne (by omega)]; exact h.goal x hx),
   (fun x hx => by rw [pup_ne (by omega), wup_ne (by omega)]; exact h.pok x hx),
   (fun x hx => by rw [pup_ne (by omega), wup_ne (by omega)]; exact h.oft x hx),
   (fun d a hd ha => by rw [pup_ne (by omega), wup_ne (by omega)]; exact h.fed d a hd ha),
   (fun d a hd ha => by rw [pup_ne (by omega), wup_ne (by omega)]; exact h.kik d a hd ha),
   (by rw [pup_row, wup_ne (by decide), bits4_upd (by omega)]; exact h.fet),
   (by rw [pup_row, wup_ne (by decide), wup_ne (by omega)]; exact h.don),
   (by rw [pup_row, wup_self, wup_self])⟩
theorem TV.ask (h : TV o A R) {j : Nat} {v : Int32} : TV o (pup A (o + 22) j v) R :=
  ⟨(fun x hx => by rw [pup_ne (by omega)]; exact h.dog x hx),
   (fun x hx => by rw [pup_ne (by omega)]; exact h.tak x hx),
   (fun x hx => by rw [pup_ne (by omega)]; exact h.too x hx),
   (fun x hx => by rw [pup_ne (by omega)]; exact h.at_ x hx),
   (fun x hx => by rw [pup_ne (by omega)]; exact h.goal x hx),
   (fun x hx => by rw [pup_ne (by omega)]; exact h.pok x hx),
   (fun x hx => by rw [pup_ne (by omega)]; exact h.oft x hx),
   (fun d a hd ha => by rw [pup_ne (by omega)]; exact h.fed d a hd ha),
   (fun d a hd ha => by rw [pup_ne (by omega)]; exact h.kik d a hd ha),
   (by rw [pup_ne (by omega)]; exact h.fet),
   (by rw [pup_ne (by omega)]; exact h.don),
   (by rw [pup_ne (by omega)]; exact h.tim)⟩
theorem TV.nou (h : TV o A R) {j : Nat} {v : Int32} : TV o (pup A (o + 21) j v) R :=
  ⟨(fun x hx => by rw [pup_ne (by omega)]; exact h.dog x hx),
   (fun x hx => by rw [pup_ne (by omega)]; exact h.tak x hx),
   (fun x hx => by rw [pup_ne (by omega)]; exact h.too x hx),
   (fun x hx => by rw [pup_ne (by omega)]; exact h.at_ x hx),
   (fun x hx => by rw [pup_ne (by omega)]; exact h.goal x hx),
   (fun x hx => by rw [pup_ne (by omega)]; exact h.pok x hx),
   (fun x hx => by rw [pup_ne (by omega)]; exact h.oft x hx),
   (fun d a hd ha => by rw [pup_ne (by omega)]; exact h.fed d a hd ha),
   (fun d a hd ha => by rw [pup_ne (by omega)]; exact h.kik d a hd ha),
   (by rw [pup_ne (by omega)]; exact h.fet),
   (by rw [pup_ne (by omega)]; exact h.don),
   (by rw [pup_ne (by omega)]; exact h.tim)⟩
theorem TV.fadi (h : TV o A R) {j : Nat} {v : Int32} : TV o (pup A (o + 20) j v) R :=
  ⟨(fun x hx => by rw [pup_ne (by omega)]; exact h.dog x hx),
   (fun x hx => by rw [pup_ne (by omega)]; exact h.tak x hx),
   (fun x hx => by rw [pup_ne (by omega)]; exact h.too x hx),
   (fun x hx => by rw [pup_ne (by omega)]; exact h.at_ x hx),
   (fun x hx => by rw [pup_ne (by omega)]; exact h.goal x hx),
   (fun x hx => by rw [pup_ne (by omega)]; exact h.pok x hx),
   (fun x hx => by rw [pup_ne (by omega)]; exact h.oft x hx),
   (fun d a hd ha => by rw [pup_ne (by omega)]; exact h.fed d a hd ha),
   (fun d a hd ha => by rw [pup_ne (by omega)]; exact h.kik d a hd ha),
   (by rw [pup_ne (by omega)]; exact h.fet),
   (by rw [pup_ne (by omega)]; exact h.don),
   (by rw [pup_ne (by omega)]; exact h.tim)⟩
theorem bits4_set (h : ∀ a, a < 4 → R (27 + a) = 0 ∨ R (27 + a) = 1) {a : Nat} (ha : a < 4) : bits4 R ||| ((1 : Int32) <<< Int32.ofNat a) = bits4 (wup R (27 + a) 1) := by
  have h0 := h 0 (by omega); have h1 := h 1 (by omega); have h2 := h 2 (by omega); have h3 := h 3 (by omega)
  simp only [Nat.reduceAdd] at h0 h1 h2 h3
  unfold bits4 wup
  rcases (show a = 0 ∨ a = 1 ∨ a = 2 ∨ a = 3 by omega) with rfl | rfl | rfl | rfl <;>
  rcases h0 with h0 | h0 <;> rcases h1 with h1 | h1 <;> rcases h2 with h2 | h2 <;> rcases h3 with h3 | h3 <;>
  simp only [h0, h1, h2, h3, Nat.reduceAdd, Nat.reduceEqDiff, if_true, if_false, reduceIte] <;> decide
theorem bits4_get (h : ∀ a, a < 4 → R (27 + a) = 0 ∨ R (27 + a) = 1) {a : Nat} (ha : a < 4) : (bits4 R >>> Int32.ofNat a) &&& 1 = R (27 + a) := by
  have h0 := h 0 (by omega); have h1 := h 1 (by omega); have h2 := h 2 (by omega); have h3 := h 3 (by omega)
  simp only [Nat.reduceAdd] at h0 h1 h2 h3
  unfold bits4
  rcases (show a = 0 ∨ a = 1 ∨ a = 2 ∨ a = 3 by omega) with rfl | rfl | rfl | rfl <;>
  rcases h0 with h0 | h0 <;> rcases h1 with h1 | h1 <;> rcases h2 with h2 | h2 <;> rcases h3 with h3 | h3 <;>
  simp only [h0, h1, h2, h3, Nat.reduceAdd] <;> decide
theorem TV.fetU (h : TV o A R) {v : Int32} {R' : Rw} (hv : v = bits4 R') (hR : ∀ k, k < 77 → (k < 27 ∨ 31 ≤ k) → R' k = R k) : TV o (pup A o 9 v) R' :=
  ⟨(fun x hx => by rw [pup_ne (by omega), hR _ (by omega) (by omega)]; exact h.dog x hx),
   (fun x hx => by rw [pup_ne (by omega), hR _ (by omega) (by omega)]; exact h.tak x hx),
   (fun x hx => by rw [pup_ne (by omega), hR _ (by omega) (by omega)]; exact h.too x hx),
   (fun x hx => by rw [pup_ne (by omega), hR _ (by omega) (by omega)]; exact h.at_ x hx),
   (fun x hx => by rw [pup_ne (by omega), hR _ (by omega) (by omega)]; exact h.goal x hx),
   (fun x hx => by rw [pup_ne (by omega), hR _ (by omega) (by omega)]; exact h.pok x hx),
   (fun x hx => by rw [pup_ne (by omega), hR _ (by omega) (by omega)]; exact h.oft x hx),
   (fun d a hd ha => by rw [pup_ne (by omega), hR _ (by omega) (by omega)]; exact h.fed d a hd ha),
   (fun d a hd ha => by rw [pup_ne (by omega), hR _ (by omega) (by omega)]; exact h.kik d a hd ha),
   (by rw [pup_row, wup_self]; exact hv),
   (by rw [pup_row, wup_ne (by decide), hR _ (by omega) (by omega)]; exact h.don),
   (by rw [pup_row, wup_ne (by decide), hR _ (by omega) (by omega)]; exact h.tim)⟩
/-- one cell of the town is changed -/
theorem CS.step (h : CS A0 A o R) {A' : pA} {i j : Nat} {v : Int32} {R' : Rw} (e : A' = pup A (o + i) j v) (hi : i < 23) (ht : TV o (pup A (o + i) j v) R') : CS A0 A' o R' := by
  rw [e]
  refine ⟨fun c hc => ?_, ht⟩
  rw [pup_ne (by omega)]
  exact h.fr c hc
theorem CS.step0 (h : CS A0 A o R) {A' : pA} {j : Nat} {v : Int32} {R' : Rw} (e : A' = pup A o j v) (ht : TV o (pup A o j v) R') : CS A0 A' o R' := h.step (i := 0) e (by omega) ht
theorem CS.stepD (h : CS A0 A o R) {A' : pA} {i d j : Nat} {v : Int32} {R' : Rw} (e : A' = pup A (o + i + d) j v) (hi : i + d < 23) (ht : TV o (pup A (o + i + d) j v) R') : CS A0 A' o R' := by
  rw [Nat.add_assoc] at e ht
  exact h.step e hi ht
theorem c_get {c i r m : Nat} {Q : Nat → Prop} (hg : cGet n K G c i r) (hm : A c 2 = Int32.ofNat m) (hi : i < m) (hm2 : m ≤ 100) (hQ : Q r) : fJ5_get c n K A G (Int32.ofNat i) Q := by
  obtain ⟨e, z, g1, g2, g3, g4, g5, g6, g7, g8⟩ := hg
  unfold fJ5_get fJ6_checkIndex fJ7_checkIndex
  rw [hm, if_neg (by rw [n_ltR (by omega) (by simp)]; omega), if_pos (by rw [n_lt (by omega) (by omega)]; omega)]
  refine ⟨e, g1, g2, z, g3, n_in g4 (by omega), r, by rw [n_nat (by omega)]; exact g6, hQ⟩
end C
