set_option maxRecDepth 100000
set_option linter.all false
theorem n_iteM {c : Prop} [Decidable c] {a b a' b' : Prop} (h1 : a → a') (h2 : b → b') : (if c then a else b) → (if c then a' else b') := by
  by_cases h : c
  · rw [if_pos h, if_pos h]; exact h1
  · rw [if_neg h, if_neg h]; exact h2
theorem mo_fJ16_bitCount {A : pA} {p0 : Int32} {Q Q' : Int32 → Prop} (hQ : ∀ b0, Q b0 → Q' b0) : fJ16_bitCount A p0 Q → fJ16_bitCount A p0 Q' := by
  unfold fJ16_bitCount
  exact (hQ _)
theorem mo_fJ16_numberOfTrailingZeros_J74 {A : pA} {l0 : Int32} {l1 : Int32} {Q Q' : Int32 → Prop} (hQ : ∀ b0, Q b0 → Q' b0) : fJ16_numberOfTrailingZeros_J74 A Q l0 l1 → fJ16_numberOfTrailingZeros_J74 A Q' l0 l1 := by
  unfold fJ16_numberOfTrailingZeros_J74
  exact (hQ _)
theorem mo_fJ16_numberOfTrailingZeros_J62 {A : pA} {l0 : Int32} {l1 : Int32} {Q Q' : Int32 → Prop} (hQ : ∀ b0, Q b0 → Q' b0) : fJ16_numberOfTrailingZeros_J62 A Q l0 l1 → fJ16_numberOfTrailingZeros_J62 A Q' l0 l1 := by
  unfold fJ16_numberOfTrailingZeros_J62
  exact (n_iteM (mo_fJ16_numberOfTrailingZeros_J74 hQ ) (mo_fJ16_numberOfTrailingZeros_J74 hQ ))
theorem mo_fJ16_numberOfTrailingZeros_J49 {A : pA} {l0 : Int32} {l1 : Int32} {Q Q' : Int32 → Prop} (hQ : ∀ b0, Q b0 → Q' b0) : fJ16_numberOfTrailingZeros_J49 A Q l0 l1 → fJ16_numberOfTrailingZeros_J49 A Q' l0 l1 := by
  unfold fJ16_numberOfTrailingZeros_J49
  exact (n_iteM (mo_fJ16_numberOfTrailingZeros_J62 hQ ) (mo_fJ16_numberOfTrailingZeros_J62 hQ ))
theorem mo_fJ16_numberOfTrailingZeros_J34 {A : pA} {l0 : Int32} {l1 : Int32} {Q Q' : Int32 → Prop} (hQ : ∀ b0, Q b0 → Q' b0) : fJ16_numberOfTrailingZeros_J34 A Q l0 l1 → fJ16_numberOfTrailingZeros_J34 A Q' l0 l1 := by
  unfold fJ16_numberOfTrailingZeros_J34
  exact (n_iteM (mo_fJ16_numberOfTrailingZeros_J49 hQ ) (mo_fJ16_numberOfTrailingZeros_J49 hQ ))
theorem mo_fJ16_numberOfTrailingZeros {A : pA} {p0 : Int32} {Q Q' : Int32 → Prop} (hQ : ∀ b0, Q b0 → Q' b0) : fJ16_numberOfTrailingZeros A p0 Q → fJ16_numberOfTrailingZeros A p0 Q' := by
  unfold fJ16_numberOfTrailingZeros
  exact (n_iteM (n_iteM (mo_fJ16_numberOfTrailingZeros_J34 hQ ) (mo_fJ16_numberOfTrailingZeros_J34 hQ )) (hQ _))
theorem mo_fJ7_checkIndex_J9 {A : pA} {l0 : Int32} {l1 : Int32} {Q Q' : Int32 → Prop} (hQ : ∀ b0, Q b0 → Q' b0) : fJ7_checkIndex_J9 A Q l0 l1 → fJ7_checkIndex_J9 A Q' l0 l1 := by
  unfold fJ7_checkIndex_J9
  exact id
theorem mo_fJ7_checkIndex {A : pA} {p0 : Int32} {p1 : Int32} {Q Q' : Int32 → Prop} (hQ : ∀ b0, Q b0 → Q' b0) : fJ7_checkIndex A p0 p1 Q → fJ7_checkIndex A p0 p1 Q' := by
  unfold fJ7_checkIndex
  exact (n_iteM (mo_fJ7_checkIndex_J9 hQ ) (n_iteM (hQ _) (mo_fJ7_checkIndex_J9 hQ )))
theorem mo_fJ6_checkIndex {A : pA} {p0 : Int32} {p1 : Int32} {Q Q' : Int32 → Prop} (hQ : ∀ b0, Q b0 → Q' b0) : fJ6_checkIndex A p0 p1 Q → fJ6_checkIndex A p0 p1 Q' := by
  unfold fJ6_checkIndex
  exact (mo_fJ7_checkIndex (fun _ => (hQ _)) )
theorem mo_fJ5_size {a0 : Nat} {A : pA} {Q Q' : Int32 → Prop} (hQ : ∀ b0, Q b0 → Q' b0) : fJ5_size a0 A Q → fJ5_size a0 A Q' := by
  unfold fJ5_size
  exact (hQ _)
theorem mo_fJ5_elementData {a0 : Nat} {n : Nat} {K : Nat → pKd} {A : pA} {G : pG} {p1 : Int32} {Q Q' : Nat → Prop} (hQ : ∀ b0, Q b0 → Q' b0) : fJ5_elementData a0 n K A G p1 Q → fJ5_elementData a0 n K A G p1 Q' := by
  unfold fJ5_elementData
  exact (Exists.imp fun _ => (And.imp_right (And.imp_right (Exists.imp fun _ => (And.imp_right (And.imp_right (Exists.imp fun _ => (And.imp_right (hQ _)))))))))
theorem mo_fJ5_get {a0 : Nat} {n : Nat} {K : Nat → pKd} {A : pA} {G : pG} {p1 : Int32} {Q Q' : Nat → Prop} (hQ : ∀ b0, Q b0 → Q' b0) : fJ5_get a0 n K A G p1 Q → fJ5_get a0 n K A G p1 Q' := by
  unfold fJ5_get
  exact (mo_fJ6_checkIndex (fun _ => (mo_fJ5_elementData (fun _ => (hQ _)) )) )
theorem mo_fX0_within {A : pA} {p0 : Int32} {p1 : Int32} {p2 : Int32} {Q Q' : Int32 → Prop} (hQ : ∀ b0, Q b0 → Q' b0) : fX0_within A p0 p1 p2 Q → fX0_within A p0 p1 p2 Q' := by
  unfold fX0_within
  exact (hQ _)
theorem mo_fX0_isIn {A : pA} {p0 : Int32} {p1 : Int32} {p2 : Int32} {Q Q' : Int32 → Prop} (hQ : ∀ b0, Q b0 → Q' b0) : fX0_isIn A p0 p1 p2 Q → fX0_isIn A p0 p1 p2 Q' := by
  unfold fX0_isIn
  exact (n_iteM (hQ _) (n_iteM (hQ _) (hQ _)))
theorem mo_fX0_isAhead {A : pA} {p0 : Int32} {Q Q' : Int32 → Prop} (hQ : ∀ b0, Q b0 → Q' b0) : fX0_isAhead A p0 Q → fX0_isAhead A p0 Q' := by
  unfold fX0_isAhead
  exact (mo_fX0_isIn (fun _ => (And.imp_right (hQ _))) )
theorem mo_fX4_areNext {a0 : Nat} {n : Nat} {K : Nat → pKd} {A : pA} {G : pG} {p1 : Int32} {p2 : Int32} {Q Q' : Int32 → Prop} (hQ : ∀ b0, Q b0 → Q' b0) : fX4_areNext a0 n K A G p1 p2 Q → fX4_areNext a0 n K A G p1 p2 Q' := by
  unfold fX4_areNext
  exact (mo_fJ5_get (fun _ => (And.imp_right (And.imp_right (n_iteM (hQ _) (hQ _))))) )
theorem mo_fX4_isHour {a0 : Nat} {A : pA} {p1 : Int32} {Q Q' : Int32 → Prop} (hQ : ∀ b0, Q b0 → Q' b0) : fX4_isHour a0 A p1 Q → fX4_isHour a0 A p1 Q' := by
  unfold fX4_isHour
  exact (n_iteM (hQ _) (n_iteM (hQ _) (hQ _)))
theorem mo_fX4_step_J50 {a0 : Nat} {n : Nat} {K : Nat → pKd} {A : pA} {G : pG} {l1 : Int32} {l2 : Int32} {l3 : Int32} {l4 : Int32} {k5 k5' : Int32 → Int32 → Int32 → Int32 → Prop} {Q Q' : Int32 → Prop} (hk5 : ∀ b0 b1 b2 b3, k5 b0 b1 b2 b3 → k5' b0 b1 b2 b3) (hQ : ∀ b0, Q b0 → Q' b0) : fX4_step_J50 a0 n K A G k5 Q l1 l2 l3 l4 → fX4_step_J50 a0 n K A G k5' Q' l1 l2 l3 l4 := by
  unfold fX4_step_J50
  exact (hk5 _ _ _ _)
theorem mo_fX4_step_L5 {a0 : Nat} {n : Nat} {K : Nat → pKd} {A : pA} {G : pG} {Q Q' : Int32 → Prop} (hQ : ∀ b0, Q b0 → Q' b0) : ∀ m w0 w1 w2 w3, fX4_step_L5 a0 n K A G Q m w0 w1 w2 w3 → fX4_step_L5 a0 n K A G Q' m w0 w1 w2 w3 := by
  intro m
  induction m with
  | zero => intro w0 w1 w2 w3 h; exact absurd h id
  | succ m ih =>
    intro w0 w1 w2 w3
    unfold fX4_step_L5
    exact (mo_fJ5_size (fun _ => (n_iteM (hQ _) (mo_fX4_areNext (fun _ => (n_iteM (mo_fX4_step_J50 (fun _ _ _ _ => (ih _ _ _ _)) hQ ) (And.imp_right (And.imp_right (And.imp_right (And.imp_right (n_iteM (mo_fX4_step_J50 (fun _ _ _ _ => (ih _ _ _ _)) hQ ) (mo_fX4_step_J50 (fun _ _ _ _ => (ih _ _ _ _)) hQ )))))))) ))) )
theorem mo_fX4_step {a0 : Nat} {n : Nat} {K : Nat → pKd} {A : pA} {G : pG} {p1 : Int32} {p2 : Int32} {Q Q' : Int32 → Prop} (hQ : ∀ b0, Q b0 → Q' b0) : fX4_step a0 n K A G p1 p2 Q → fX4_step a0 n K A G p1 p2 Q' := by
  unfold fX4_step
  exact (Exists.imp fun _ => (mo_fX4_step_L5 hQ _ _ _ _ _))
theorem mo_fX5_minute {a0 : Nat} {a1 : Nat} {A : pA} {Q Q' : Int32 → Prop} (hQ : ∀ b0, Q b0 → Q' b0) : fX5_minute a0 a1 A Q → fX5_minute a0 a1 A Q' := by
  unfold fX5_minute
  exact (hQ _)
theorem mo_fX5_isFetched {a0 : Nat} {A : pA} {p1 : Int32} {Q Q' : Int32 → Prop} (hQ : ∀ b0, Q b0 → Q' b0) : fX5_isFetched a0 A p1 Q → fX5_isFetched a0 A p1 Q' := by
  unfold fX5_isFetched
  exact (n_iteM (hQ _) (hQ _))
theorem mo_fX5_asks {a0 : Nat} {a1 : Nat} {n : Nat} {K : Nat → pKd} {A : pA} {G : pG} {p2 : Int32} {p3 : Int32} {Q Q' : pA → Prop} (hQ : ∀ b0, Q b0 → Q' b0) : fX5_asks a0 a1 n K A G p2 p3 Q → fX5_asks a0 a1 n K A G p2 p3 Q' := by
  unfold fX5_asks
  exact (And.imp_right (And.imp_right (forall_imp fun _ => (forall_imp fun _ => (And.imp_right (And.imp_right (forall_imp fun _ => (forall_imp fun _ => (And.imp_right (And.imp_right (And.imp_right (And.imp_right (forall_imp fun _ => (forall_imp fun _ => (And.imp_right (forall_imp fun _ => (forall_imp fun _ => (mo_fJ5_get (fun _ => (And.imp_right (And.imp_right (forall_imp fun _ => (forall_imp fun _ => (mo_fJ5_get (fun _ => (And.imp_right (And.imp_right (forall_imp fun _ => (forall_imp fun _ => (mo_fX5_minute (fun _ => (forall_imp fun _ => (forall_imp fun _ => (forall_imp fun _ => (forall_imp fun _ => (And.imp_right (forall_imp fun _ => (forall_imp fun _ => (hQ _))))))))) )))))) )))))) ))))))))))))))))))
theorem mo_fX5_rests_L2 {a0 : Nat} {a1 : Nat} {n : Nat} {K : Nat → pKd} {G : pG} {Q Q' : pA → Prop} (hQ : ∀ b0, Q b0 → Q' b0) : ∀ m w0 w1, fX5_rests_L2 a0 a1 n K G Q m w0 w1 → fX5_rests_L2 a0 a1 n K G Q' m w0 w1 := by
  intro m
  induction m with
  | zero => intro w0 w1 h; exact absurd h id
  | succ m ih =>
    intro w0 w1
    unfold fX5_rests_L2
    exact (mo_fJ5_size (fun _ => (n_iteM (forall_imp fun _ => (forall_imp fun _ => (hQ _))) (mo_fJ5_get (fun _ => (And.imp_right (And.imp_right (And.imp_right (forall_imp fun _ => (forall_imp fun _ => (And.imp_right (forall_imp fun _ => (forall_imp fun _ => (ih _ _)))))))))) ))) )
theorem mo_fX5_rests {a0 : Nat} {a1 : Nat} {n : Nat} {K : Nat → pKd} {A : pA} {G : pG} {Q Q' : pA → Prop} (hQ : ∀ b0, Q b0 → Q' b0) : fX5_rests a0 a1 n K A G Q → fX5_rests a0 a1 n K A G Q' := by
  unfold fX5_rests
  exact (Exists.imp fun _ => (mo_fX5_rests_L2 hQ _ _ _))
theorem mo_fX5_walks_J93 {a0 : Nat} {a1 : Nat} {n : Nat} {K : Nat → pKd} {G : pG} {l2 : Int32} {l3 : Int32} {A : pA} {k48 k48' : Int32 → Int32 → pA → Prop} {Q Q' : pA → Prop} (hk48 : ∀ b0 b1 b2, k48 b0 b1 b2 → k48' b0 b1 b2) (hQ : ∀ b0, Q b0 → Q' b0) : fX5_walks_J93 a0 a1 n K G k48 Q l2 l3 A → fX5_walks_J93 a0 a1 n K G k48' Q' l2 l3 A := by
  unfold fX5_walks_J93
  exact (hk48 _ _ _)
theorem mo_fX5_walks_L48 {a0 : Nat} {a1 : Nat} {n : Nat} {K : Nat → pKd} {G : pG} {Q Q' : pA → Prop} (hQ : ∀ b0, Q b0 → Q' b0) : ∀ m w0 w1 w2, fX5_walks_L48 a0 a1 n K G Q m w0 w1 w2 → fX5_walks_L48 a0 a1 n K G Q' m w0 w1 w2 := by
  intro m
  induction m with
  | zero => intro w0 w1 w2 h; exact absurd h id
  | succ m ih =>
    intro w0 w1 w2
    unfold fX5_walks_L48
    exact (n_iteM (hQ _) (And.imp_right (n_iteM (And.imp_right (And.imp_right (n_iteM (forall_imp fun _ => (forall_imp fun _ => (mo_fX5_walks_J93 (fun _ _ _ => (ih _ _ _)) hQ ))) (mo_fX5_walks_J93 (fun _ _ _ => (ih _ _ _)) hQ )))) (mo_fX5_walks_J93 (fun _ _ _ => (ih _ _ _)) hQ ))))
theorem mo_fX5_walks_J46 {a0 : Nat} {a1 : Nat} {n : Nat} {K : Nat → pKd} {G : pG} {l2 : Int32} {A : pA} {Q Q' : pA → Prop} (hQ : ∀ b0, Q b0 → Q' b0) : fX5_walks_J46 a0 a1 n K G Q l2 A → fX5_walks_J46 a0 a1 n K G Q' l2 A := by
  unfold fX5_walks_J46
  exact (Exists.imp fun _ => (mo_fX5_walks_L48 hQ _ _ _ _))
theorem mo_fX5_walks {a0 : Nat} {a1 : Nat} {n : Nat} {K : Nat → pKd} {A : pA} {G : pG} {p2 : Int32} {Q Q' : pA → Prop} (hQ : ∀ b0, Q b0 → Q' b0) : fX5_walks a0 a1 n K A G p2 Q → fX5_walks a0 a1 n K A G p2 Q' := by
  unfold fX5_walks
  exact (And.imp_right (n_iteM (mo_fX5_walks_J46 hQ ) (And.imp_right (And.imp_right (n_iteM (mo_fX5_walks_J46 hQ ) (And.imp_right (And.imp_right (mo_fX4_step (fun _ => (And.imp_right (forall_imp fun _ => (forall_imp fun _ => (mo_fX5_walks_J46 hQ ))))) ))))))))
theorem mo_fX0_places {tx : Nat} {A : pA} {Q Q' : Int32 → Prop} (hQ : ∀ b0, Q b0 → Q' b0) : fX0_places tx A Q → fX0_places tx A Q' := by
  unfold fX0_places
  exact (mo_fJ5_size (fun _ => (hQ _)) )
theorem mo_fX0_dogs {tx : Nat} {A : pA} {Q Q' : Int32 → Prop} (hQ : ∀ b0, Q b0 → Q' b0) : fX0_dogs tx A Q → fX0_dogs tx A Q' := by
  unfold fX0_dogs
  exact (mo_fJ5_size (fun _ => (hQ _)) )
theorem mo_fX0_people {tx : Nat} {A : pA} {Q Q' : Int32 → Prop} (hQ : ∀ b0, Q b0 → Q' b0) : fX0_people tx A Q → fX0_people tx A Q' := by
  unfold fX0_people
  exact (mo_fJ5_size (fun _ => (hQ _)) )
theorem mo_fX0_isPlace {tx : Nat} {A : pA} {p1 : Int32} {Q Q' : Int32 → Prop} (hQ : ∀ b0, Q b0 → Q' b0) : fX0_isPlace tx A p1 Q → fX0_isPlace tx A p1 Q' := by
  unfold fX0_isPlace
  exact (mo_fX0_places (fun _ => (mo_fX0_isIn (fun _ => (And.imp_right (hQ _))) )) )
theorem mo_fX0_isDog {tx : Nat} {A : pA} {p1 : Int32} {Q Q' : Int32 → Prop} (hQ : ∀ b0, Q b0 → Q' b0) : fX0_isDog tx A p1 Q → fX0_isDog tx A p1 Q' := by
  unfold fX0_isDog
  exact (mo_fX0_dogs (fun _ => (mo_fX0_isIn (fun _ => (And.imp_right (hQ _))) )) )
theorem mo_fX0_isPerson {tx : Nat} {A : pA} {p1 : Int32} {Q Q' : Int32 → Prop} (hQ : ∀ b0, Q b0 → Q' b0) : fX0_isPerson tx A p1 Q → fX0_isPerson tx A p1 Q' := by
  unfold fX0_isPerson
  exact (mo_fX0_people (fun _ => (mo_fX0_isIn (fun _ => (And.imp_right (hQ _))) )) )
theorem mo_fX0_isDone {tx : Nat} {A : pA} {p1 : Int32} {Q Q' : Int32 → Prop} (hQ : ∀ b0, Q b0 → Q' b0) : fX0_isDone tx A p1 Q → fX0_isDone tx A p1 Q' := by
  unfold fX0_isDone
  exact (n_iteM (hQ _) (hQ _))
theorem mo_fX0_typed_L3 {tx : Nat} {Q Q' : pA → Prop} (hQ : ∀ b0, Q b0 → Q' b0) : ∀ m w0 w1 w2, fX0_typed_L3 tx Q m w0 w1 w2 → fX0_typed_L3 tx Q' m w0 w1 w2 := by
  intro m
  induction m with
  | zero => intro w0 w1 w2 h; exact absurd h id
  | succ m ih =>
    intro w0 w1 w2
    unfold fX0_typed_L3
    exact (n_iteM (hQ _) (And.imp_right (forall_imp fun _ => (forall_imp fun _ => (forall_imp fun _ => (forall_imp fun _ => (ih _ _ _)))))))
theorem mo_fX0_typed {tx : Nat} {A : pA} {p1 : Int32} {Q Q' : pA → Prop} (hQ : ∀ b0, Q b0 → Q' b0) : fX0_typed tx A p1 Q → fX0_typed tx A p1 Q' := by
  unfold fX0_typed
  exact (Exists.imp fun _ => (mo_fX0_typed_L3 hQ _ _ _ _))
theorem mo_fX0_feed {tx : Nat} {A : pA} {p1 : Int32} {p2 : Int32} {p3 : Int32} {p4 : Int32} {p5 : Int32} {Q Q' : Int32 → pA → Prop} (hQ : ∀ b0 b1, Q b0 b1 → Q' b0 b1) : fX0_feed tx A p1 p2 p3 p4 p5 Q → fX0_feed tx A p1 p2 p3 p4 p5 Q' := by
  unfold fX0_feed
  exact (n_iteM (mo_fX0_typed (fun _ => (mo_fX0_typed (fun _ => (mo_fX0_typed (fun _ => (mo_fX0_typed (fun _ => (mo_fX0_typed (fun _ => (hQ _ _)) )) )) )) )) ) (hQ _ _))
theorem mo_fX0_back {tx : Nat} {A : pA} {p1 : Int32} {Q Q' : Int32 → pA → Prop} (hQ : ∀ b0 b1, Q b0 b1 → Q' b0 b1) : fX0_back tx A p1 Q → fX0_back tx A p1 Q' := by
  unfold fX0_back
  exact (n_iteM (hQ _ _) (n_iteM (forall_imp fun _ => (forall_imp fun _ => (hQ _ _))) (hQ _ _)))
theorem mo_fX0_place {tx : Nat} {A : pA} {Q Q' : Int32 → Prop} (hQ : ∀ b0, Q b0 → Q' b0) : fX0_place tx A Q → fX0_place tx A Q' := by
  unfold fX0_place
  exact (hQ _)
theorem mo_fX0_spot_J97 {tx : Nat} {n : Nat} {K : Nat → pKd} {A : pA} {G : pG} {l1 : Int32} {l4 : Int32} {s0 : Int32} {s1 : Int32} {k65 k65' : Int32 → Int32 → Int32 → Prop} {Q Q' : Int32 → Prop} (hk65 : ∀ b0 b1 b2, k65 b0 b1 b2 → k65' b0 b1 b2) (hQ : ∀ b0, Q b0 → Q' b0) : fX0_spot_J97 tx n K A G k65 Q l1 l4 s0 s1 → fX0_spot_J97 tx n K A G k65' Q' l1 l4 s0 s1 := by
  unfold fX0_spot_J97
  exact (hk65 _ _ _)
theorem mo_fX0_spot_L65 {tx : Nat} {n : Nat} {K : Nat → pKd} {A : pA} {G : pG} {Q Q' : Int32 → Prop} (hQ : ∀ b0, Q b0 → Q' b0) : ∀ m w0 w1 w2, fX0_spot_L65 tx n K A G Q m w0 w1 w2 → fX0_spot_L65 tx n K A G Q' m w0 w1 w2 := by
  intro m
  induction m with
  | zero => intro w0 w1 w2 h; exact absurd h id
  | succ m ih =>
    intro w0 w1 w2
    unfold fX0_spot_L65
    exact (mo_fX0_dogs (fun _ => (n_iteM (hQ _) (And.imp_right (n_iteM (mo_fX0_spot_J97 (fun _ _ _ => (ih _ _ _)) hQ ) (mo_fX0_spot_J97 (fun _ _ _ => (ih _ _ _)) hQ ))))) )
theorem mo_fX0_spot_J142 {tx : Nat} {n : Nat} {K : Nat → pKd} {A : pA} {G : pG} {l1 : Int32} {l4 : Int32} {s0 : Int32} {s1 : Int32} {k110 k110' : Int32 → Int32 → Int32 → Prop} {Q Q' : Int32 → Prop} (hk110 : ∀ b0 b1 b2, k110 b0 b1 b2 → k110' b0 b1 b2) (hQ : ∀ b0, Q b0 → Q' b0) : fX0_spot_J142 tx n K A G k110 Q l1 l4 s0 s1 → fX0_spot_J142 tx n K A G k110' Q' l1 l4 s0 s1 := by
  unfold fX0_spot_J142
  exact (hk110 _ _ _)
theorem mo_fX0_spot_L110 {tx : Nat} {n : Nat} {K : Nat → pKd} {A : pA} {G : pG} {Q Q' : Int32 → Prop} (hQ : ∀ b0, Q b0 → Q' b0) : ∀ m w0 w1 w2, fX0_spot_L110 tx n K A G Q m w0 w1 w2 → fX0_spot_L110 tx n K A G Q' m w0 w1 w2 := by
  intro m
  induction m with
  | zero => intro w0 w1 w2 h; exact absurd h id
  | succ m ih =>
    intro w0 w1 w2
    unfold fX0_spot_L110
    exact (mo_fX0_people (fun _ => (n_iteM (hQ _) (And.imp_right (n_iteM (mo_fX0_spot_J142 (fun _ _ _ => (ih _ _ _)) hQ ) (mo_fX0_spot_J142 (fun _ _ _ => (ih _ _ _)) hQ ))))) )
theorem mo_fX0_spot_J196 {tx : Nat} {n : Nat} {K : Nat → pKd} {A : pA} {G : pG} {l1 : Int32} {l4 : Int32} {s0 : Int32} {s1 : Int32} {k155 k155' : Int32 → Int32 → Int32 → Prop} {Q Q' : Int32 → Prop} (hk155 : ∀ b0 b1 b2, k155 b0 b1 b2 → k155' b0 b1 b2) (hQ : ∀ b0, Q b0 → Q' b0) : fX0_spot_J196 tx n K A G k155 Q l1 l4 s0 s1 → fX0_spot_J196 tx n K A G k155' Q' l1 l4 s0 s1 := by
  unfold fX0_spot_J196
  exact (hk155 _ _ _)
theorem mo_fX0_spot_J195 {tx : Nat} {n : Nat} {K : Nat → pKd} {A : pA} {G : pG} {l1 : Int32} {l4 : Int32} {s0 : Int32} {k155 k155' : Int32 → Int32 → Int32 → Prop} {Q Q' : Int32 → Prop} (hk155 : ∀ b0 b1 b2, k155 b0 b1 b2 → k155' b0 b1 b2) (hQ : ∀ b0, Q b0 → Q' b0) : fX0_spot_J195 tx n K A G k155 Q l1 l4 s0 → fX0_spot_J195 tx n K A G k155' Q' l1 l4 s0 := by
  unfold fX0_spot_J195
  exact (mo_fX0_spot_J196 hk155 hQ )
theorem mo_fX0_spot_L155 {tx : Nat} {n : Nat} {K : Nat → pKd} {A : pA} {G : pG} {Q Q' : Int32 → Prop} (hQ : ∀ b0, Q b0 → Q' b0) : ∀ m w0 w1 w2, fX0_spot_L155 tx n K A G Q m w0 w1 w2 → fX0_spot_L155 tx n K A G Q' m w0 w1 w2 := by
  intro m
  induction m with
  | zero => intro w0 w1 w2 h; exact absurd h id
  | succ m ih =>
    intro w0 w1 w2
    unfold fX0_spot_L155
    exact (n_iteM (hQ _) (And.imp_right (n_iteM (mo_fX0_isDone (fun _ => (n_iteM (mo_fX0_spot_J196 (fun _ _ _ => (ih _ _ _)) hQ ) (mo_fX0_spot_J195 (fun _ _ _ => (ih _ _ _)) hQ ))) ) (mo_fX0_spot_J195 (fun _ _ _ => (ih _ _ _)) hQ ))))
theorem mo_fX0_spot {tx : Nat} {n : Nat} {K : Nat → pKd} {A : pA} {G : pG} {p1 : Int32} {p2 : Int32} {Q Q' : Int32 → Prop} (hQ : ∀ b0, Q b0 → Q' b0) : fX0_spot tx n K A G p1 p2 Q → fX0_spot tx n K A G p1 p2 Q' := by
  unfold fX0_spot
  exact (mo_fX0_isPlace (fun _ => (n_iteM (hQ _) (n_iteM (mo_fJ5_get (fun _ => (And.imp_right (And.imp_right (hQ _)))) ) (n_iteM (Exists.imp fun _ => (mo_fX0_spot_L65 hQ _ _ _ _)) (n_iteM (Exists.imp fun _ => (mo_fX0_spot_L110 hQ _ _ _ _)) (n_iteM (Exists.imp fun _ => (mo_fX0_spot_L155 hQ _ _ _ _)) (hQ _))))))) )
theorem mo_fX0_dog {tx : Nat} {n : Nat} {K : Nat → pKd} {A : pA} {G : pG} {p1 : Int32} {p2 : Int32} {Q Q' : Int32 → Prop} (hQ : ∀ b0, Q b0 → Q' b0) : fX0_dog tx n K A G p1 p2 Q → fX0_dog tx n K A G p1 p2 Q' := by
  unfold fX0_dog
  exact (mo_fX0_isDog (fun _ => (n_iteM (hQ _) (mo_fJ5_get (fun _ => (And.imp_right (And.imp_right (n_iteM (hQ _) (n_iteM (hQ _) (n_iteM (hQ _) (n_iteM (And.imp_right (hQ _)) (n_iteM (And.imp_right (hQ _)) (n_iteM (And.imp_right (hQ _)) (hQ _)))))))))) ))) )
theorem mo_fX0_leftOf_J49 {tx : Nat} {a1 : Nat} {A : pA} {l2 : Int32} {l4 : Int32} {s0 : Int32} {s1 : Int32} {k5 k5' : Int32 → Int32 → Int32 → Prop} {Q Q' : Int32 → Prop} (hk5 : ∀ b0 b1 b2, k5 b0 b1 b2 → k5' b0 b1 b2) (hQ : ∀ b0, Q b0 → Q' b0) : fX0_leftOf_J49 tx a1 A k5 Q l2 l4 s0 s1 → fX0_leftOf_J49 tx a1 A k5' Q' l2 l4 s0 s1 := by
  unfold fX0_leftOf_J49
  exact (hk5 _ _ _)
theorem mo_fX0_leftOf_J48 {tx : Nat} {a1 : Nat} {A : pA} {l2 : Int32} {l4 : Int32} {s0 : Int32} {k5 k5' : Int32 → Int32 → Int32 → Prop} {Q Q' : Int32 → Prop} (hk5 : ∀ b0 b1 b2, k5 b0 b1 b2 → k5' b0 b1 b2) (hQ : ∀ b0, Q b0 → Q' b0) : fX0_leftOf_J48 tx a1 A k5 Q l2 l4 s0 → fX0_leftOf_J48 tx a1 A k5' Q' l2 l4 s0 := by
  unfold fX0_leftOf_J48
  exact (mo_fX0_leftOf_J49 hk5 hQ )
theorem mo_fX0_leftOf_L5 {tx : Nat} {a1 : Nat} {A : pA} {Q Q' : Int32 → Prop} (hQ : ∀ b0, Q b0 → Q' b0) : ∀ m w0 w1 w2, fX0_leftOf_L5 tx a1 A Q m w0 w1 w2 → fX0_leftOf_L5 tx a1 A Q' m w0 w1 w2 := by
  intro m
  induction m with
  | zero => intro w0 w1 w2 h; exact absurd h id
  | succ m ih =>
    intro w0 w1 w2
    unfold fX0_leftOf_L5
    exact (n_iteM (hQ _) (And.imp_right (n_iteM (n_iteM (mo_fX0_leftOf_J49 (fun _ _ _ => (ih _ _ _)) hQ ) (mo_fX0_leftOf_J48 (fun _ _ _ => (ih _ _ _)) hQ )) (mo_fX0_leftOf_J48 (fun _ _ _ => (ih _ _ _)) hQ ))))
theorem mo_fX0_leftOf {tx : Nat} {a1 : Nat} {A : pA} {p2 : Int32} {Q Q' : Int32 → Prop} (hQ : ∀ b0, Q b0 → Q' b0) : fX0_leftOf tx a1 A p2 Q → fX0_leftOf tx a1 A p2 Q' := by
  unfold fX0_leftOf
  exact (Exists.imp fun _ => (mo_fX0_leftOf_L5 hQ _ _ _ _))
theorem mo_fX0_person {tx : Nat} {n : Nat} {K : Nat → pKd} {A : pA} {G : pG} {p1 : Int32} {p2 : Int32} {Q Q' : Int32 → Prop} (hQ : ∀ b0, Q b0 → Q' b0) : fX0_person tx n K A G p1 p2 Q → fX0_person tx n K A G p1 p2 Q' := by
  unfold fX0_person
  exact (mo_fX0_isPerson (fun _ => (n_iteM (hQ _) (n_iteM (mo_fJ5_get (fun _ => (And.imp_right (And.imp_right (hQ _)))) ) (n_iteM (And.imp_right (hQ _)) (n_iteM (And.imp_right (hQ _)) (n_iteM (And.imp_right (hQ _)) (n_iteM (mo_fX5_isFetched (fun _ => (n_iteM (hQ _) (hQ _))) ) (n_iteM (mo_fX0_leftOf (fun _ => (hQ _)) ) (n_iteM (And.imp_right (hQ _)) (hQ _)))))))))) )
theorem mo_fX0_areTogether {tx : Nat} {A : pA} {p1 : Int32} {p2 : Int32} {Q Q' : Int32 → Prop} (hQ : ∀ b0, Q b0 → Q' b0) : fX0_areTogether tx A p1 p2 Q → fX0_areTogether tx A p1 p2 Q' := by
  unfold fX0_areTogether
  exact (mo_fX5_isFetched (fun _ => (n_iteM (And.imp_right (And.imp_right (n_iteM (hQ _) (hQ _)))) (hQ _))) )
theorem mo_fX0_far {tx : Nat} {A : pA} {p1 : Int32} {p2 : Int32} {Q Q' : Int32 → Prop} (hQ : ∀ b0, Q b0 → Q' b0) : fX0_far tx A p1 p2 Q → fX0_far tx A p1 p2 Q' := by
  unfold fX0_far
  exact (mo_fX0_isPlace (fun _ => (n_iteM (hQ _) (mo_fX0_isPlace (fun _ => (n_iteM (hQ _) (And.imp_right (And.imp_right (n_iteM (And.imp_right (And.imp_right (hQ _))) (hQ _)))))) ))) )
theorem mo_fX0_tillHour {tx : Nat} {A : pA} {Q Q' : Int32 → Prop} (hQ : ∀ b0, Q b0 → Q' b0) : fX0_tillHour tx A Q → fX0_tillHour tx A Q' := by
  unfold fX0_tillHour
  exact (mo_fX5_minute (fun _ => (n_iteM (hQ _) (hQ _))) )
theorem mo_fX0_till {tx : Nat} {A : pA} {Q Q' : Int32 → Prop} (hQ : ∀ b0, Q b0 → Q' b0) : fX0_till tx A Q → fX0_till tx A Q' := by
  unfold fX0_till
  exact (mo_fX0_tillHour (fun _ => (hQ _)) )
theorem mo_fX0_roundOf_L19 {tx : Nat} {k8 k8' : Int32 → Int32 → Int32 → Int32 → Int32 → pA → Prop} {Q Q' : Int32 → pA → Prop} (hk8 : ∀ b0 b1 b2 b3 b4 b5, k8 b0 b1 b2 b3 b4 b5 → k8' b0 b1 b2 b3 b4 b5) (hQ : ∀ b0 b1, Q b0 b1 → Q' b0 b1) : ∀ m w0 w1 w2 w3 w4 w5 w6, fX0_roundOf_L19 tx k8 Q m w0 w1 w2 w3 w4 w5 w6 → fX0_roundOf_L19 tx k8' Q' m w0 w1 w2 w3 w4 w5 w6 := by
  intro m
  induction m with
  | zero => intro w0 w1 w2 w3 w4 w5 w6 h; exact absurd h id
  | succ m ih =>
    intro w0 w1 w2 w3 w4 w5 w6
    unfold fX0_roundOf_L19
    exact (n_iteM (hk8 _ _ _ _ _ _) (And.imp_right (And.imp_right (forall_imp fun _ => (forall_imp fun _ => (ih _ _ _ _ _ _ _))))))
theorem mo_fX0_roundOf_J231 {tx : Nat} {l2 : Int32} {l3 : Int32} {l4 : Int32} {l5 : Int32} {l6 : Int32} {A : pA} {k78 k78' : Int32 → Int32 → Int32 → Int32 → Int32 → pA → Prop} {Q Q' : Int32 → pA → Prop} (hk78 : ∀ b0 b1 b2 b3 b4 b5, k78 b0 b1 b2 b3 b4 b5 → k78' b0 b1 b2 b3 b4 b5) (hQ : ∀ b0 b1, Q b0 b1 → Q' b0 b1) : fX0_roundOf_J231 tx k78 Q l2 l3 l4 l5 l6 A → fX0_roundOf_J231 tx k78' Q' l2 l3 l4 l5 l6 A := by
  unfold fX0_roundOf_J231
  exact (hk78 _ _ _ _ _ _)
theorem mo_fX0_roundOf_J225 {tx : Nat} {l2 : Int32} {l3 : Int32} {l4 : Int32} {l5 : Int32} {l6 : Int32} {l7 : Int32} {A : pA} {k145 k145' : Int32 → Int32 → Int32 → Int32 → Int32 → Int32 → pA → Prop} {Q Q' : Int32 → pA → Prop} (hk145 : ∀ b0 b1 b2 b3 b4 b5 b6, k145 b0 b1 b2 b3 b4 b5 b6 → k145' b0 b1 b2 b3 b4 b5 b6) (hQ : ∀ b0 b1, Q b0 b1 → Q' b0 b1) : fX0_roundOf_J225 tx k145 Q l2 l3 l4 l5 l6 l7 A → fX0_roundOf_J225 tx k145' Q' l2 l3 l4 l5 l6 l7 A := by
  unfold fX0_roundOf_J225
  exact (hk145 _ _ _ _ _ _ _)
theorem mo_fX0_roundOf_L145 {tx : Nat} {k78 k78' : Int32 → Int32 → Int32 → Int32 → Int32 → pA → Prop} {Q Q' : Int32 → pA → Prop} (hk78 : ∀ b0 b1 b2 b3 b4 b5, k78 b0 b1 b2 b3 b4 b5 → k78' b0 b1 b2 b3 b4 b5) (hQ : ∀ b0 b1, Q b0 b1 → Q' b0 b1) : ∀ m w0 w1 w2 w3 w4 w5 w6, fX0_roundOf_L145 tx k78 Q m w0 w1 w2 w3 w4 w5 w6 → fX0_roundOf_L145 tx k78' Q' m w0 w1 w2 w3 w4 w5 w6 := by
  intro m
  induction m with
  | zero => intro w0 w1 w2 w3 w4 w5 w6 h; exact absurd h id
  | succ m ih =>
    intro w0 w1 w2 w3 w4 w5 w6
    unfold fX0_roundOf_L145
    exact (mo_fX0_places (fun _ => (n_iteM (mo_fX0_roundOf_J231 hk78 hQ ) (n_iteM (mo_fX0_roundOf_J225 (fun _ _ _ _ _ _ _ => (ih _ _ _ _ _ _ _)) hQ ) (And.imp_right (And.imp_right (And.imp_right (And.imp_right (And.imp_right (And.imp_right (And.imp_right (And.imp_right (forall_imp fun _ => (forall_imp fun _ => (mo_fX0_roundOf_J225 (fun _ _ _ _ _ _ _ => (ih _ _ _ _ _ _ _)) hQ )))))))))))))) )
theorem mo_fX0_roundOf_J142 {tx : Nat} {l2 : Int32} {l3 : Int32} {l4 : Int32} {l5 : Int32} {l6 : Int32} {A : pA} {k78 k78' : Int32 → Int32 → Int32 → Int32 → Int32 → pA → Prop} {Q Q' : Int32 → pA → Prop} (hk78 : ∀ b0 b1 b2 b3 b4 b5, k78 b0 b1 b2 b3 b4 b5 → k78' b0 b1 b2 b3 b4 b5) (hQ : ∀ b0 b1, Q b0 b1 → Q' b0 b1) : fX0_roundOf_J142 tx k78 Q l2 l3 l4 l5 l6 A → fX0_roundOf_J142 tx k78' Q' l2 l3 l4 l5 l6 A := by
  unfold fX0_roundOf_J142
  exact (Exists.imp fun _ => (mo_fX0_roundOf_L145 hk78 hQ _ _ _ _ _ _ _ _))
theorem mo_fX0_roundOf_L78 {tx : Nat} {k67 k67' : Int32 → Int32 → Int32 → Int32 → pA → Prop} {Q Q' : Int32 → pA → Prop} (hk67 : ∀ b0 b1 b2 b3 b4, k67 b0 b1 b2 b3 b4 → k67' b0 b1 b2 b3 b4) (hQ : ∀ b0 b1, Q b0 b1 → Q' b0 b1) : ∀ m w0 w1 w2 w3 w4 w5, fX0_roundOf_L78 tx k67 Q m w0 w1 w2 w3 w4 w5 → fX0_roundOf_L78 tx k67' Q' m w0 w1 w2 w3 w4 w5 := by
  intro m
  induction m with
  | zero => intro w0 w1 w2 w3 w4 w5 h; exact absurd h id
  | succ m ih =>
    intro w0 w1 w2 w3 w4 w5
    unfold fX0_roundOf_L78
    exact (mo_fX0_places (fun _ => (n_iteM (hk67 _ _ _ _ _) (And.imp_right (And.imp_right (n_iteM (n_iteM (And.imp_right (And.imp_right (And.imp_right (And.imp_right (mo_fX0_roundOf_J142 (fun _ _ _ _ _ _ => (ih _ _ _ _ _ _)) hQ ))))) (mo_fX0_roundOf_J142 (fun _ _ _ _ _ _ => (ih _ _ _ _ _ _)) hQ )) (mo_fX0_roundOf_J231 (fun _ _ _ _ _ _ => (ih _ _ _ _ _ _)) hQ )))))) )
theorem mo_fX0_roundOf_L67 {tx : Nat} {Q Q' : Int32 → pA → Prop} (hQ : ∀ b0 b1, Q b0 b1 → Q' b0 b1) : ∀ m w0 w1 w2 w3 w4, fX0_roundOf_L67 tx Q m w0 w1 w2 w3 w4 → fX0_roundOf_L67 tx Q' m w0 w1 w2 w3 w4 := by
  intro m
  induction m with
  | zero => intro w0 w1 w2 w3 w4 h; exact absurd h id
  | succ m ih =>
    intro w0 w1 w2 w3 w4
    unfold fX0_roundOf_L67
    exact (n_iteM (hQ _ _) (Exists.imp fun _ => (mo_fX0_roundOf_L78 (fun _ _ _ _ _ => (ih _ _ _ _ _)) hQ _ _ _ _ _ _ _)))
theorem mo_fX0_roundOf_L8 {tx : Nat} {Q Q' : Int32 → pA → Prop} (hQ : ∀ b0 b1, Q b0 b1 → Q' b0 b1) : ∀ m w0 w1 w2 w3 w4 w5, fX0_roundOf_L8 tx Q m w0 w1 w2 w3 w4 w5 → fX0_roundOf_L8 tx Q' m w0 w1 w2 w3 w4 w5 := by
  intro m
  induction m with
  | zero => intro w0 w1 w2 w3 w4 w5 h; exact absurd h id
  | succ m ih =>
    intro w0 w1 w2 w3 w4 w5
    unfold fX0_roundOf_L8
    exact (n_iteM (And.imp_right (And.imp_right (forall_imp fun _ => (forall_imp fun _ => (Exists.imp fun _ => (mo_fX0_roundOf_L67 hQ _ _ _ _ _ _)))))) (Exists.imp fun _ => (mo_fX0_roundOf_L19 (fun _ _ _ _ _ _ => (ih _ _ _ _ _ _)) hQ _ _ _ _ _ _ _ _)))
theorem mo_fX0_roundOf {tx : Nat} {A : pA} {p1 : Int32} {p2 : Int32} {p3 : Int32} {Q Q' : Int32 → pA → Prop} (hQ : ∀ b0 b1, Q b0 b1 → Q' b0 b1) : fX0_roundOf tx A p1 p2 p3 Q → fX0_roundOf tx A p1 p2 p3 Q' := by
  unfold fX0_roundOf
  exact (Exists.imp fun _ => (mo_fX0_roundOf_L8 hQ _ _ _ _ _ _ _))
theorem mo_fX0_errandsLeft_J52 {tx : Nat} {A : pA} {l1 : Int32} {l3 : Int32} {s0 : Int32} {s1 : Int32} {k4 k4' : Int32 → Int32 → Int32 → Prop} {Q Q' : Int32 → Prop} (hk4 : ∀ b0 b1 b2, k4 b0 b1 b2 → k4' b0 b1 b2) (hQ : ∀ b0, Q b0 → Q' b0) : fX0_errandsLeft_J52 tx A k4 Q l1 l3 s0 s1 → fX0_errandsLeft_J52 tx A k4' Q' l1 l3 s0 s1 := by
  unfold fX0_errandsLeft_J52
  exact (hk4 _ _ _)
theorem mo_fX0_errandsLeft_J51 {tx : Nat} {A : pA} {l1 : Int32} {l3 : Int32} {s0 : Int32} {k4 k4' : Int32 → Int32 → Int32 → Prop} {Q Q' : Int32 → Prop} (hk4 : ∀ b0 b1 b2, k4 b0 b1 b2 → k4' b0 b1 b2) (hQ : ∀ b0, Q b0 → Q' b0) : fX0_errandsLeft_J51 tx A k4 Q l1 l3 s0 → fX0_errandsLeft_J51 tx A k4' Q' l1 l3 s0 := by
  unfold fX0_errandsLeft_J51
  exact (mo_fX0_errandsLeft_J52 hk4 hQ )
theorem mo_fX0_errandsLeft_L4 {tx : Nat} {A : pA} {Q Q' : Int32 → Prop} (hQ : ∀ b0, Q b0 → Q' b0) : ∀ m w0 w1 w2, fX0_errandsLeft_L4 tx A Q m w0 w1 w2 → fX0_errandsLeft_L4 tx A Q' m w0 w1 w2 := by
  intro m
  induction m with
  | zero => intro w0 w1 w2 h; exact absurd h id
  | succ m ih =>
    intro w0 w1 w2
    unfold fX0_errandsLeft_L4
    exact (n_iteM (hQ _) (And.imp_right (n_iteM (mo_fX0_isDone (fun _ => (n_iteM (And.imp_right (mo_fX0_errandsLeft_J52 (fun _ _ _ => (ih _ _ _)) hQ )) (mo_fX0_errandsLeft_J51 (fun _ _ _ => (ih _ _ _)) hQ ))) ) (mo_fX0_errandsLeft_J51 (fun _ _ _ => (ih _ _ _)) hQ ))))
theorem mo_fX0_errandsLeft {tx : Nat} {A : pA} {p1 : Int32} {Q Q' : Int32 → Prop} (hQ : ∀ b0, Q b0 → Q' b0) : fX0_errandsLeft tx A p1 Q → fX0_errandsLeft tx A p1 Q' := by
  unfold fX0_errandsLeft
  exact (Exists.imp fun _ => (mo_fX0_errandsLeft_L4 hQ _ _ _ _))
theorem mo_fX0_round {tx : Nat} {n : Nat} {K : Nat → pKd} {A : pA} {G : pG} {p1 : Int32} {p2 : Int32} {Q Q' : Int32 → pA → Prop} (hQ : ∀ b0 b1, Q b0 b1 → Q' b0 b1) : fX0_round tx n K A G p1 p2 Q → fX0_round tx n K A G p1 p2 Q' := by
  unfold fX0_round
  exact (mo_fX0_isPerson (fun _ => (n_iteM (hQ _ _) (mo_fX0_isIn (fun _ => (n_iteM (hQ _ _) (And.imp_right (mo_fX0_errandsLeft (fun _ => (mo_fJ5_get (fun _ => (And.imp_right (And.imp_right (mo_fX0_roundOf (fun _ _ => (n_iteM (n_iteM (hQ _ _) (mo_fX5_minute (fun _ => (mo_fX4_isHour (fun _ => (n_iteM (mo_fX0_tillHour (fun _ => (n_iteM (hQ _ _) (hQ _ _))) ) (hQ _ _))) )) )) (hQ _ _))) )))) )) )))) ))) )
theorem mo_fX0_feeding_L14 {tx : Nat} {A : pA} {Q Q' : Int32 → Prop} (hQ : ∀ b0, Q b0 → Q' b0) : ∀ m w0 w1 w2, fX0_feeding_L14 tx A Q m w0 w1 w2 → fX0_feeding_L14 tx A Q' m w0 w1 w2 := by
  intro m
  induction m with
  | zero => intro w0 w1 w2 h; exact absurd h id
  | succ m ih =>
    intro w0 w1 w2
    unfold fX0_feeding_L14
    exact (mo_fX0_dogs (fun _ => (n_iteM (hQ _) (And.imp_right (And.imp_right (And.imp_right (And.imp_right (ih _ _ _))))))) )
theorem mo_fX0_feeding {tx : Nat} {A : pA} {p1 : Int32} {Q Q' : Int32 → Prop} (hQ : ∀ b0, Q b0 → Q' b0) : fX0_feeding tx A p1 Q → fX0_feeding tx A p1 Q' := by
  unfold fX0_feeding
  exact (mo_fX0_isPerson (fun _ => (n_iteM (hQ _) (Exists.imp fun _ => (mo_fX0_feeding_L14 hQ _ _ _ _)))) )
theorem mo_fX0_held_J74 {tx : Nat} {n : Nat} {K : Nat → pKd} {A : pA} {G : pG} {l1 : Int32} {l2 : Int32} {l3 : Int32} {l4 : Int32} {k20 k20' : Int32 → Int32 → Int32 → Int32 → Prop} {Q Q' : Int32 → Prop} (hk20 : ∀ b0 b1 b2 b3, k20 b0 b1 b2 b3 → k20' b0 b1 b2 b3) (hQ : ∀ b0, Q b0 → Q' b0) : fX0_held_J74 tx n K A G k20 Q l1 l2 l3 l4 → fX0_held_J74 tx n K A G k20' Q' l1 l2 l3 l4 := by
  unfold fX0_held_J74
  exact (hk20 _ _ _ _)
theorem mo_fX0_held_L20 {tx : Nat} {n : Nat} {K : Nat → pKd} {A : pA} {G : pG} {Q Q' : Int32 → Prop} (hQ : ∀ b0, Q b0 → Q' b0) : ∀ m w0 w1 w2 w3, fX0_held_L20 tx n K A G Q m w0 w1 w2 w3 → fX0_held_L20 tx n K A G Q' m w0 w1 w2 w3 := by
  intro m
  induction m with
  | zero => intro w0 w1 w2 w3 h; exact absurd h id
  | succ m ih =>
    intro w0 w1 w2 w3
    unfold fX0_held_L20
    exact (mo_fX0_dogs (fun _ => (n_iteM (hQ _) (mo_fJ5_get (fun _ => (And.imp_right (And.imp_right (And.imp_right (And.imp_right (n_iteM (mo_fX0_held_J74 (fun _ _ _ _ => (ih _ _ _ _)) hQ ) (mo_fX0_held_J74 (fun _ _ _ _ => (ih _ _ _ _)) hQ ))))))) ))) )
theorem mo_fX0_held {tx : Nat} {n : Nat} {K : Nat → pKd} {A : pA} {G : pG} {p1 : Int32} {Q Q' : Int32 → Prop} (hQ : ∀ b0, Q b0 → Q' b0) : fX0_held tx n K A G p1 Q → fX0_held tx n K A G p1 Q' := by
  unfold fX0_held
  exact (mo_fX0_isPlace (fun _ => (n_iteM (hQ _) (Exists.imp fun _ => (mo_fX0_held_L20 hQ _ _ _ _ _)))) )
theorem mo_fX0_tell {tx : Nat} {A : pA} {p1 : Int32} {p2 : Int32} {Q Q' : Int32 → pA → Prop} (hQ : ∀ b0 b1, Q b0 b1 → Q' b0 b1) : fX0_tell tx A p1 p2 Q → fX0_tell tx A p1 p2 Q' := by
  unfold fX0_tell
  exact (mo_fX0_isPerson (fun _ => (n_iteM (hQ _ _) (n_iteM (hQ _ _) (And.imp_right (forall_imp fun _ => (forall_imp fun _ => (And.imp_right (forall_imp fun _ => (forall_imp fun _ => (forall_imp fun _ => (forall_imp fun _ => (hQ _ _)))))))))))) )
theorem mo_fX0_forget {tx : Nat} {A : pA} {Q Q' : Int32 → pA → Prop} (hQ : ∀ b0 b1, Q b0 b1 → Q' b0 b1) : fX0_forget tx A Q → fX0_forget tx A Q' := by
  unfold fX0_forget
  exact (forall_imp fun _ => (forall_imp fun _ => (hQ _ _)))
theorem mo_fX0_isSo_J26 {tx : Nat} {A : pA} {l1 : Int32} {l2 : Int32} {l3 : Int32} {s0 : Int32} {k2 k2' : Int32 → Int32 → Int32 → Prop} {Q Q' : Int32 → Prop} (hk2 : ∀ b0 b1 b2, k2 b0 b1 b2 → k2' b0 b1 b2) (hQ : ∀ b0, Q b0 → Q' b0) : fX0_isSo_J26 tx A k2 Q l1 l2 l3 s0 → fX0_isSo_J26 tx A k2' Q' l1 l2 l3 s0 := by
  unfold fX0_isSo_J26
  exact (And.imp_right (n_iteM (hk2 _ _ _) (hQ _)))
theorem mo_fX0_isSo_L2 {tx : Nat} {A : pA} {Q Q' : Int32 → Prop} (hQ : ∀ b0, Q b0 → Q' b0) : ∀ m w0 w1 w2, fX0_isSo_L2 tx A Q m w0 w1 w2 → fX0_isSo_L2 tx A Q' m w0 w1 w2 := by
  intro m
  induction m with
  | zero => intro w0 w1 w2 h; exact absurd h id
  | succ m ih =>
    intro w0 w1 w2
    unfold fX0_isSo_L2
    exact (n_iteM (hQ _) (And.imp_right (n_iteM (mo_fX0_isSo_J26 (fun _ _ _ => (ih _ _ _)) hQ ) (mo_fX0_isSo_J26 (fun _ _ _ => (ih _ _ _)) hQ ))))
theorem mo_fX0_isSo {tx : Nat} {A : pA} {p1 : Int32} {p2 : Int32} {Q Q' : Int32 → Prop} (hQ : ∀ b0, Q b0 → Q' b0) : fX0_isSo tx A p1 p2 Q → fX0_isSo tx A p1 p2 Q' := by
  unfold fX0_isSo
  exact (Exists.imp fun _ => (mo_fX0_isSo_L2 hQ _ _ _ _))
theorem mo_fX0_sum_L4 {a0 : Nat} {z0 : Nat} {A : pA} {Q Q' : Int32 → Prop} (hQ : ∀ b0, Q b0 → Q' b0) : ∀ m w0 w1, fX0_sum_L4 a0 z0 A Q m w0 w1 → fX0_sum_L4 a0 z0 A Q' m w0 w1 := by
  intro m
  induction m with
  | zero => intro w0 w1 h; exact absurd h id
  | succ m ih =>
    intro w0 w1
    unfold fX0_sum_L4
    exact (n_iteM (hQ _) (And.imp_right (ih _ _)))
theorem mo_fX0_sum {a0 : Nat} {z0 : Nat} {A : pA} {Q Q' : Int32 → Prop} (hQ : ∀ b0, Q b0 → Q' b0) : fX0_sum a0 z0 A Q → fX0_sum a0 z0 A Q' := by
  unfold fX0_sum
  exact (Exists.imp fun _ => (mo_fX0_sum_L4 hQ _ _ _))
theorem mo_fX0_count_J258 {tx : Nat} {A : pA} {s0 : Int32} {s1 : Int32} {Q Q' : Int32 → Prop} (hQ : ∀ b0, Q b0 → Q' b0) : fX0_count_J258 tx A Q s0 s1 → fX0_count_J258 tx A Q' s0 s1 := by
  unfold fX0_count_J258
  exact (hQ _)
theorem mo_fX0_count_J243 {tx : Nat} {A : pA} {s0 : Int32} {s1 : Int32} {Q Q' : Int32 → Prop} (hQ : ∀ b0, Q b0 → Q' b0) : fX0_count_J243 tx A Q s0 s1 → fX0_count_J243 tx A Q' s0 s1 := by
  unfold fX0_count_J243
  exact (n_iteM (mo_fX0_count_J258 hQ ) (mo_fX0_count_J258 hQ ))
theorem mo_fX0_count_J229 {tx : Nat} {A : pA} {s0 : Int32} {Q Q' : Int32 → Prop} (hQ : ∀ b0, Q b0 → Q' b0) : fX0_count_J229 tx A Q s0 → fX0_count_J229 tx A Q' s0 := by
  unfold fX0_count_J229
  exact (n_iteM (mo_fX0_count_J243 hQ ) (mo_fX0_count_J243 hQ ))
theorem mo_fX0_count_L295 {tx : Nat} {A : pA} {Q Q' : Int32 → Prop} (hQ : ∀ b0, Q b0 → Q' b0) : ∀ m w0 w1, fX0_count_L295 tx A Q m w0 w1 → fX0_count_L295 tx A Q' m w0 w1 := by
  intro m
  induction m with
  | zero => intro w0 w1 h; exact absurd h id
  | succ m ih =>
    intro w0 w1
    unfold fX0_count_L295
    exact (mo_fX0_dogs (fun _ => (n_iteM (hQ _) (And.imp_right (mo_fX0_sum (fun _ => (ih _ _)) )))) )
theorem mo_fX0_count {tx : Nat} {A : pA} {p1 : Int32} {Q Q' : Int32 → Prop} (hQ : ∀ b0, Q b0 → Q' b0) : fX0_count tx A p1 Q → fX0_count tx A p1 Q' := by
  unfold fX0_count
  exact (n_iteM (mo_fX0_places (fun _ => (hQ _)) ) (n_iteM (hQ _) (n_iteM (mo_fX0_dogs (fun _ => (hQ _)) ) (n_iteM (mo_fX0_people (fun _ => (hQ _)) ) (n_iteM (hQ _) (n_iteM (mo_fX5_minute (fun _ => (hQ _)) ) (n_iteM (mo_fX5_minute (fun _ => (mo_fX4_isHour (fun _ => (n_iteM (hQ _) (hQ _))) )) ) (n_iteM (hQ _) (n_iteM (hQ _) (n_iteM (hQ _) (n_iteM (mo_fX0_sum (fun _ => (hQ _)) ) (n_iteM (hQ _) (n_iteM (hQ _) (n_iteM (hQ _) (n_iteM (n_iteM (mo_fX0_count_J229 hQ ) (mo_fX0_count_J229 hQ )) (n_iteM (mo_fX0_sum (fun _ => (hQ _)) ) (n_iteM (mo_fX0_sum (fun _ => (hQ _)) ) (n_iteM (mo_fX0_sum (fun _ => (hQ _)) ) (n_iteM (Exists.imp fun _ => (mo_fX0_count_L295 hQ _ _ _)) (hQ _))))))))))))))))))))
theorem mo_fX13_of {a0 : Nat} {a1 : Nat} {A : pA} {Q Q' : Int32 → Prop} (hQ : ∀ b0, Q b0 → Q' b0) : fX13_of a0 a1 A Q → fX13_of a0 a1 A Q' := by
  unfold fX13_of
  exact (hQ _)
theorem mo_fX14_of {a0 : Nat} {a1 : Nat} {A : pA} {Q Q' : Int32 → Prop} (hQ : ∀ b0, Q b0 → Q' b0) : fX14_of a0 a1 A Q → fX14_of a0 a1 A Q' := by
  unfold fX14_of
  exact (And.imp_right (hQ _))
theorem mo_fX15_of {a0 a1 : Nat} {rec : Nat → pA → (Int32 → pA → Prop) → Prop} {n : Nat} {K : Nat → pKd} {A : pA} {G : pG} (hrec : ∀ a A (Q Q' : Int32 → pA → Prop), (∀ r A, Q r A → Q' r A) → rec a A Q → rec a A Q') {Q Q' : Int32 → pA → Prop} (hQ : ∀ r A, Q r A → Q' r A) : fX15_of a0 a1 rec n K A G Q → fX15_of a0 a1 rec n K A G Q' := by
  unfold fX15_of
  exact (Exists.imp fun _ => (And.imp_right (hrec _ _ _ _ (fun _ _ => (Exists.imp fun _ => (And.imp_right (hrec _ _ _ _ (fun _ _ => (n_iteM (hQ _ _) (n_iteM (hQ _ _) (n_iteM (n_iteM (forall_imp fun _ => (forall_imp fun _ => (hQ _ _))) (And.imp_right (hQ _ _))) (n_iteM (hQ _ _) (n_iteM (forall_imp fun _ => (forall_imp fun _ => (hQ _ _))) (And.imp_right (hQ _ _)))))))))))))))
theorem mo_fSumA {o n : Nat} {K : Nat → pKd} {G : pG} : ∀ (d a : Nat) (A : pA) (Q Q' : Int32 → pA → Prop), (∀ r A, Q r A → Q' r A) → fSum o n K G d a A Q → fSum o n K G d a A Q' := by
  intro d
  induction d with
  | zero => intro a A Q Q' hQ h; exact absurd h id
  | succ d ih =>
    intro a A Q Q' hQ
    unfold fSum
    exact And.imp_right (Or.imp (And.imp_right (mo_fX13_of (fun _ => hQ _ _))) (Or.imp (And.imp_right (mo_fX14_of (fun _ => hQ _ _))) (And.imp_right (mo_fX15_of ih hQ))))
theorem mo_fSum {o n d a : Nat} {K : Nat → pKd} {G : pG} {A : pA} {Q Q' : Int32 → pA → Prop} (hQ : ∀ r A, Q r A → Q' r A) : fSum o n K G d a A Q → fSum o n K G d a A Q' := mo_fSumA d a A Q Q' hQ
theorem mo_fX11_of_J44 {a0 : Nat} {a1 : Nat} {n : Nat} {K : Nat → pKd} {G : pG} {l2 : Int32} {A : pA} {Q Q' : Int32 → pA → Prop} (hQ : ∀ b0 b1, Q b0 b1 → Q' b0 b1) : fX11_of_J44 a0 a1 n K G Q l2 A → fX11_of_J44 a0 a1 n K G Q' l2 A := by
  unfold fX11_of_J44
  exact (Exists.imp fun _ => (And.imp_right (And.imp_right (Exists.imp fun _ => (And.imp_right (And.imp_right (Exists.imp fun _ => (And.imp_right (mo_fSum (fun _ _ => (n_iteM (hQ _ _) (hQ _ _))))))))))))
theorem mo_fX11_of_L7 {a0 : Nat} {a1 : Nat} {n : Nat} {K : Nat → pKd} {G : pG} {Q Q' : Int32 → pA → Prop} (hQ : ∀ b0 b1, Q b0 b1 → Q' b0 b1) : ∀ m w0 w1, fX11_of_L7 a0 a1 n K G Q m w0 w1 → fX11_of_L7 a0 a1 n K G Q' m w0 w1 := by
  intro m
  induction m with
  | zero => intro w0 w1 h; exact absurd h id
  | succ m ih =>
    intro w0 w1
    unfold fX11_of_L7
    exact (n_iteM (mo_fX11_of_J44 hQ ) (Exists.imp fun _ => (And.imp_right (And.imp_right (Exists.imp fun _ => (And.imp_right (And.imp_right (Exists.imp fun _ => (And.imp_right (mo_fSum (fun _ _ => (Exists.imp fun _ => (And.imp_right (And.imp_right (Exists.imp fun _ => (And.imp_right (And.imp_right (Exists.imp fun _ => (And.imp_right (mo_fSum (fun _ _ => (n_iteM (mo_fX11_of_J44 hQ ) (ih _ _)))))))))))))))))))))))
theorem mo_fX11_of {a0 : Nat} {a1 : Nat} {n : Nat} {K : Nat → pKd} {A : pA} {G : pG} {Q Q' : Int32 → pA → Prop} (hQ : ∀ b0 b1, Q b0 b1 → Q' b0 b1) : fX11_of a0 a1 n K A G Q → fX11_of a0 a1 n K A G Q' := by
  unfold fX11_of
  exact (forall_imp fun _ => (forall_imp fun _ => (Exists.imp fun _ => (mo_fX11_of_L7 hQ _ _ _))))
theorem mo_fX5_copies {a0 : Nat} {z0 : Nat} {a1 : Nat} {z1 : Nat} {A : pA} {Q Q' : pA → Prop} (hQ : ∀ b0, Q b0 → Q' b0) : fX5_copies a0 z0 a1 z1 A Q → fX5_copies a0 z0 a1 z1 A Q' := by
  unfold fX5_copies
  exact (And.imp_right (And.imp_right (And.imp_right (forall_imp fun _ => (forall_imp fun _ => (hQ _))))))
theorem mo_fX5_takes_L79 {a0 : Nat} {a1 : Nat} {Q Q' : pA → Prop} (hQ : ∀ b0, Q b0 → Q' b0) : ∀ m w0 w1, fX5_takes_L79 a0 a1 Q m w0 w1 → fX5_takes_L79 a0 a1 Q' m w0 w1 := by
  intro m
  induction m with
  | zero => intro w0 w1 h; exact absurd h id
  | succ m ih =>
    intro w0 w1
    unfold fX5_takes_L79
    exact (n_iteM (forall_imp fun _ => (forall_imp fun _ => (forall_imp fun _ => (forall_imp fun _ => (forall_imp fun _ => (forall_imp fun _ => (hQ _))))))) (And.imp_right (And.imp_right (mo_fX5_copies (fun _ => (And.imp_right (And.imp_right (mo_fX5_copies (fun _ => (ih _ _)) )))) ))))
theorem mo_fX5_takes {a0 : Nat} {a1 : Nat} {A : pA} {Q Q' : pA → Prop} (hQ : ∀ b0, Q b0 → Q' b0) : fX5_takes a0 a1 A Q → fX5_takes a0 a1 A Q' := by
  unfold fX5_takes
  exact (mo_fX5_copies (fun _ => (mo_fX5_copies (fun _ => (mo_fX5_copies (fun _ => (mo_fX5_copies (fun _ => (mo_fX5_copies (fun _ => (mo_fX5_copies (fun _ => (mo_fX5_copies (fun _ => (Exists.imp fun _ => (mo_fX5_takes_L79 hQ _ _ _))) )) )) )) )) )) )) )
theorem mo_fX5_wants {a0 : Nat} {a1 : Nat} {n : Nat} {K : Nat → pKd} {A : pA} {G : pG} {p2 : Int32} {p3 : Int32} {Q Q' : Int32 → pA → Prop} (hQ : ∀ b0 b1, Q b0 b1 → Q' b0 b1) : fX5_wants a0 a1 n K A G p2 p3 Q → fX5_wants a0 a1 n K A G p2 p3 Q' := by
  unfold fX5_wants
  exact (Or.imp (And.imp_right (And.imp_right (And.imp_right (hQ _ _)))) (Exists.imp fun _ => (And.imp_right (And.imp_right (Exists.imp fun _ => (And.imp_right (mo_fX5_asks (fun _ => (And.imp_right (And.imp_right (mo_fX11_of (fun _ _ => (hQ _ _)) )))) )))))))
theorem mo_fX5_takesOf_J42 {a0 : Nat} {a1 : Nat} {n : Nat} {K : Nat → pKd} {G : pG} {l3 : Int32} {s0 : Int32} {A : pA} {Q Q' : Int32 → pA → Prop} (hQ : ∀ b0 b1, Q b0 b1 → Q' b0 b1) : fX5_takesOf_J42 a0 a1 n K G Q l3 s0 A → fX5_takesOf_J42 a0 a1 n K G Q' l3 s0 A := by
  unfold fX5_takesOf_J42
  exact (And.imp_right (mo_fX0_within (fun _ => (hQ _ _)) ))
theorem mo_fX5_takesOf {a0 : Nat} {a1 : Nat} {n : Nat} {K : Nat → pKd} {A : pA} {G : pG} {p2 : Int32} {p3 : Int32} {Q Q' : Int32 → pA → Prop} (hQ : ∀ b0 b1, Q b0 b1 → Q' b0 b1) : fX5_takesOf a0 a1 n K A G p2 p3 Q → fX5_takesOf a0 a1 n K A G p2 p3 Q' := by
  unfold fX5_takesOf
  exact (Or.imp (And.imp_right (mo_fJ5_get (fun _ => (And.imp_right (And.imp_right (mo_fX5_takesOf_J42 hQ )))) )) (Exists.imp fun _ => (And.imp_right (And.imp_right (Exists.imp fun _ => (And.imp_right (mo_fX5_asks (fun _ => (And.imp_right (And.imp_right (mo_fX11_of (fun _ _ => (mo_fX5_takesOf_J42 hQ )) )))) )))))))
theorem mo_fX5_fades {a0 : Nat} {a1 : Nat} {n : Nat} {K : Nat → pKd} {A : pA} {G : pG} {p2 : Int32} {p3 : Int32} {Q Q' : Int32 → pA → Prop} (hQ : ∀ b0 b1, Q b0 b1 → Q' b0 b1) : fX5_fades a0 a1 n K A G p2 p3 Q → fX5_fades a0 a1 n K A G p2 p3 Q' := by
  unfold fX5_fades
  exact (Or.imp (And.imp_right (hQ _ _)) (Exists.imp fun _ => (And.imp_right (And.imp_right (Exists.imp fun _ => (And.imp_right (mo_fX5_asks (fun _ => (And.imp_right (And.imp_right (mo_fX11_of (fun _ _ => (mo_fX0_within (fun _ => (hQ _ _)) )) )))) )))))))
theorem mo_fX5_dues_L23 {a0 : Nat} {a1 : Nat} {n : Nat} {K : Nat → pKd} {G : pG} {Q Q' : Int32 → pA → Prop} (hQ : ∀ b0 b1, Q b0 b1 → Q' b0 b1) : ∀ m w0 w1 w2, fX5_dues_L23 a0 a1 n K G Q m w0 w1 w2 → fX5_dues_L23 a0 a1 n K G Q' m w0 w1 w2 := by
  intro m
  induction m with
  | zero => intro w0 w1 w2 h; exact absurd h id
  | succ m ih =>
    intro w0 w1 w2
    unfold fX5_dues_L23
    exact (n_iteM (mo_fJ5_get (fun _ => (And.imp_right (And.imp_right (forall_imp fun _ => (forall_imp fun _ => (mo_fJ5_get (fun _ => (And.imp_right (And.imp_right (forall_imp fun _ => (forall_imp fun _ => (mo_fX5_minute (fun _ => (forall_imp fun _ => (forall_imp fun _ => (forall_imp fun _ => (forall_imp fun _ => (And.imp_right (forall_imp fun _ => (forall_imp fun _ => (Exists.imp fun _ => (And.imp_right (And.imp_right (And.imp_right (mo_fX11_of (fun _ _ => (mo_fX0_within (fun _ => (hQ _ _)) )) ))))))))))))) )))))) )))))) ) (And.imp_right (forall_imp fun _ => (forall_imp fun _ => (ih _ _ _)))))
theorem mo_fX5_dues {a0 : Nat} {a1 : Nat} {n : Nat} {K : Nat → pKd} {A : pA} {G : pG} {p2 : Int32} {Q Q' : Int32 → pA → Prop} (hQ : ∀ b0 b1, Q b0 b1 → Q' b0 b1) : fX5_dues a0 a1 n K A G p2 Q → fX5_dues a0 a1 n K A G p2 Q' := by
  unfold fX5_dues
  exact (Or.imp (And.imp_right (And.imp_right (hQ _ _))) (Exists.imp fun _ => (And.imp_right (And.imp_right (Exists.imp fun _ => (mo_fX5_dues_L23 hQ _ _ _ _))))))
theorem mo_fX5_minds_J88 {a0 : Nat} {a1 : Nat} {n : Nat} {K : Nat → pKd} {G : pG} {l2 : Int32} {l3 : Int32} {l4 : Int32} {l5 : Int32} {A : pA} {k9 k9' : Int32 → Int32 → Int32 → Int32 → pA → Prop} {Q Q' : Int32 → pA → Prop} (hk9 : ∀ b0 b1 b2 b3 b4, k9 b0 b1 b2 b3 b4 → k9' b0 b1 b2 b3 b4) (hQ : ∀ b0 b1, Q b0 b1 → Q' b0 b1) : fX5_minds_J88 a0 a1 n K G k9 Q l2 l3 l4 l5 A → fX5_minds_J88 a0 a1 n K G k9' Q' l2 l3 l4 l5 A := by
  unfold fX5_minds_J88
  exact (hk9 _ _ _ _ _)
theorem mo_fX5_minds_J81 {a0 : Nat} {a1 : Nat} {n : Nat} {K : Nat → pKd} {G : pG} {l2 : Int32} {l5 : Int32} {l6 : Int32} {A : pA} {k9 k9' : Int32 → Int32 → Int32 → Int32 → pA → Prop} {Q Q' : Int32 → pA → Prop} (hk9 : ∀ b0 b1 b2 b3 b4, k9 b0 b1 b2 b3 b4 → k9' b0 b1 b2 b3 b4) (hQ : ∀ b0 b1, Q b0 b1 → Q' b0 b1) : fX5_minds_J81 a0 a1 n K G k9 Q l2 l5 l6 A → fX5_minds_J81 a0 a1 n K G k9' Q' l2 l5 l6 A := by
  unfold fX5_minds_J81
  exact (mo_fX5_minds_J88 hk9 hQ )
theorem mo_fX5_minds_L9 {a0 : Nat} {a1 : Nat} {n : Nat} {K : Nat → pKd} {G : pG} {Q Q' : Int32 → pA → Prop} (hQ : ∀ b0 b1, Q b0 b1 → Q' b0 b1) : ∀ m w0 w1 w2 w3 w4, fX5_minds_L9 a0 a1 n K G Q m w0 w1 w2 w3 w4 → fX5_minds_L9 a0 a1 n K G Q' m w0 w1 w2 w3 w4 := by
  intro m
  induction m with
  | zero => intro w0 w1 w2 w3 w4 h; exact absurd h id
  | succ m ih =>
    intro w0 w1 w2 w3 w4
    unfold fX5_minds_L9
    exact (mo_fJ5_size (fun _ => (n_iteM (hQ _ _) (mo_fX5_isFetched (fun _ => (n_iteM (And.imp_right (And.imp_right (And.imp_right (And.imp_right (n_iteM (mo_fX5_wants (fun _ _ => (n_iteM (mo_fX5_minds_J81 (fun _ _ _ _ _ => (ih _ _ _ _ _)) hQ ) (n_iteM (mo_fX5_minds_J81 (fun _ _ _ _ _ => (ih _ _ _ _ _)) hQ ) (mo_fX5_minds_J88 (fun _ _ _ _ _ => (ih _ _ _ _ _)) hQ )))) ) (mo_fX5_minds_J88 (fun _ _ _ _ _ => (ih _ _ _ _ _)) hQ )))))) (mo_fX5_minds_J88 (fun _ _ _ _ _ => (ih _ _ _ _ _)) hQ ))) ))) )
theorem mo_fX5_minds {a0 : Nat} {a1 : Nat} {n : Nat} {K : Nat → pKd} {A : pA} {G : pG} {p2 : Int32} {Q Q' : Int32 → pA → Prop} (hQ : ∀ b0 b1, Q b0 b1 → Q' b0 b1) : fX5_minds a0 a1 n K A G p2 Q → fX5_minds a0 a1 n K A G p2 Q' := by
  unfold fX5_minds
  exact (Exists.imp fun _ => (mo_fX5_minds_L9 hQ _ _ _ _ _ _))
theorem mo_fX5_hunts {a0 : Nat} {a1 : Nat} {n : Nat} {K : Nat → pKd} {A : pA} {G : pG} {p2 : Int32} {Q Q' : pA → Prop} (hQ : ∀ b0, Q b0 → Q' b0) : fX5_hunts a0 a1 n K A G p2 Q → fX5_hunts a0 a1 n K A G p2 Q' := by
  unfold fX5_hunts
  exact (mo_fX5_minds (fun _ _ => (n_iteM (And.imp_right (And.imp_right (n_iteM (And.imp_right (And.imp_right (And.imp_right (And.imp_right (n_iteM (mo_fX5_takesOf (fun _ _ => (And.imp_right (And.imp_right (forall_imp fun _ => (forall_imp fun _ => (And.imp_right (And.imp_right (forall_imp fun _ => (forall_imp fun _ => (And.imp_right (And.imp_right (forall_imp fun _ => (forall_imp fun _ => (hQ _)))))))))))))) ) (forall_imp fun _ => (forall_imp fun _ => (And.imp_right (And.imp_right (forall_imp fun _ => (forall_imp fun _ => (And.imp_right (forall_imp fun _ => (forall_imp fun _ => (And.imp_right (forall_imp fun _ => (forall_imp fun _ => (hQ _)))))))))))))))))) (And.imp_right (And.imp_right (mo_fX4_step (fun _ => (And.imp_right (forall_imp fun _ => (forall_imp fun _ => (hQ _))))) )))))) (hQ _))) )
theorem mo_fX5_forgets_L34 {a0 : Nat} {a1 : Nat} {n : Nat} {K : Nat → pKd} {G : pG} {Q Q' : pA → Prop} (hQ : ∀ b0, Q b0 → Q' b0) : ∀ m w0 w1 w2, fX5_forgets_L34 a0 a1 n K G Q m w0 w1 w2 → fX5_forgets_L34 a0 a1 n K G Q' m w0 w1 w2 := by
  intro m
  induction m with
  | zero => intro w0 w1 w2 h; exact absurd h id
  | succ m ih =>
    intro w0 w1 w2
    unfold fX5_forgets_L34
    exact (mo_fJ5_size (fun _ => (n_iteM (hQ _) (And.imp_right (And.imp_right (And.imp_right (And.imp_right (And.imp_right (forall_imp fun _ => (forall_imp fun _ => (And.imp_right (And.imp_right (And.imp_right (And.imp_right (And.imp_right (forall_imp fun _ => (forall_imp fun _ => (ih _ _ _))))))))))))))))) )
theorem mo_fX5_forgets_L2 {a0 : Nat} {a1 : Nat} {n : Nat} {K : Nat → pKd} {G : pG} {Q Q' : pA → Prop} (hQ : ∀ b0, Q b0 → Q' b0) : ∀ m w0 w1 w2, fX5_forgets_L2 a0 a1 n K G Q m w0 w1 w2 → fX5_forgets_L2 a0 a1 n K G Q' m w0 w1 w2 := by
  intro m
  induction m with
  | zero => intro w0 w1 w2 h; exact absurd h id
  | succ m ih =>
    intro w0 w1 w2
    unfold fX5_forgets_L2
    exact (mo_fJ5_size (fun _ => (n_iteM (Exists.imp fun _ => (mo_fX5_forgets_L34 hQ _ _ _ _)) (mo_fX5_fades (fun _ _ => (And.imp_right (forall_imp fun _ => (forall_imp fun _ => (ih _ _ _))))) ))) )
theorem mo_fX5_forgets {a0 : Nat} {a1 : Nat} {n : Nat} {K : Nat → pKd} {A : pA} {G : pG} {p2 : Int32} {Q Q' : pA → Prop} (hQ : ∀ b0, Q b0 → Q' b0) : fX5_forgets a0 a1 n K A G p2 Q → fX5_forgets a0 a1 n K A G p2 Q' := by
  unfold fX5_forgets
  exact (Exists.imp fun _ => (mo_fX5_forgets_L2 hQ _ _ _ _))
theorem mo_fX8_goes {a0 : Nat} {a1 : Nat} {a2 : Nat} {n : Nat} {K : Nat → pKd} {A : pA} {G : pG} {Q Q' : pA → Prop} (hQ : ∀ b0, Q b0 → Q' b0) : fX8_goes a0 a1 a2 n K A G Q → fX8_goes a0 a1 a2 n K A G Q' := by
  unfold fX8_goes
  exact (mo_fX5_rests (fun _ => (hQ _)) )
theorem mo_fX9_goes_L2 {a0 : Nat} {a1 : Nat} {a2 : Nat} {n : Nat} {K : Nat → pKd} {G : pG} {Q Q' : pA → Prop} (hQ : ∀ b0, Q b0 → Q' b0) : ∀ m w0 w1, fX9_goes_L2 a0 a1 a2 n K G Q m w0 w1 → fX9_goes_L2 a0 a1 a2 n K G Q' m w0 w1 := by
  intro m
  induction m with
  | zero => intro w0 w1 h; exact absurd h id
  | succ m ih =>
    intro w0 w1
    unfold fX9_goes_L2
    exact (mo_fJ5_size (fun _ => (n_iteM (hQ _) (mo_fX5_hunts (fun _ => (ih _ _)) ))) )
theorem mo_fX9_goes {a0 : Nat} {a1 : Nat} {a2 : Nat} {n : Nat} {K : Nat → pKd} {A : pA} {G : pG} {Q Q' : pA → Prop} (hQ : ∀ b0, Q b0 → Q' b0) : fX9_goes a0 a1 a2 n K A G Q → fX9_goes a0 a1 a2 n K A G Q' := by
  unfold fX9_goes
  exact (Exists.imp fun _ => (mo_fX9_goes_L2 hQ _ _ _))
theorem mo_fTime {o : Nat} {t : Nat} {j : Nat} {n : Nat} {K : Nat → pKd} {A : pA} {G : pG} {Q Q' : pA → Prop} (hQ : ∀ b0, Q b0 → Q' b0) : fTime o t j n K A G Q → fTime o t j n K A G Q' := by
  unfold fTime
  exact (Or.imp (And.imp_right (mo_fX8_goes hQ )) (And.imp_right (mo_fX9_goes hQ )))
theorem mo_fX5_goesBy_J27 {a0 : Nat} {a1 : Nat} {n : Nat} {K : Nat → pKd} {G : pG} {l3 : Int32} {A : pA} {k2 k2' : Int32 → pA → Prop} {Q Q' : pA → Prop} (hk2 : ∀ b0 b1, k2 b0 b1 → k2' b0 b1) (hQ : ∀ b0, Q b0 → Q' b0) : fX5_goesBy_J27 a0 a1 n K G k2 Q l3 A → fX5_goesBy_J27 a0 a1 n K G k2' Q' l3 A := by
  unfold fX5_goesBy_J27
  exact (hk2 _ _)
theorem mo_fX5_goesBy_L78 {a0 : Nat} {a1 : Nat} {n : Nat} {K : Nat → pKd} {G : pG} {Q Q' : pA → Prop} (hQ : ∀ b0, Q b0 → Q' b0) : ∀ m w0 w1, fX5_goesBy_L78 a0 a1 n K G Q m w0 w1 → fX5_goesBy_L78 a0 a1 n K G Q' m w0 w1 := by
  intro m
  induction m with
  | zero => intro w0 w1 h; exact absurd h id
  | succ m ih =>
    intro w0 w1
    unfold fX5_goesBy_L78
    exact (mo_fJ5_size (fun _ => (n_iteM (hQ _) (mo_fX5_forgets (fun _ => (ih _ _)) ))) )
theorem mo_fX5_goesBy_J51 {a0 : Nat} {a1 : Nat} {n : Nat} {K : Nat → pKd} {G : pG} {s0 : Int32} {A : pA} {Q Q' : pA → Prop} (hQ : ∀ b0, Q b0 → Q' b0) : fX5_goesBy_J51 a0 a1 n K G Q s0 A → fX5_goesBy_J51 a0 a1 n K G Q' s0 A := by
  unfold fX5_goesBy_J51
  exact (And.imp_right (mo_fTime (fun _ => (forall_imp fun _ => (forall_imp fun _ => (mo_fX5_minute (fun _ => (n_iteM (Exists.imp fun _ => (mo_fX5_goesBy_L78 hQ _ _ _)) (hQ _))) )))) ))
theorem mo_fX5_goesBy_L2 {a0 : Nat} {a1 : Nat} {n : Nat} {K : Nat → pKd} {G : pG} {Q Q' : pA → Prop} (hQ : ∀ b0, Q b0 → Q' b0) : ∀ m w0 w1, fX5_goesBy_L2 a0 a1 n K G Q m w0 w1 → fX5_goesBy_L2 a0 a1 n K G Q' m w0 w1 := by
  intro m
  induction m with
  | zero => intro w0 w1 h; exact absurd h id
  | succ m ih =>
    intro w0 w1
    unfold fX5_goesBy_L2
    exact (mo_fJ5_size (fun _ => (n_iteM (mo_fX5_minute (fun _ => (mo_fX4_isHour (fun _ => (n_iteM (mo_fX5_goesBy_J51 hQ ) (mo_fX5_goesBy_J51 hQ ))) )) ) (mo_fX5_isFetched (fun _ => (n_iteM (mo_fX5_walks (fun _ => (mo_fX5_goesBy_J27 (fun _ _ => (ih _ _)) hQ )) ) (mo_fX5_goesBy_J27 (fun _ _ => (ih _ _)) hQ ))) ))) )
theorem mo_fX5_goesBy {a0 : Nat} {a1 : Nat} {n : Nat} {K : Nat → pKd} {A : pA} {G : pG} {Q Q' : pA → Prop} (hQ : ∀ b0, Q b0 → Q' b0) : fX5_goesBy a0 a1 n K A G Q → fX5_goesBy a0 a1 n K A G Q' := by
  unfold fX5_goesBy
  exact (Exists.imp fun _ => (mo_fX5_goesBy_L2 hQ _ _ _))
theorem mo_fX0_mind_J16 {tx : Nat} {n : Nat} {K : Nat → pKd} {G : pG} {A : pA} {Q Q' : Int32 → pA → Prop} (hQ : ∀ b0 b1, Q b0 b1 → Q' b0 b1) : fX0_mind_J16 tx n K G Q A → fX0_mind_J16 tx n K G Q' A := by
  unfold fX0_mind_J16
  exact (hQ _ _)
theorem mo_fX0_mind {tx : Nat} {n : Nat} {K : Nat → pKd} {A : pA} {G : pG} {p1 : Int32} {p2 : Int32} {p3 : Int32} {Q Q' : Int32 → pA → Prop} (hQ : ∀ b0 b1, Q b0 b1 → Q' b0 b1) : fX0_mind tx n K A G p1 p2 p3 Q → fX0_mind tx n K A G p1 p2 p3 Q' := by
  unfold fX0_mind
  exact (mo_fX0_isDog (fun _ => (n_iteM (mo_fX0_mind_J16 hQ ) (mo_fX0_isPerson (fun _ => (n_iteM (mo_fX0_mind_J16 hQ ) (n_iteM (And.imp_right (And.imp_right (hQ _ _))) (n_iteM (And.imp_right (And.imp_right (hQ _ _))) (n_iteM (mo_fX5_wants (fun _ _ => (hQ _ _)) ) (n_iteM (mo_fX5_takesOf (fun _ _ => (hQ _ _)) ) (n_iteM (mo_fX5_fades (fun _ _ => (hQ _ _)) ) (hQ _ _)))))))) ))) )
theorem mo_fX0_keeps {tx : Nat} {A : pA} {Q Q' : pA → Prop} (hQ : ∀ b0, Q b0 → Q' b0) : fX0_keeps tx A Q → fX0_keeps tx A Q' := by
  unfold fX0_keeps
  exact (And.imp_right (mo_fX5_takes (fun _ => (forall_imp fun _ => (forall_imp fun _ => (forall_imp fun _ => (forall_imp fun _ => (hQ _)))))) ))
theorem mo_fX0_go_J45 {tx : Nat} {l1 : Int32} {s0 : Int32} {A : pA} {Q Q' : Int32 → pA → Prop} (hQ : ∀ b0 b1, Q b0 b1 → Q' b0 b1) : fX0_go_J45 tx Q l1 s0 A → fX0_go_J45 tx Q' l1 s0 A := by
  unfold fX0_go_J45
  exact (And.imp_right (n_iteM (hQ _ _) (mo_fX0_keeps (fun _ => (And.imp_right (forall_imp fun _ => (forall_imp fun _ => (hQ _ _))))) )))
theorem mo_fX0_go_J21 {tx : Nat} {l1 : Int32} {l2 : Int32} {A : pA} {Q Q' : Int32 → pA → Prop} (hQ : ∀ b0 b1, Q b0 b1 → Q' b0 b1) : fX0_go_J21 tx Q l1 l2 A → fX0_go_J21 tx Q' l1 l2 A := by
  unfold fX0_go_J21
  exact (mo_fX5_isFetched (fun _ => (n_iteM (n_iteM (mo_fX0_go_J45 hQ ) (mo_fX0_go_J45 hQ )) (hQ _ _))) )
theorem mo_fX0_go {tx : Nat} {A : pA} {p1 : Int32} {p2 : Int32} {Q Q' : Int32 → pA → Prop} (hQ : ∀ b0 b1, Q b0 b1 → Q' b0 b1) : fX0_go tx A p1 p2 Q → fX0_go tx A p1 p2 Q' := by
  unfold fX0_go
  exact (mo_fX0_isPerson (fun _ => (n_iteM (hQ _ _) (n_iteM (mo_fX0_go_J21 hQ ) (mo_fX0_isPlace (fun _ => (n_iteM (hQ _ _) (mo_fX0_go_J21 hQ ))) )))) )
theorem mo_fX0_give {tx : Nat} {A : pA} {p1 : Int32} {p2 : Int32} {p3 : Int32} {Q Q' : Int32 → pA → Prop} (hQ : ∀ b0 b1, Q b0 b1 → Q' b0 b1) : fX0_give tx A p1 p2 p3 Q → fX0_give tx A p1 p2 p3 Q' := by
  unfold fX0_give
  exact (mo_fX0_isPerson (fun _ => (n_iteM (hQ _ _) (mo_fX0_isDog (fun _ => (n_iteM (hQ _ _) (mo_fX0_isIn (fun _ => (n_iteM (hQ _ _) (mo_fX0_areTogether (fun _ => (n_iteM (hQ _ _) (And.imp_right (n_iteM (hQ _ _) (And.imp_right (And.imp_right (n_iteM (mo_fX0_keeps (fun _ => (And.imp_right (And.imp_right (forall_imp fun _ => (forall_imp fun _ => (And.imp_right (And.imp_right (And.imp_right (forall_imp fun _ => (forall_imp fun _ => (And.imp_right (And.imp_right (hQ _ _))))))))))))) ) (hQ _ _)))))))) ))) ))) ))) )
theorem mo_fX0_kick {tx : Nat} {A : pA} {p1 : Int32} {p2 : Int32} {Q Q' : Int32 → pA → Prop} (hQ : ∀ b0 b1, Q b0 b1 → Q' b0 b1) : fX0_kick tx A p1 p2 Q → fX0_kick tx A p1 p2 Q' := by
  unfold fX0_kick
  exact (mo_fX0_isPerson (fun _ => (n_iteM (hQ _ _) (mo_fX0_isDog (fun _ => (n_iteM (hQ _ _) (mo_fX0_areTogether (fun _ => (n_iteM (hQ _ _) (And.imp_right (And.imp_right (n_iteM (hQ _ _) (mo_fX0_keeps (fun _ => (And.imp_right (And.imp_right (And.imp_right (forall_imp fun _ => (forall_imp fun _ => (And.imp_right (And.imp_right (hQ _ _))))))))) )))))) ))) ))) )
theorem mo_fX0_runs_L2 {tx : Nat} {a1 : Nat} {n : Nat} {K : Nat → pKd} {G : pG} {Q Q' : pA → Prop} (hQ : ∀ b0, Q b0 → Q' b0) : ∀ m w0 w1 w2, fX0_runs_L2 tx a1 n K G Q m w0 w1 w2 → fX0_runs_L2 tx a1 n K G Q' m w0 w1 w2 := by
  intro m
  induction m with
  | zero => intro w0 w1 w2 h; exact absurd h id
  | succ m ih =>
    intro w0 w1 w2
    unfold fX0_runs_L2
    exact (n_iteM (hQ _) (mo_fX5_goesBy (fun _ => (ih _ _ _)) ))
theorem mo_fX0_runs {tx : Nat} {a1 : Nat} {n : Nat} {K : Nat → pKd} {A : pA} {G : pG} {p2 : Int32} {Q Q' : pA → Prop} (hQ : ∀ b0, Q b0 → Q' b0) : fX0_runs tx a1 n K A G p2 Q → fX0_runs tx a1 n K A G p2 Q' := by
  unfold fX0_runs
  exact (Exists.imp fun _ => (mo_fX0_runs_L2 hQ _ _ _ _))
theorem mo_fX0_minutes_J17 {tx : Nat} {n : Nat} {K : Nat → pKd} {G : pG} {l1 : Int32} {A : pA} {Q Q' : Int32 → pA → Prop} (hQ : ∀ b0 b1, Q b0 b1 → Q' b0 b1) : fX0_minutes_J17 tx n K G Q l1 A → fX0_minutes_J17 tx n K G Q' l1 A := by
  unfold fX0_minutes_J17
  exact (mo_fX0_runs (fun _ => (hQ _ _)) )
theorem mo_fX0_minutes {tx : Nat} {n : Nat} {K : Nat → pKd} {A : pA} {G : pG} {p1 : Int32} {Q Q' : Int32 → pA → Prop} (hQ : ∀ b0 b1, Q b0 b1 → Q' b0 b1) : fX0_minutes tx n K A G p1 Q → fX0_minutes tx n K A G p1 Q' := by
  unfold fX0_minutes
  exact (mo_fX0_isAhead (fun _ => (n_iteM (hQ _ _) (n_iteM (mo_fX0_minutes_J17 hQ ) (mo_fX0_keeps (fun _ => (mo_fX0_minutes_J17 hQ )) )))) )
theorem mo_fX0_undo {tx : Nat} {A : pA} {Q Q' : Int32 → pA → Prop} (hQ : ∀ b0 b1, Q b0 b1 → Q' b0 b1) : fX0_undo tx A Q → fX0_undo tx A Q' := by
  unfold fX0_undo
  exact (n_iteM (hQ _ _) (forall_imp fun _ => (forall_imp fun _ => (forall_imp fun _ => (forall_imp fun _ => (And.imp_right (mo_fX5_takes (fun _ => (hQ _ _)) )))))))
theorem mo_fX0_minds {tx : Nat} {n : Nat} {K : Nat → pKd} {A : pA} {G : pG} {p1 : Int32} {Q Q' : Int32 → pA → Prop} (hQ : ∀ b0 b1, Q b0 b1 → Q' b0 b1) : fX0_minds tx n K A G p1 Q → fX0_minds tx n K A G p1 Q' := by
  unfold fX0_minds
  exact (mo_fX0_isDog (fun _ => (n_iteM (hQ _ _) (mo_fX5_minds (fun _ _ => (hQ _ _)) ))) )
theorem mo_fX0_grudge_L31 {tx : Nat} {n : Nat} {K : Nat → pKd} {G : pG} {Q Q' : Int32 → pA → Prop} (hQ : ∀ b0 b1, Q b0 b1 → Q' b0 b1) : ∀ m w0 w1 w2 w3, fX0_grudge_L31 tx n K G Q m w0 w1 w2 w3 → fX0_grudge_L31 tx n K G Q' m w0 w1 w2 w3 := by
  intro m
  induction m with
  | zero => intro w0 w1 w2 w3 h; exact absurd h id
  | succ m ih =>
    intro w0 w1 w2 w3
    unfold fX0_grudge_L31
    exact (n_iteM (hQ _ _) (And.imp_right (And.imp_right (And.imp_right (And.imp_right (n_iteM (mo_fX5_fades (fun _ _ => (And.imp_right (And.imp_right (And.imp_right (And.imp_right (forall_imp fun _ => (forall_imp fun _ => (And.imp_right (And.imp_right (And.imp_right (And.imp_right (forall_imp fun _ => (forall_imp fun _ => (ih _ _ _ _)))))))))))))) ) (hQ _ _)))))))
theorem mo_fX0_grudge {tx : Nat} {n : Nat} {K : Nat → pKd} {A : pA} {G : pG} {p1 : Int32} {p2 : Int32} {Q Q' : Int32 → pA → Prop} (hQ : ∀ b0 b1, Q b0 b1 → Q' b0 b1) : fX0_grudge tx n K A G p1 p2 Q → fX0_grudge tx n K A G p1 p2 Q' := by
  unfold fX0_grudge
  exact (mo_fX0_isDog (fun _ => (n_iteM (hQ _ _) (mo_fX0_isPerson (fun _ => (n_iteM (hQ _ _) (mo_fX5_takes (fun _ => (Exists.imp fun _ => (mo_fX0_grudge_L31 hQ _ _ _ _ _))) ))) ))) )
theorem mo_fX0_share_L14 {tx : Nat} {n : Nat} {K : Nat → pKd} {G : pG} {Q Q' : Int32 → pA → Prop} (hQ : ∀ b0 b1, Q b0 b1 → Q' b0 b1) : ∀ m w0 w1 w2 w3, fX0_share_L14 tx n K G Q m w0 w1 w2 w3 → fX0_share_L14 tx n K G Q' m w0 w1 w2 w3 := by
  intro m
  induction m with
  | zero => intro w0 w1 w2 w3 h; exact absurd h id
  | succ m ih =>
    intro w0 w1 w2 w3
    unfold fX0_share_L14
    exact (mo_fX0_dogs (fun _ => (n_iteM (n_iteM (hQ _ _) (mo_fX0_sum (fun _ => (mo_fX5_dues (fun _ _ => (And.imp_right (hQ _ _))) )) )) (mo_fX5_dues (fun _ _ => (ih _ _ _ _)) ))) )
theorem mo_fX0_share {tx : Nat} {n : Nat} {K : Nat → pKd} {A : pA} {G : pG} {p1 : Int32} {Q Q' : Int32 → pA → Prop} (hQ : ∀ b0 b1, Q b0 b1 → Q' b0 b1) : fX0_share tx n K A G p1 Q → fX0_share tx n K A G p1 Q' := by
  unfold fX0_share
  exact (mo_fX0_isDog (fun _ => (n_iteM (hQ _ _) (Exists.imp fun _ => (mo_fX0_share_L14 hQ _ _ _ _ _)))) )
theorem mo_fX0_nextHour_L40 {tx : Nat} {n : Nat} {K : Nat → pKd} {G : pG} {Q Q' : pA → Prop} (hQ : ∀ b0, Q b0 → Q' b0) : ∀ m w0 w1, fX0_nextHour_L40 tx n K G Q m w0 w1 → fX0_nextHour_L40 tx n K G Q' m w0 w1 := by
  intro m
  induction m with
  | zero => intro w0 w1 h; exact absurd h id
  | succ m ih =>
    intro w0 w1
    unfold fX0_nextHour_L40
    exact (n_iteM (hQ _) (And.imp_right (forall_imp fun _ => (forall_imp fun _ => (ih _ _)))))
theorem mo_fX0_nextHour {tx : Nat} {n : Nat} {K : Nat → pKd} {A : pA} {G : pG} {Q Q' : pA → Prop} (hQ : ∀ b0, Q b0 → Q' b0) : fX0_nextHour tx n K A G Q → fX0_nextHour tx n K A G Q' := by
  unfold fX0_nextHour
  exact (mo_fX5_takes (fun _ => (mo_fX0_tillHour (fun _ => (forall_imp fun _ => (forall_imp fun _ => (mo_fX5_rests (fun _ => (Exists.imp fun _ => (mo_fX0_nextHour_L40 hQ _ _ _))) )))) )) )
theorem mo_fX0_fetchedIn_L21 {tx : Nat} {n : Nat} {K : Nat → pKd} {G : pG} {k8 k8' : Int32 → pA → Prop} {Q Q' : Int32 → pA → Prop} (hk8 : ∀ b0 b1, k8 b0 b1 → k8' b0 b1) (hQ : ∀ b0 b1, Q b0 b1 → Q' b0 b1) : ∀ m w0 w1 w2, fX0_fetchedIn_L21 tx n K G k8 Q m w0 w1 w2 → fX0_fetchedIn_L21 tx n K G k8' Q' m w0 w1 w2 := by
  intro m
  induction m with
  | zero => intro w0 w1 w2 h; exact absurd h id
  | succ m ih =>
    intro w0 w1 w2
    unfold fX0_fetchedIn_L21
    exact (mo_fX0_dogs (fun _ => (n_iteM (forall_imp fun _ => (forall_imp fun _ => (hk8 _ _))) (mo_fX5_hunts (fun _ => (ih _ _ _)) ))) )
theorem mo_fX0_fetchedIn_L8 {tx : Nat} {n : Nat} {K : Nat → pKd} {G : pG} {Q Q' : Int32 → pA → Prop} (hQ : ∀ b0 b1, Q b0 b1 → Q' b0 b1) : ∀ m w0 w1, fX0_fetchedIn_L8 tx n K G Q m w0 w1 → fX0_fetchedIn_L8 tx n K G Q' m w0 w1 := by
  intro m
  induction m with
  | zero => intro w0 w1 h; exact absurd h id
  | succ m ih =>
    intro w0 w1
    unfold fX0_fetchedIn_L8
    exact (n_iteM (hQ _ _) (Exists.imp fun _ => (mo_fX0_fetchedIn_L21 (fun _ _ => (ih _ _)) hQ _ _ _ _)))
theorem mo_fX0_fetchedIn {tx : Nat} {n : Nat} {K : Nat → pKd} {A : pA} {G : pG} {Q Q' : Int32 → pA → Prop} (hQ : ∀ b0 b1, Q b0 b1 → Q' b0 b1) : fX0_fetchedIn tx n K A G Q → fX0_fetchedIn tx n K A G Q' := by
  unfold fX0_fetchedIn
  exact (Exists.imp fun _ => (mo_fX0_fetchedIn_L8 hQ _ _ _))
theorem mo_fX0_safeFor_J46 {tx : Nat} {n : Nat} {K : Nat → pKd} {G : pG} {l1 : Int32} {l3 : Int32} {s0 : Int32} {s1 : Int32} {A : pA} {k4 k4' : Int32 → Int32 → Int32 → pA → Prop} {Q Q' : Int32 → pA → Prop} (hk4 : ∀ b0 b1 b2 b3, k4 b0 b1 b2 b3 → k4' b0 b1 b2 b3) (hQ : ∀ b0 b1, Q b0 b1 → Q' b0 b1) : fX0_safeFor_J46 tx n K G k4 Q l1 l3 s0 s1 A → fX0_safeFor_J46 tx n K G k4' Q' l1 l3 s0 s1 A := by
  unfold fX0_safeFor_J46
  exact (hk4 _ _ _ _)
theorem mo_fX0_safeFor_L4 {tx : Nat} {n : Nat} {K : Nat → pKd} {G : pG} {Q Q' : Int32 → pA → Prop} (hQ : ∀ b0 b1, Q b0 b1 → Q' b0 b1) : ∀ m w0 w1 w2 w3, fX0_safeFor_L4 tx n K G Q m w0 w1 w2 w3 → fX0_safeFor_L4 tx n K G Q' m w0 w1 w2 w3 := by
  intro m
  induction m with
  | zero => intro w0 w1 w2 w3 h; exact absurd h id
  | succ m ih =>
    intro w0 w1 w2 w3
    unfold fX0_safeFor_L4
    exact (mo_fX0_places (fun _ => (n_iteM (hQ _ _) (mo_fX0_nextHour (fun _ => (And.imp_right (forall_imp fun _ => (forall_imp fun _ => (mo_fX0_fetchedIn (fun _ _ => (n_iteM (mo_fX0_safeFor_J46 (fun _ _ _ _ => (ih _ _ _ _)) hQ ) (mo_fX0_safeFor_J46 (fun _ _ _ _ => (ih _ _ _ _)) hQ ))) ))))) ))) )
theorem mo_fX0_safeFor {tx : Nat} {n : Nat} {K : Nat → pKd} {A : pA} {G : pG} {p1 : Int32} {Q Q' : Int32 → pA → Prop} (hQ : ∀ b0 b1, Q b0 b1 → Q' b0 b1) : fX0_safeFor tx n K A G p1 Q → fX0_safeFor tx n K A G p1 Q' := by
  unfold fX0_safeFor
  exact (Exists.imp fun _ => (mo_fX0_safeFor_L4 hQ _ _ _ _ _))
theorem mo_fX0_safe {tx : Nat} {n : Nat} {K : Nat → pKd} {A : pA} {G : pG} {p1 : Int32} {Q Q' : Int32 → pA → Prop} (hQ : ∀ b0 b1, Q b0 b1 → Q' b0 b1) : fX0_safe tx n K A G p1 Q → fX0_safe tx n K A G p1 Q' := by
  unfold fX0_safe
  exact (mo_fX0_isPerson (fun _ => (n_iteM (hQ _ _) (mo_fX0_safeFor (fun _ _ => (hQ _ _)) ))) )
theorem mo_fX0_refuge_J102 {tx : Nat} {n : Nat} {K : Nat → pKd} {G : pG} {l1 : Int32} {l2 : Int32} {l3 : Int32} {l4 : Int32} {l5 : Int32} {l6 : Int32} {A : pA} {k37 k37' : Int32 → Int32 → Int32 → Int32 → Int32 → Int32 → pA → Prop} {Q Q' : Int32 → pA → Prop} (hk37 : ∀ b0 b1 b2 b3 b4 b5 b6, k37 b0 b1 b2 b3 b4 b5 b6 → k37' b0 b1 b2 b3 b4 b5 b6) (hQ : ∀ b0 b1, Q b0 b1 → Q' b0 b1) : fX0_refuge_J102 tx n K G k37 Q l1 l2 l3 l4 l5 l6 A → fX0_refuge_J102 tx n K G k37' Q' l1 l2 l3 l4 l5 l6 A := by
  unfold fX0_refuge_J102
  exact (hk37 _ _ _ _ _ _ _)
theorem mo_fX0_refuge_J82 {tx : Nat} {n : Nat} {K : Nat → pKd} {G : pG} {l1 : Int32} {l2 : Int32} {l3 : Int32} {l4 : Int32} {l5 : Int32} {l6 : Int32} {s0 : Int32} {A : pA} {k37 k37' : Int32 → Int32 → Int32 → Int32 → Int32 → Int32 → pA → Prop} {Q Q' : Int32 → pA → Prop} (hk37 : ∀ b0 b1 b2 b3 b4 b5 b6, k37 b0 b1 b2 b3 b4 b5 b6 → k37' b0 b1 b2 b3 b4 b5 b6) (hQ : ∀ b0 b1, Q b0 b1 → Q' b0 b1) : fX0_refuge_J82 tx n K G k37 Q l1 l2 l3 l4 l5 l6 s0 A → fX0_refuge_J82 tx n K G k37' Q' l1 l2 l3 l4 l5 l6 s0 A := by
  unfold fX0_refuge_J82
  exact (n_iteM (mo_fX0_refuge_J102 hk37 hQ ) (mo_fX0_refuge_J102 hk37 hQ ))
theorem mo_fX0_refuge_L37 {tx : Nat} {n : Nat} {K : Nat → pKd} {G : pG} {Q Q' : Int32 → pA → Prop} (hQ : ∀ b0 b1, Q b0 b1 → Q' b0 b1) : ∀ m w0 w1 w2 w3 w4 w5 w6, fX0_refuge_L37 tx n K G Q m w0 w1 w2 w3 w4 w5 w6 → fX0_refuge_L37 tx n K G Q' m w0 w1 w2 w3 w4 w5 w6 := by
  intro m
  induction m with
  | zero => intro w0 w1 w2 w3 w4 w5 w6 h; exact absurd h id
  | succ m ih =>
    intro w0 w1 w2 w3 w4 w5 w6
    unfold fX0_refuge_L37
    exact (mo_fX0_places (fun _ => (n_iteM (n_iteM (hQ _ _) (n_iteM (hQ _ _) (hQ _ _))) (n_iteM (And.imp_right (And.imp_right (And.imp_right (mo_fX0_refuge_J82 (fun _ _ _ _ _ _ _ => (ih _ _ _ _ _ _ _)) hQ )))) (mo_fX0_refuge_J82 (fun _ _ _ _ _ _ _ => (ih _ _ _ _ _ _ _)) hQ )))) )
theorem mo_fX0_refuge {tx : Nat} {n : Nat} {K : Nat → pKd} {A : pA} {G : pG} {p1 : Int32} {p2 : Int32} {Q Q' : Int32 → pA → Prop} (hQ : ∀ b0 b1, Q b0 b1 → Q' b0 b1) : fX0_refuge tx n K A G p1 p2 Q → fX0_refuge tx n K A G p1 p2 Q' := by
  unfold fX0_refuge
  exact (mo_fX0_isPerson (fun _ => (n_iteM (hQ _ _) (mo_fX0_isIn (fun _ => (n_iteM (hQ _ _) (mo_fX0_safeFor (fun _ _ => (Exists.imp fun _ => (mo_fX0_refuge_L37 hQ _ _ _ _ _ _ _ _))) ))) ))) )
theorem mo_fX0_loses {tx : Nat} {n : Nat} {K : Nat → pKd} {A : pA} {G : pG} {p1 : Int32} {Q Q' : Int32 → pA → Prop} (hQ : ∀ b0 b1, Q b0 b1 → Q' b0 b1) : fX0_loses tx n K A G p1 Q → fX0_loses tx n K A G p1 Q' := by
  unfold fX0_loses
  exact (mo_fX0_isPerson (fun _ => (n_iteM (hQ _ _) (mo_fX0_nextHour (fun _ => (mo_fX0_fetchedIn (fun _ _ => (And.imp_right (And.imp_right (hQ _ _)))) )) ))) )
theorem mo_fX0_fetched {tx : Nat} {n : Nat} {K : Nat → pKd} {A : pA} {G : pG} {Q Q' : Int32 → pA → Prop} (hQ : ∀ b0 b1, Q b0 b1 → Q' b0 b1) : fX0_fetched tx n K A G Q → fX0_fetched tx n K A G Q' := by
  unfold fX0_fetched
  exact (mo_fX0_nextHour (fun _ => (mo_fX0_fetchedIn (fun _ _ => (hQ _ _)) )) )
theorem mo_fX0_then {tx : Nat} {n : Nat} {K : Nat → pKd} {A : pA} {G : pG} {p1 : Int32} {p2 : Int32} {p3 : Int32} {Q Q' : Int32 → pA → Prop} (hQ : ∀ b0 b1, Q b0 b1 → Q' b0 b1) : fX0_then tx n K A G p1 p2 p3 Q → fX0_then tx n K A G p1 p2 p3 Q' := by
  unfold fX0_then
  exact (mo_fX0_isPerson (fun _ => (n_iteM (hQ _ _) (mo_fX0_isAhead (fun _ => (n_iteM (hQ _ _) (mo_fX0_isIn (fun _ => (n_iteM (hQ _ _) (mo_fX5_takes (fun _ => (mo_fX0_runs (fun _ => (n_iteM (And.imp_right (hQ _ _)) (n_iteM (And.imp_right (hQ _ _)) (n_iteM (mo_fX5_isFetched (fun _ => (n_iteM (hQ _ _) (hQ _ _))) ) (mo_fX0_leftOf (fun _ => (hQ _ _)) ))))) )) ))) ))) ))) )
theorem mo_fX0_dogIn {tx : Nat} {n : Nat} {K : Nat → pKd} {A : pA} {G : pG} {p1 : Int32} {p2 : Int32} {Q Q' : Int32 → pA → Prop} (hQ : ∀ b0 b1, Q b0 b1 → Q' b0 b1) : fX0_dogIn tx n K A G p1 p2 Q → fX0_dogIn tx n K A G p1 p2 Q' := by
  unfold fX0_dogIn
  exact (mo_fX0_isDog (fun _ => (n_iteM (hQ _ _) (mo_fX0_isAhead (fun _ => (n_iteM (hQ _ _) (mo_fX5_takes (fun _ => (mo_fX0_runs (fun _ => (And.imp_right (hQ _ _))) )) ))) ))) )
theorem mo_fX0_first_J98 {tx : Nat} {n : Nat} {K : Nat → pKd} {G : pG} {l1 : Int32} {l2 : Int32} {l3 : Int32} {A : pA} {k48 k48' : Int32 → Int32 → Int32 → pA → Prop} {Q Q' : Int32 → pA → Prop} (hk48 : ∀ b0 b1 b2 b3, k48 b0 b1 b2 b3 → k48' b0 b1 b2 b3) (hQ : ∀ b0 b1, Q b0 b1 → Q' b0 b1) : fX0_first_J98 tx n K G k48 Q l1 l2 l3 A → fX0_first_J98 tx n K G k48' Q' l1 l2 l3 A := by
  unfold fX0_first_J98
  exact (hk48 _ _ _ _)
theorem mo_fX0_first_L48 {tx : Nat} {n : Nat} {K : Nat → pKd} {G : pG} {k24 k24' : Int32 → Int32 → pA → Prop} {Q Q' : Int32 → pA → Prop} (hk24 : ∀ b0 b1 b2, k24 b0 b1 b2 → k24' b0 b1 b2) (hQ : ∀ b0 b1, Q b0 b1 → Q' b0 b1) : ∀ m w0 w1 w2 w3, fX0_first_L48 tx n K G k24 Q m w0 w1 w2 w3 → fX0_first_L48 tx n K G k24' Q' m w0 w1 w2 w3 := by
  intro m
  induction m with
  | zero => intro w0 w1 w2 w3 h; exact absurd h id
  | succ m ih =>
    intro w0 w1 w2 w3
    unfold fX0_first_L48
    exact (mo_fX0_people (fun _ => (n_iteM (hk24 _ _ _) (mo_fX5_isFetched (fun _ => (n_iteM (And.imp_right (And.imp_right (n_iteM (mo_fX0_first_J98 (fun _ _ _ _ => (ih _ _ _ _)) hQ ) (n_iteM (hQ _ _) (hQ _ _))))) (mo_fX0_first_J98 (fun _ _ _ _ => (ih _ _ _ _)) hQ ))) ))) )
theorem mo_fX0_first_L24 {tx : Nat} {n : Nat} {K : Nat → pKd} {G : pG} {Q Q' : Int32 → pA → Prop} (hQ : ∀ b0 b1, Q b0 b1 → Q' b0 b1) : ∀ m w0 w1 w2, fX0_first_L24 tx n K G Q m w0 w1 w2 → fX0_first_L24 tx n K G Q' m w0 w1 w2 := by
  intro m
  induction m with
  | zero => intro w0 w1 w2 h; exact absurd h id
  | succ m ih =>
    intro w0 w1 w2
    unfold fX0_first_L24
    exact (n_iteM (hQ _ _) (mo_fX5_goesBy (fun _ => (Exists.imp fun _ => (mo_fX0_first_L48 (fun _ _ _ => (ih _ _ _)) hQ _ _ _ _ _))) ))
theorem mo_fX0_first {tx : Nat} {n : Nat} {K : Nat → pKd} {A : pA} {G : pG} {p1 : Int32} {Q Q' : Int32 → pA → Prop} (hQ : ∀ b0 b1, Q b0 b1 → Q' b0 b1) : fX0_first tx n K A G p1 Q → fX0_first tx n K A G p1 Q' := by
  unfold fX0_first
  exact (mo_fX0_isIn (fun _ => (n_iteM (hQ _ _) (mo_fX5_takes (fun _ => (Exists.imp fun _ => (mo_fX0_first_L24 hQ _ _ _ _))) ))) )
theorem mo_fX0_kicksBy_J103 {tx : Nat} {n : Nat} {K : Nat → pKd} {G : pG} {l1 : Int32} {l3 : Int32} {l4 : Int32} {s0 : Int32} {s1 : Int32} {A : pA} {k15 k15' : Int32 → Int32 → Int32 → Int32 → pA → Prop} {Q Q' : Int32 → pA → Prop} (hk15 : ∀ b0 b1 b2 b3 b4, k15 b0 b1 b2 b3 b4 → k15' b0 b1 b2 b3 b4) (hQ : ∀ b0 b1, Q b0 b1 → Q' b0 b1) : fX0_kicksBy_J103 tx n K G k15 Q l1 l3 l4 s0 s1 A → fX0_kicksBy_J103 tx n K G k15' Q' l1 l3 l4 s0 s1 A := by
  unfold fX0_kicksBy_J103
  exact (hk15 _ _ _ _ _)
theorem mo_fX0_kicksBy_L15 {tx : Nat} {n : Nat} {K : Nat → pKd} {G : pG} {k4 k4' : Int32 → Int32 → Int32 → pA → Prop} {Q Q' : Int32 → pA → Prop} (hk4 : ∀ b0 b1 b2 b3, k4 b0 b1 b2 b3 → k4' b0 b1 b2 b3) (hQ : ∀ b0 b1, Q b0 b1 → Q' b0 b1) : ∀ m w0 w1 w2 w3 w4, fX0_kicksBy_L15 tx n K G k4 Q m w0 w1 w2 w3 w4 → fX0_kicksBy_L15 tx n K G k4' Q' m w0 w1 w2 w3 w4 := by
  intro m
  induction m with
  | zero => intro w0 w1 w2 w3 w4 h; exact absurd h id
  | succ m ih =>
    intro w0 w1 w2 w3 w4
    unfold fX0_kicksBy_L15
    exact (mo_fX0_people (fun _ => (n_iteM (hk4 _ _ _ _) (mo_fX0_nextHour (fun _ => (And.imp_right (And.imp_right (And.imp_right (And.imp_right (forall_imp fun _ => (forall_imp fun _ => (mo_fX0_fetchedIn (fun _ _ => (And.imp_right (forall_imp fun _ => (forall_imp fun _ => (And.imp_right (mo_fX0_isSo (fun _ => (n_iteM (mo_fX0_kicksBy_J103 (fun _ _ _ _ _ => (ih _ _ _ _ _)) hQ ) (mo_fX0_kicksBy_J103 (fun _ _ _ _ _ => (ih _ _ _ _ _)) hQ ))) )))))) )))))))) ))) )
theorem mo_fX0_kicksBy_L4 {tx : Nat} {n : Nat} {K : Nat → pKd} {G : pG} {Q Q' : Int32 → pA → Prop} (hQ : ∀ b0 b1, Q b0 b1 → Q' b0 b1) : ∀ m w0 w1 w2 w3, fX0_kicksBy_L4 tx n K G Q m w0 w1 w2 w3 → fX0_kicksBy_L4 tx n K G Q' m w0 w1 w2 w3 := by
  intro m
  induction m with
  | zero => intro w0 w1 w2 w3 h; exact absurd h id
  | succ m ih =>
    intro w0 w1 w2 w3
    unfold fX0_kicksBy_L4
    exact (mo_fX0_dogs (fun _ => (n_iteM (hQ _ _) (Exists.imp fun _ => (mo_fX0_kicksBy_L15 (fun _ _ _ _ => (ih _ _ _ _)) hQ _ _ _ _ _ _)))) )
theorem mo_fX0_kicksBy {tx : Nat} {n : Nat} {K : Nat → pKd} {A : pA} {G : pG} {p1 : Int32} {Q Q' : Int32 → pA → Prop} (hQ : ∀ b0 b1, Q b0 b1 → Q' b0 b1) : fX0_kicksBy tx n K A G p1 Q → fX0_kicksBy tx n K A G p1 Q' := by
  unfold fX0_kicksBy
  exact (Exists.imp fun _ => (mo_fX0_kicksBy_L4 hQ _ _ _ _ _))
theorem mo_fX0_kicks {tx : Nat} {n : Nat} {K : Nat → pKd} {A : pA} {G : pG} {p1 : Int32} {Q Q' : Int32 → pA → Prop} (hQ : ∀ b0 b1, Q b0 b1 → Q' b0 b1) : fX0_kicks tx n K A G p1 Q → fX0_kicks tx n K A G p1 Q' := by
  unfold fX0_kicks
  exact (mo_fX0_isIn (fun _ => (n_iteM (hQ _ _) (mo_fX0_kicksBy (fun _ _ => (mo_fJ16_bitCount (fun _ => (hQ _ _)) )) ))) )
theorem mo_fX0_sure {tx : Nat} {n : Nat} {K : Nat → pKd} {A : pA} {G : pG} {p1 : Int32} {Q Q' : Int32 → pA → Prop} (hQ : ∀ b0 b1, Q b0 b1 → Q' b0 b1) : fX0_sure tx n K A G p1 Q → fX0_sure tx n K A G p1 Q' := by
  unfold fX0_sure
  exact (mo_fX0_isIn (fun _ => (n_iteM (hQ _ _) (mo_fX0_kicksBy (fun _ _ => (mo_fJ16_bitCount (fun _ => (n_iteM (mo_fJ16_numberOfTrailingZeros (fun _ => (hQ _ _)) ) (hQ _ _))) )) ))) )
theorem mo_fX0_ask_J85 {tx : Nat} {n : Nat} {K : Nat → pKd} {G : pG} {l2 : Int32} {l3 : Int32} {l4 : Int32} {l5 : Int32} {l7 : Int32} {s0 : Int32} {s1 : Int32} {A : pA} {k50 k50' : Int32 → Int32 → Int32 → Int32 → Int32 → Int32 → pA → Prop} {Q Q' : Int32 → pA → Prop} (hk50 : ∀ b0 b1 b2 b3 b4 b5 b6, k50 b0 b1 b2 b3 b4 b5 b6 → k50' b0 b1 b2 b3 b4 b5 b6) (hQ : ∀ b0 b1, Q b0 b1 → Q' b0 b1) : fX0_ask_J85 tx n K G k50 Q l2 l3 l4 l5 l7 s0 s1 A → fX0_ask_J85 tx n K G k50' Q' l2 l3 l4 l5 l7 s0 s1 A := by
  unfold fX0_ask_J85
  exact (hk50 _ _ _ _ _ _ _)
theorem mo_fX0_ask_J125 {tx : Nat} {n : Nat} {K : Nat → pKd} {G : pG} {l2 : Int32} {l3 : Int32} {l4 : Int32} {l5 : Int32} {A : pA} {k31 k31' : Int32 → Int32 → Int32 → Int32 → pA → Prop} {Q Q' : Int32 → pA → Prop} (hk31 : ∀ b0 b1 b2 b3 b4, k31 b0 b1 b2 b3 b4 → k31' b0 b1 b2 b3 b4) (hQ : ∀ b0 b1, Q b0 b1 → Q' b0 b1) : fX0_ask_J125 tx n K G k31 Q l2 l3 l4 l5 A → fX0_ask_J125 tx n K G k31' Q' l2 l3 l4 l5 A := by
  unfold fX0_ask_J125
  exact (hk31 _ _ _ _ _)
theorem mo_fX0_ask_L50 {tx : Nat} {n : Nat} {K : Nat → pKd} {G : pG} {k31 k31' : Int32 → Int32 → Int32 → Int32 → pA → Prop} {Q Q' : Int32 → pA → Prop} (hk31 : ∀ b0 b1 b2 b3 b4, k31 b0 b1 b2 b3 b4 → k31' b0 b1 b2 b3 b4) (hQ : ∀ b0 b1, Q b0 b1 → Q' b0 b1) : ∀ m w0 w1 w2 w3 w4 w5 w6, fX0_ask_L50 tx n K G k31 Q m w0 w1 w2 w3 w4 w5 w6 → fX0_ask_L50 tx n K G k31' Q' m w0 w1 w2 w3 w4 w5 w6 := by
  intro m
  induction m with
  | zero => intro w0 w1 w2 w3 w4 w5 w6 h; exact absurd h id
  | succ m ih =>
    intro w0 w1 w2 w3 w4 w5 w6
    unfold fX0_ask_L50
    exact (n_iteM (mo_fJ16_bitCount (fun _ => (n_iteM (mo_fX0_ask_J125 hk31 hQ ) (mo_fX0_ask_J125 hk31 hQ ))) ) (n_iteM (And.imp_right (mo_fX0_ask_J85 (fun _ _ _ _ _ _ _ => (ih _ _ _ _ _ _ _)) hQ )) (mo_fX0_ask_J85 (fun _ _ _ _ _ _ _ => (ih _ _ _ _ _ _ _)) hQ )))
theorem mo_fX0_ask_L31 {tx : Nat} {n : Nat} {K : Nat → pKd} {G : pG} {Q Q' : Int32 → pA → Prop} (hQ : ∀ b0 b1, Q b0 b1 → Q' b0 b1) : ∀ m w0 w1 w2 w3 w4, fX0_ask_L31 tx n K G Q m w0 w1 w2 w3 w4 → fX0_ask_L31 tx n K G Q' m w0 w1 w2 w3 w4 := by
  intro m
  induction m with
  | zero => intro w0 w1 w2 w3 w4 h; exact absurd h id
  | succ m ih =>
    intro w0 w1 w2 w3 w4
    unfold fX0_ask_L31
    exact (mo_fX0_people (fun _ => (n_iteM (hQ _ _) (n_iteM (hQ _ _) (Exists.imp fun _ => (mo_fX0_ask_L50 (fun _ _ _ _ _ => (ih _ _ _ _ _)) hQ _ _ _ _ _ _ _ _))))) )
theorem mo_fX0_ask {tx : Nat} {n : Nat} {K : Nat → pKd} {A : pA} {G : pG} {p1 : Int32} {Q Q' : Int32 → pA → Prop} (hQ : ∀ b0 b1, Q b0 b1 → Q' b0 b1) : fX0_ask tx n K A G p1 Q → fX0_ask tx n K A G p1 Q' := by
  unfold fX0_ask
  exact (mo_fX0_isIn (fun _ => (n_iteM (hQ _ _) (mo_fX0_kicksBy (fun _ _ => (Exists.imp fun _ => (mo_fX0_ask_L31 hQ _ _ _ _ _ _))) ))) )
theorem mo_fX0_hold {tx : Nat} {A : pA} {p1 : Int32} {Q Q' : Int32 → pA → Prop} (hQ : ∀ b0 b1, Q b0 b1 → Q' b0 b1) : fX0_hold tx A p1 Q → fX0_hold tx A p1 Q' := by
  unfold fX0_hold
  exact (mo_fX0_isIn (fun _ => (n_iteM (hQ _ _) (And.imp_right (mo_fX5_takes (fun _ => (And.imp_right (forall_imp fun _ => (forall_imp fun _ => (hQ _ _))))) )))) )
theorem mo_fX0_restore {tx : Nat} {A : pA} {p1 : Int32} {Q Q' : Int32 → pA → Prop} (hQ : ∀ b0 b1, Q b0 b1 → Q' b0 b1) : fX0_restore tx A p1 Q → fX0_restore tx A p1 Q' := by
  unfold fX0_restore
  exact (mo_fX0_isIn (fun _ => (n_iteM (hQ _ _) (And.imp_right (n_iteM (hQ _ _) (And.imp_right (mo_fX5_takes (fun _ => (forall_imp fun _ => (forall_imp fun _ => (hQ _ _)))) )))))) )
theorem mo_fX10_keepsRow_L2  {Q Q' : pA → Prop} (hQ : ∀ b0, Q b0 → Q' b0) : ∀ m w0 w1, fX10_keepsRow_L2 Q m w0 w1 → fX10_keepsRow_L2 Q' m w0 w1 := by
  intro m
  induction m with
  | zero => intro w0 w1 h; exact absurd h id
  | succ m ih =>
    intro w0 w1
    unfold fX10_keepsRow_L2
    exact (n_iteM (hQ _) (And.imp_right (And.imp_right (forall_imp fun _ => (forall_imp fun _ => (ih _ _))))))
theorem mo_fX10_keepsRow {A : pA} {Q Q' : pA → Prop} (hQ : ∀ b0, Q b0 → Q' b0) : fX10_keepsRow A Q → fX10_keepsRow A Q' := by
  unfold fX10_keepsRow
  exact (Exists.imp fun _ => (mo_fX10_keepsRow_L2 hQ _ _ _))
theorem mo_fX10_put_L3  {Q Q' : pA → Prop} (hQ : ∀ b0, Q b0 → Q' b0) : ∀ m w0 w1 w2, fX10_put_L3 Q m w0 w1 w2 → fX10_put_L3 Q' m w0 w1 w2 := by
  intro m
  induction m with
  | zero => intro w0 w1 w2 h; exact absurd h id
  | succ m ih =>
    intro w0 w1 w2
    unfold fX10_put_L3
    exact (n_iteM (hQ _) (And.imp_right (forall_imp fun _ => (forall_imp fun _ => (forall_imp fun _ => (forall_imp fun _ => (ih _ _ _)))))))
theorem mo_fX10_put {A : pA} {p1 : Int32} {Q Q' : pA → Prop} (hQ : ∀ b0, Q b0 → Q' b0) : fX10_put A p1 Q → fX10_put A p1 Q' := by
  unfold fX10_put
  exact (Exists.imp fun _ => (mo_fX10_put_L3 hQ _ _ _ _))
theorem mo_fX10_feed {A : pA} {p1 : Int32} {p2 : Int32} {p3 : Int32} {p4 : Int32} {p5 : Int32} {Q Q' : Int32 → pA → Prop} (hQ : ∀ b0 b1, Q b0 b1 → Q' b0 b1) : fX10_feed A p1 p2 p3 p4 p5 Q → fX10_feed A p1 p2 p3 p4 p5 Q' := by
  unfold fX10_feed
  exact (n_iteM (mo_fX10_put (fun _ => (mo_fX10_put (fun _ => (mo_fX10_put (fun _ => (mo_fX10_put (fun _ => (mo_fX10_put (fun _ => (hQ _ _)) )) )) )) )) ) (hQ _ _))
theorem mo_fX10_back {A : pA} {p1 : Int32} {Q Q' : Int32 → pA → Prop} (hQ : ∀ b0 b1, Q b0 b1 → Q' b0 b1) : fX10_back A p1 Q → fX10_back A p1 Q' := by
  unfold fX10_back
  exact (n_iteM (hQ _ _) (n_iteM (forall_imp fun _ => (forall_imp fun _ => (hQ _ _))) (hQ _ _)))
theorem mo_fX10_place {A : pA} {Q Q' : Int32 → Prop} (hQ : ∀ b0, Q b0 → Q' b0) : fX10_place A Q → fX10_place A Q' := by
  unfold fX10_place
  exact (hQ _)
theorem mo_fX10_bitsOf_J34 {A : pA} {l1 : Int32} {l2 : Int32} {l3 : Int32} {l4 : Int32} {l5 : Int32} {k6 k6' : Int32 → Int32 → Int32 → Int32 → Int32 → Prop} {Q Q' : Int32 → Prop} (hk6 : ∀ b0 b1 b2 b3 b4, k6 b0 b1 b2 b3 b4 → k6' b0 b1 b2 b3 b4) (hQ : ∀ b0, Q b0 → Q' b0) : fX10_bitsOf_J34 A k6 Q l1 l2 l3 l4 l5 → fX10_bitsOf_J34 A k6' Q' l1 l2 l3 l4 l5 := by
  unfold fX10_bitsOf_J34
  exact (hk6 _ _ _ _ _)
theorem mo_fX10_bitsOf_L6 {A : pA} {Q Q' : Int32 → Prop} (hQ : ∀ b0, Q b0 → Q' b0) : ∀ m w0 w1 w2 w3 w4, fX10_bitsOf_L6 A Q m w0 w1 w2 w3 w4 → fX10_bitsOf_L6 A Q' m w0 w1 w2 w3 w4 := by
  intro m
  induction m with
  | zero => intro w0 w1 w2 w3 w4 h; exact absurd h id
  | succ m ih =>
    intro w0 w1 w2 w3 w4
    unfold fX10_bitsOf_L6
    exact (n_iteM (hQ _) (And.imp_right (n_iteM (mo_fX10_bitsOf_J34 (fun _ _ _ _ _ => (ih _ _ _ _ _)) hQ ) (mo_fX10_bitsOf_J34 (fun _ _ _ _ _ => (ih _ _ _ _ _)) hQ ))))
theorem mo_fX10_bitsOf {A : pA} {p1 : Int32} {p2 : Int32} {p3 : Int32} {Q Q' : Int32 → Prop} (hQ : ∀ b0, Q b0 → Q' b0) : fX10_bitsOf A p1 p2 p3 Q → fX10_bitsOf A p1 p2 p3 Q' := by
  unfold fX10_bitsOf
  exact (Exists.imp fun _ => (mo_fX10_bitsOf_L6 hQ _ _ _ _ _ _))
theorem mo_fX10_copies_L2  {Q Q' : pA → Prop} (hQ : ∀ b0, Q b0 → Q' b0) : ∀ m w0 w1, fX10_copies_L2 Q m w0 w1 → fX10_copies_L2 Q' m w0 w1 := by
  intro m
  induction m with
  | zero => intro w0 w1 h; exact absurd h id
  | succ m ih =>
    intro w0 w1
    unfold fX10_copies_L2
    exact (n_iteM (hQ _) (And.imp_right (And.imp_right (forall_imp fun _ => (forall_imp fun _ => (ih _ _))))))
theorem mo_fX10_copies {A : pA} {Q Q' : pA → Prop} (hQ : ∀ b0, Q b0 → Q' b0) : fX10_copies A Q → fX10_copies A Q' := by
  unfold fX10_copies
  exact (Exists.imp fun _ => (mo_fX10_copies_L2 hQ _ _ _))
theorem mo_fX10_errandsLeft_J85 {A : pA} {l1 : Int32} {l2 : Int32} {l3 : Int32} {l4 : Int32} {k5 k5' : Int32 → Int32 → Int32 → Int32 → Prop} {Q Q' : Int32 → Prop} (hk5 : ∀ b0 b1 b2 b3, k5 b0 b1 b2 b3 → k5' b0 b1 b2 b3) (hQ : ∀ b0, Q b0 → Q' b0) : fX10_errandsLeft_J85 A k5 Q l1 l2 l3 l4 → fX10_errandsLeft_J85 A k5' Q' l1 l2 l3 l4 := by
  unfold fX10_errandsLeft_J85
  exact (hk5 _ _ _ _)
theorem mo_fX10_errandsLeft_J82 {A : pA} {l1 : Int32} {l2 : Int32} {l3 : Int32} {l4 : Int32} {k5 k5' : Int32 → Int32 → Int32 → Int32 → Prop} {Q Q' : Int32 → Prop} (hk5 : ∀ b0 b1 b2 b3, k5 b0 b1 b2 b3 → k5' b0 b1 b2 b3) (hQ : ∀ b0, Q b0 → Q' b0) : fX10_errandsLeft_J82 A k5 Q l1 l2 l3 l4 → fX10_errandsLeft_J82 A k5' Q' l1 l2 l3 l4 := by
  unfold fX10_errandsLeft_J82
  exact (mo_fX10_errandsLeft_J85 hk5 hQ )
theorem mo_fX10_errandsLeft_J58 {A : pA} {l1 : Int32} {l2 : Int32} {l3 : Int32} {l4 : Int32} {k5 k5' : Int32 → Int32 → Int32 → Int32 → Prop} {Q Q' : Int32 → Prop} (hk5 : ∀ b0 b1 b2 b3, k5 b0 b1 b2 b3 → k5' b0 b1 b2 b3) (hQ : ∀ b0, Q b0 → Q' b0) : fX10_errandsLeft_J58 A k5 Q l1 l2 l3 l4 → fX10_errandsLeft_J58 A k5' Q' l1 l2 l3 l4 := by
  unfold fX10_errandsLeft_J58
  exact (n_iteM (mo_fX10_errandsLeft_J82 hk5 hQ ) (And.imp_right (n_iteM (mo_fX10_errandsLeft_J82 hk5 hQ ) (mo_fX10_errandsLeft_J85 hk5 hQ ))))
theorem mo_fX10_errandsLeft_L5 {A : pA} {Q Q' : Int32 → Prop} (hQ : ∀ b0, Q b0 → Q' b0) : ∀ m w0 w1 w2 w3, fX10_errandsLeft_L5 A Q m w0 w1 w2 w3 → fX10_errandsLeft_L5 A Q' m w0 w1 w2 w3 := by
  intro m
  induction m with
  | zero => intro w0 w1 w2 w3 h; exact absurd h id
  | succ m ih =>
    intro w0 w1 w2 w3
    unfold fX10_errandsLeft_L5
    exact (And.imp_right (n_iteM (hQ _) (n_iteM (n_iteM (mo_fX10_errandsLeft_J58 (fun _ _ _ _ => (ih _ _ _ _)) hQ ) (And.imp_right (n_iteM (mo_fX10_errandsLeft_J58 (fun _ _ _ _ => (ih _ _ _ _)) hQ ) (mo_fX10_errandsLeft_J85 (fun _ _ _ _ => (ih _ _ _ _)) hQ )))) (mo_fX10_errandsLeft_J85 (fun _ _ _ _ => (ih _ _ _ _)) hQ ))))
theorem mo_fX10_errandsLeft {A : pA} {p1 : Int32} {p2 : Int32} {Q Q' : Int32 → Prop} (hQ : ∀ b0, Q b0 → Q' b0) : fX10_errandsLeft A p1 p2 Q → fX10_errandsLeft A p1 p2 Q' := by
  unfold fX10_errandsLeft
  exact (Exists.imp fun _ => (mo_fX10_errandsLeft_L5 hQ _ _ _ _ _))
theorem mo_fX10_in {A : pA} {p0 : Int32} {p1 : Int32} {p2 : Int32} {Q Q' : Int32 → Prop} (hQ : ∀ b0, Q b0 → Q' b0) : fX10_in A p0 p1 p2 Q → fX10_in A p0 p1 p2 Q' := by
  unfold fX10_in
  exact (n_iteM (hQ _) (n_iteM (hQ _) (hQ _)))
theorem mo_fX10_isPlace {A : pA} {p1 : Int32} {Q Q' : Int32 → Prop} (hQ : ∀ b0, Q b0 → Q' b0) : fX10_isPlace A p1 Q → fX10_isPlace A p1 Q' := by
  unfold fX10_isPlace
  exact (And.imp_right (mo_fX10_in (fun _ => (And.imp_right (hQ _))) ))
theorem mo_fX10_spot {A : pA} {p1 : Int32} {p2 : Int32} {Q Q' : Int32 → pA → Prop} (hQ : ∀ b0 b1, Q b0 b1 → Q' b0 b1) : fX10_spot A p1 p2 Q → fX10_spot A p1 p2 Q' := by
  unfold fX10_spot
  exact (mo_fX10_isPlace (fun _ => (n_iteM (hQ _ _) (mo_fX10_copies (fun _ => (n_iteM (And.imp_right (hQ _ _)) (n_iteM (And.imp_right (mo_fX10_bitsOf (fun _ => (hQ _ _)) )) (n_iteM (And.imp_right (mo_fX10_bitsOf (fun _ => (hQ _ _)) )) (n_iteM (mo_fX10_errandsLeft (fun _ => (hQ _ _)) ) (hQ _ _)))))) ))) )
theorem mo_fX10_isDog {A : pA} {p1 : Int32} {Q Q' : Int32 → Prop} (hQ : ∀ b0, Q b0 → Q' b0) : fX10_isDog A p1 Q → fX10_isDog A p1 Q' := by
  unfold fX10_isDog
  exact (And.imp_right (mo_fX10_in (fun _ => (And.imp_right (hQ _))) ))
theorem mo_fX10_dog {A : pA} {p1 : Int32} {p2 : Int32} {Q Q' : Int32 → Prop} (hQ : ∀ b0, Q b0 → Q' b0) : fX10_dog A p1 p2 Q → fX10_dog A p1 p2 Q' := by
  unfold fX10_dog
  exact (mo_fX10_isDog (fun _ => (n_iteM (hQ _) (n_iteM (And.imp_right (hQ _)) (n_iteM (And.imp_right (hQ _)) (n_iteM (And.imp_right (hQ _)) (n_iteM (And.imp_right (hQ _)) (n_iteM (And.imp_right (hQ _)) (n_iteM (And.imp_right (hQ _)) (hQ _))))))))) )
theorem mo_fX10_isPerson {A : pA} {p1 : Int32} {Q Q' : Int32 → Prop} (hQ : ∀ b0, Q b0 → Q' b0) : fX10_isPerson A p1 Q → fX10_isPerson A p1 Q' := by
  unfold fX10_isPerson
  exact (And.imp_right (mo_fX10_in (fun _ => (And.imp_right (hQ _))) ))
theorem mo_fX10_person {A : pA} {p1 : Int32} {p2 : Int32} {Q Q' : Int32 → pA → Prop} (hQ : ∀ b0 b1, Q b0 b1 → Q' b0 b1) : fX10_person A p1 p2 Q → fX10_person A p1 p2 Q' := by
  unfold fX10_person
  exact (mo_fX10_isPerson (fun _ => (n_iteM (hQ _ _) (mo_fX10_copies (fun _ => (n_iteM (And.imp_right (hQ _ _)) (n_iteM (And.imp_right (hQ _ _)) (n_iteM (And.imp_right (hQ _ _)) (n_iteM (And.imp_right (hQ _ _)) (n_iteM (And.imp_right (hQ _ _)) (n_iteM (mo_fX10_errandsLeft (fun _ => (hQ _ _)) ) (n_iteM (And.imp_right (hQ _ _)) (hQ _ _))))))))) ))) )
theorem mo_fX10_termOf_J159 {l2 : Int32} {l3 : Int32} {l4 : Int32} {A : pA} {k5 k5' : Int32 → Int32 → Int32 → pA → Prop} {Q Q' : Int32 → pA → Prop} (hk5 : ∀ b0 b1 b2 b3, k5 b0 b1 b2 b3 → k5' b0 b1 b2 b3) (hQ : ∀ b0 b1, Q b0 b1 → Q' b0 b1) : fX10_termOf_J159 k5 Q l2 l3 l4 A → fX10_termOf_J159 k5' Q' l2 l3 l4 A := by
  unfold fX10_termOf_J159
  exact (hk5 _ _ _ _)
theorem mo_fX10_termOf_J58 {l2 : Int32} {l3 : Int32} {l4 : Int32} {s0 : Int32} {s1 : Int32} {A : pA} {k5 k5' : Int32 → Int32 → Int32 → pA → Prop} {Q Q' : Int32 → pA → Prop} (hk5 : ∀ b0 b1 b2 b3, k5 b0 b1 b2 b3 → k5' b0 b1 b2 b3) (hQ : ∀ b0 b1, Q b0 b1 → Q' b0 b1) : fX10_termOf_J58 k5 Q l2 l3 l4 s0 s1 A → fX10_termOf_J58 k5' Q' l2 l3 l4 s0 s1 A := by
  unfold fX10_termOf_J58
  exact (And.imp_right (forall_imp fun _ => (forall_imp fun _ => (mo_fX10_termOf_J159 hk5 hQ ))))
theorem mo_fX10_termOf_J158 {l2 : Int32} {l3 : Int32} {l4 : Int32} {s0 : Int32} {s1 : Int32} {A : pA} {k5 k5' : Int32 → Int32 → Int32 → pA → Prop} {Q Q' : Int32 → pA → Prop} (hk5 : ∀ b0 b1 b2 b3, k5 b0 b1 b2 b3 → k5' b0 b1 b2 b3) (hQ : ∀ b0 b1, Q b0 b1 → Q' b0 b1) : fX10_termOf_J158 k5 Q l2 l3 l4 s0 s1 A → fX10_termOf_J158 k5' Q' l2 l3 l4 s0 s1 A := by
  unfold fX10_termOf_J158
  exact (And.imp_right (forall_imp fun _ => (forall_imp fun _ => (mo_fX10_termOf_J159 hk5 hQ ))))
theorem mo_fX10_termOf_J104 {l2 : Int32} {l3 : Int32} {l4 : Int32} {l5 : Int32} {l6 : Int32} {l7 : Int32} {A : pA} {k5 k5' : Int32 → Int32 → Int32 → pA → Prop} {Q Q' : Int32 → pA → Prop} (hk5 : ∀ b0 b1 b2 b3, k5 b0 b1 b2 b3 → k5' b0 b1 b2 b3) (hQ : ∀ b0 b1, Q b0 b1 → Q' b0 b1) : fX10_termOf_J104 k5 Q l2 l3 l4 l5 l6 l7 A → fX10_termOf_J104 k5' Q' l2 l3 l4 l5 l6 l7 A := by
  unfold fX10_termOf_J104
  exact (n_iteM (mo_fX10_termOf_J158 hk5 hQ ) (n_iteM (mo_fX10_termOf_J158 hk5 hQ ) (n_iteM (mo_fX10_termOf_J158 hk5 hQ ) (And.imp_right (mo_fX10_termOf_J158 hk5 hQ )))))
theorem mo_fX10_termOf_L5  {Q Q' : Int32 → pA → Prop} (hQ : ∀ b0 b1, Q b0 b1 → Q' b0 b1) : ∀ m w0 w1 w2 w3, fX10_termOf_L5 Q m w0 w1 w2 w3 → fX10_termOf_L5 Q' m w0 w1 w2 w3 := by
  intro m
  induction m with
  | zero => intro w0 w1 w2 w3 h; exact absurd h id
  | succ m ih =>
    intro w0 w1 w2 w3
    unfold fX10_termOf_L5
    exact (n_iteM (hQ _ _) (And.imp_right (n_iteM (And.imp_right (And.imp_right (n_iteM (n_iteM (forall_imp fun _ => (forall_imp fun _ => (hQ _ _))) (mo_fX10_termOf_J104 (fun _ _ _ _ => (ih _ _ _ _)) hQ )) (mo_fX10_termOf_J104 (fun _ _ _ _ => (ih _ _ _ _)) hQ )))) (n_iteM (And.imp_right (mo_fX10_termOf_J58 (fun _ _ _ _ => (ih _ _ _ _)) hQ )) (And.imp_right (And.imp_right (mo_fX10_termOf_J58 (fun _ _ _ _ => (ih _ _ _ _)) hQ )))))))
theorem mo_fX10_termOf {A : pA} {p1 : Int32} {p2 : Int32} {Q Q' : Int32 → pA → Prop} (hQ : ∀ b0 b1, Q b0 b1 → Q' b0 b1) : fX10_termOf A p1 p2 Q → fX10_termOf A p1 p2 Q' := by
  unfold fX10_termOf
  exact (Exists.imp fun _ => (mo_fX10_termOf_L5 hQ _ _ _ _ _))
theorem mo_fX10_asks_J119 {l4 : Int32} {A : pA} {Q Q' : Int32 → pA → Prop} (hQ : ∀ b0 b1, Q b0 b1 → Q' b0 b1) : fX10_asks_J119 Q l4 A → fX10_asks_J119 Q' l4 A := by
  unfold fX10_asks_J119
  exact (And.imp_right (And.imp_right (mo_fX10_termOf (fun _ _ => (n_iteM (hQ _ _) (hQ _ _))) )))
theorem mo_fX10_asks_L39  {Q Q' : Int32 → pA → Prop} (hQ : ∀ b0 b1, Q b0 b1 → Q' b0 b1) : ∀ m w0 w1 w2, fX10_asks_L39 Q m w0 w1 w2 → fX10_asks_L39 Q' m w0 w1 w2 := by
  intro m
  induction m with
  | zero => intro w0 w1 w2 h; exact absurd h id
  | succ m ih =>
    intro w0 w1 w2
    unfold fX10_asks_L39
    exact (And.imp_right (n_iteM (hQ _ _) (And.imp_right (n_iteM (mo_fX10_asks_J119 hQ ) (And.imp_right (And.imp_right (mo_fX10_termOf (fun _ _ => (And.imp_right (And.imp_right (mo_fX10_termOf (fun _ _ => (n_iteM (n_iteM (mo_fX10_asks_J119 hQ ) (ih _ _ _)) (hQ _ _))) )))) )))))))
theorem mo_fX10_asks {A : pA} {p1 : Int32} {p2 : Int32} {Q Q' : Int32 → pA → Prop} (hQ : ∀ b0 b1, Q b0 b1 → Q' b0 b1) : fX10_asks A p1 p2 Q → fX10_asks A p1 p2 Q' := by
  unfold fX10_asks
  exact (And.imp_right (And.imp_right (n_iteM (hQ _ _) (forall_imp fun _ => (forall_imp fun _ => (And.imp_right (Exists.imp fun _ => (mo_fX10_asks_L39 hQ _ _ _ _))))))))
theorem mo_fX10_farTo {A : pA} {p1 : Int32} {p2 : Int32} {Q Q' : Int32 → Prop} (hQ : ∀ b0, Q b0 → Q' b0) : fX10_farTo A p1 p2 Q → fX10_farTo A p1 p2 Q' := by
  unfold fX10_farTo
  exact (And.imp_right (And.imp_right (And.imp_right (hQ _))))
theorem mo_fX10_looks {A : pA} {p1 : Int32} {p2 : Int32} {Q Q' : pA → Prop} (hQ : ∀ b0, Q b0 → Q' b0) : fX10_looks A p1 p2 Q → fX10_looks A p1 p2 Q' := by
  unfold fX10_looks
  exact (And.imp_right (forall_imp fun _ => (forall_imp fun _ => (And.imp_right (forall_imp fun _ => (forall_imp fun _ => (mo_fX10_farTo (fun _ => (forall_imp fun _ => (forall_imp fun _ => (And.imp_right (forall_imp fun _ => (forall_imp fun _ => (hQ _))))))) )))))))
theorem mo_fX10_minuteNow {A : pA} {Q Q' : Int32 → Prop} (hQ : ∀ b0, Q b0 → Q' b0) : fX10_minuteNow A Q → fX10_minuteNow A Q' := by
  unfold fX10_minuteNow
  exact (And.imp_right (hQ _))
theorem mo_fX10_looksAtDog_L2  {Q Q' : pA → Prop} (hQ : ∀ b0, Q b0 → Q' b0) : ∀ m w0 w1 w2, fX10_looksAtDog_L2 Q m w0 w1 w2 → fX10_looksAtDog_L2 Q' m w0 w1 w2 := by
  intro m
  induction m with
  | zero => intro w0 w1 w2 h; exact absurd h id
  | succ m ih =>
    intro w0 w1 w2
    unfold fX10_looksAtDog_L2
    exact (n_iteM (And.imp_right (forall_imp fun _ => (forall_imp fun _ => (And.imp_right (forall_imp fun _ => (forall_imp fun _ => (mo_fX10_minuteNow (fun _ => (forall_imp fun _ => (forall_imp fun _ => (forall_imp fun _ => (forall_imp fun _ => (And.imp_right (forall_imp fun _ => (forall_imp fun _ => (hQ _))))))))) ))))))) (And.imp_right (forall_imp fun _ => (forall_imp fun _ => (ih _ _ _)))))
theorem mo_fX10_looksAtDog {A : pA} {p1 : Int32} {Q Q' : pA → Prop} (hQ : ∀ b0, Q b0 → Q' b0) : fX10_looksAtDog A p1 Q → fX10_looksAtDog A p1 Q' := by
  unfold fX10_looksAtDog
  exact (Exists.imp fun _ => (mo_fX10_looksAtDog_L2 hQ _ _ _ _))
theorem mo_fX10_within {A : pA} {p0 : Int32} {p1 : Int32} {p2 : Int32} {Q Q' : Int32 → Prop} (hQ : ∀ b0, Q b0 → Q' b0) : fX10_within A p0 p1 p2 Q → fX10_within A p0 p1 p2 Q' := by
  unfold fX10_within
  exact (n_iteM (n_iteM (hQ _) (hQ _)) (hQ _))
theorem mo_fX10_fadesOf {A : pA} {p1 : Int32} {p2 : Int32} {Q Q' : Int32 → pA → Prop} (hQ : ∀ b0 b1, Q b0 b1 → Q' b0 b1) : fX10_fadesOf A p1 p2 Q → fX10_fadesOf A p1 p2 Q' := by
  unfold fX10_fadesOf
  exact (mo_fX10_looksAtDog (fun _ => (mo_fX10_looks (fun _ => (mo_fX10_asks (fun _ _ => (mo_fX10_within (fun _ => (hQ _ _)) )) )) )) )
theorem mo_fX10_takesOf {A : pA} {p1 : Int32} {p2 : Int32} {Q Q' : Int32 → pA → Prop} (hQ : ∀ b0 b1, Q b0 b1 → Q' b0 b1) : fX10_takesOf A p1 p2 Q → fX10_takesOf A p1 p2 Q' := by
  unfold fX10_takesOf
  exact (mo_fX10_looksAtDog (fun _ => (mo_fX10_looks (fun _ => (mo_fX10_asks (fun _ _ => (And.imp_right (mo_fX10_within (fun _ => (hQ _ _)) ))) )) )) )
theorem mo_fX10_wantsOf {A : pA} {p1 : Int32} {p2 : Int32} {Q Q' : Int32 → pA → Prop} (hQ : ∀ b0 b1, Q b0 b1 → Q' b0 b1) : fX10_wantsOf A p1 p2 Q → fX10_wantsOf A p1 p2 Q' := by
  unfold fX10_wantsOf
  exact (mo_fX10_looksAtDog (fun _ => (mo_fX10_looks (fun _ => (mo_fX10_asks (fun _ _ => (hQ _ _)) )) )) )
theorem mo_fX10_mind_J16 {A : pA} {Q Q' : Int32 → pA → Prop} (hQ : ∀ b0 b1, Q b0 b1 → Q' b0 b1) : fX10_mind_J16 Q A → fX10_mind_J16 Q' A := by
  unfold fX10_mind_J16
  exact (hQ _ _)
theorem mo_fX10_mind {A : pA} {p1 : Int32} {p2 : Int32} {p3 : Int32} {Q Q' : Int32 → pA → Prop} (hQ : ∀ b0 b1, Q b0 b1 → Q' b0 b1) : fX10_mind A p1 p2 p3 Q → fX10_mind A p1 p2 p3 Q' := by
  unfold fX10_mind
  exact (mo_fX10_isDog (fun _ => (n_iteM (mo_fX10_mind_J16 hQ ) (mo_fX10_isPerson (fun _ => (n_iteM (mo_fX10_mind_J16 hQ ) (mo_fX10_copies (fun _ => (n_iteM (And.imp_right (hQ _ _)) (n_iteM (And.imp_right (hQ _ _)) (n_iteM (mo_fX10_wantsOf (fun _ _ => (hQ _ _)) ) (n_iteM (mo_fX10_takesOf (fun _ _ => (hQ _ _)) ) (n_iteM (mo_fX10_fadesOf (fun _ _ => (hQ _ _)) ) (hQ _ _))))))) ))) ))) )
theorem mo_fX10_records_L51  {Q Q' : pA → Prop} (hQ : ∀ b0, Q b0 → Q' b0) : ∀ m w0 w1, fX10_records_L51 Q m w0 w1 → fX10_records_L51 Q' m w0 w1 := by
  intro m
  induction m with
  | zero => intro w0 w1 h; exact absurd h id
  | succ m ih =>
    intro w0 w1
    unfold fX10_records_L51
    exact (n_iteM (forall_imp fun _ => (forall_imp fun _ => (mo_fX10_keepsRow (fun _ => (hQ _)) ))) (And.imp_right (And.imp_right (forall_imp fun _ => (forall_imp fun _ => (ih _ _))))))
theorem mo_fX10_records_J49 {A : pA} {Q Q' : pA → Prop} (hQ : ∀ b0, Q b0 → Q' b0) : fX10_records_J49 Q A → fX10_records_J49 Q' A := by
  unfold fX10_records_J49
  exact (Exists.imp fun _ => (mo_fX10_records_L51 hQ _ _ _))
theorem mo_fX10_records_L11  {Q Q' : pA → Prop} (hQ : ∀ b0, Q b0 → Q' b0) : ∀ m w0 w1, fX10_records_L11 Q m w0 w1 → fX10_records_L11 Q' m w0 w1 := by
  intro m
  induction m with
  | zero => intro w0 w1 h; exact absurd h id
  | succ m ih =>
    intro w0 w1
    unfold fX10_records_L11
    exact (n_iteM (forall_imp fun _ => (forall_imp fun _ => (mo_fX10_records_J49 hQ ))) (And.imp_right (And.imp_right (forall_imp fun _ => (forall_imp fun _ => (ih _ _))))))
theorem mo_fX10_records {A : pA} {Q Q' : pA → Prop} (hQ : ∀ b0, Q b0 → Q' b0) : fX10_records A Q → fX10_records A Q' := by
  unfold fX10_records
  exact (n_iteM (Exists.imp fun _ => (mo_fX10_records_L11 hQ _ _ _)) (mo_fX10_records_J49 hQ ))
theorem mo_fX10_go_J47 {l1 : Int32} {s0 : Int32} {A : pA} {Q Q' : Int32 → pA → Prop} (hQ : ∀ b0 b1, Q b0 b1 → Q' b0 b1) : fX10_go_J47 Q l1 s0 A → fX10_go_J47 Q' l1 s0 A := by
  unfold fX10_go_J47
  exact (And.imp_right (n_iteM (hQ _ _) (mo_fX10_copies (fun _ => (And.imp_right (forall_imp fun _ => (forall_imp fun _ => (mo_fX10_records (fun _ => (hQ _ _)) ))))) )))
theorem mo_fX10_go_J21 {l1 : Int32} {l2 : Int32} {A : pA} {Q Q' : Int32 → pA → Prop} (hQ : ∀ b0 b1, Q b0 b1 → Q' b0 b1) : fX10_go_J21 Q l1 l2 A → fX10_go_J21 Q' l1 l2 A := by
  unfold fX10_go_J21
  exact (And.imp_right (n_iteM (hQ _ _) (n_iteM (mo_fX10_go_J47 hQ ) (mo_fX10_go_J47 hQ ))))
theorem mo_fX10_go {A : pA} {p1 : Int32} {p2 : Int32} {Q Q' : Int32 → pA → Prop} (hQ : ∀ b0 b1, Q b0 b1 → Q' b0 b1) : fX10_go A p1 p2 Q → fX10_go A p1 p2 Q' := by
  unfold fX10_go
  exact (mo_fX10_isPerson (fun _ => (n_iteM (hQ _ _) (n_iteM (mo_fX10_go_J21 hQ ) (mo_fX10_isPlace (fun _ => (n_iteM (hQ _ _) (mo_fX10_go_J21 hQ ))) )))) )
theorem mo_fX10_isWith {A : pA} {p1 : Int32} {p2 : Int32} {Q Q' : Int32 → Prop} (hQ : ∀ b0, Q b0 → Q' b0) : fX10_isWith A p1 p2 Q → fX10_isWith A p1 p2 Q' := by
  unfold fX10_isWith
  exact (And.imp_right (n_iteM (And.imp_right (And.imp_right (n_iteM (hQ _) (hQ _)))) (hQ _)))
theorem mo_fX10_give {A : pA} {p1 : Int32} {p2 : Int32} {p3 : Int32} {Q Q' : Int32 → pA → Prop} (hQ : ∀ b0 b1, Q b0 b1 → Q' b0 b1) : fX10_give A p1 p2 p3 Q → fX10_give A p1 p2 p3 Q' := by
  unfold fX10_give
  exact (mo_fX10_isPerson (fun _ => (n_iteM (hQ _ _) (mo_fX10_isDog (fun _ => (n_iteM (hQ _ _) (mo_fX10_in (fun _ => (n_iteM (hQ _ _) (mo_fX10_isWith (fun _ => (n_iteM (hQ _ _) (And.imp_right (n_iteM (hQ _ _) (And.imp_right (n_iteM (mo_fX10_copies (fun _ => (And.imp_right (And.imp_right (forall_imp fun _ => (forall_imp fun _ => (And.imp_right (And.imp_right (forall_imp fun _ => (forall_imp fun _ => (mo_fX10_records (fun _ => (And.imp_right (hQ _ _))) )))))))))) ) (hQ _ _))))))) ))) ))) ))) )
theorem mo_fX10_kick {A : pA} {p1 : Int32} {p2 : Int32} {Q Q' : Int32 → pA → Prop} (hQ : ∀ b0 b1, Q b0 b1 → Q' b0 b1) : fX10_kick A p1 p2 Q → fX10_kick A p1 p2 Q' := by
  unfold fX10_kick
  exact (mo_fX10_isPerson (fun _ => (n_iteM (hQ _ _) (mo_fX10_isDog (fun _ => (n_iteM (hQ _ _) (mo_fX10_isWith (fun _ => (n_iteM (hQ _ _) (And.imp_right (n_iteM (hQ _ _) (mo_fX10_copies (fun _ => (And.imp_right (And.imp_right (forall_imp fun _ => (forall_imp fun _ => (mo_fX10_records (fun _ => (And.imp_right (hQ _ _))) )))))) ))))) ))) ))) )
theorem mo_fX10_bearsGrudge {A : pA} {p1 : Int32} {p2 : Int32} {Q Q' : Int32 → Prop} (hQ : ∀ b0, Q b0 → Q' b0) : fX10_bearsGrudge A p1 p2 Q → fX10_bearsGrudge A p1 p2 Q' := by
  unfold fX10_bearsGrudge
  exact (And.imp_right (And.imp_right (n_iteM (hQ _) (hQ _))))
theorem mo_fX10_mindsNow_J79 {l1 : Int32} {l2 : Int32} {l3 : Int32} {l4 : Int32} {A : pA} {k8 k8' : Int32 → Int32 → Int32 → Int32 → pA → Prop} {Q Q' : Int32 → pA → Prop} (hk8 : ∀ b0 b1 b2 b3 b4, k8 b0 b1 b2 b3 b4 → k8' b0 b1 b2 b3 b4) (hQ : ∀ b0 b1, Q b0 b1 → Q' b0 b1) : fX10_mindsNow_J79 k8 Q l1 l2 l3 l4 A → fX10_mindsNow_J79 k8' Q' l1 l2 l3 l4 A := by
  unfold fX10_mindsNow_J79
  exact (hk8 _ _ _ _ _)
theorem mo_fX10_mindsNow_J73 {l1 : Int32} {l4 : Int32} {l5 : Int32} {A : pA} {k8 k8' : Int32 → Int32 → Int32 → Int32 → pA → Prop} {Q Q' : Int32 → pA → Prop} (hk8 : ∀ b0 b1 b2 b3 b4, k8 b0 b1 b2 b3 b4 → k8' b0 b1 b2 b3 b4) (hQ : ∀ b0 b1, Q b0 b1 → Q' b0 b1) : fX10_mindsNow_J73 k8 Q l1 l4 l5 A → fX10_mindsNow_J73 k8' Q' l1 l4 l5 A := by
  unfold fX10_mindsNow_J73
  exact (mo_fX10_mindsNow_J79 hk8 hQ )
theorem mo_fX10_mindsNow_L8  {Q Q' : Int32 → pA → Prop} (hQ : ∀ b0 b1, Q b0 b1 → Q' b0 b1) : ∀ m w0 w1 w2 w3 w4, fX10_mindsNow_L8 Q m w0 w1 w2 w3 w4 → fX10_mindsNow_L8 Q' m w0 w1 w2 w3 w4 := by
  intro m
  induction m with
  | zero => intro w0 w1 w2 w3 w4 h; exact absurd h id
  | succ m ih =>
    intro w0 w1 w2 w3 w4
    unfold fX10_mindsNow_L8
    exact (And.imp_right (n_iteM (hQ _ _) (And.imp_right (n_iteM (mo_fX10_mindsNow_J79 (fun _ _ _ _ _ => (ih _ _ _ _ _)) hQ ) (mo_fX10_farTo (fun _ => (n_iteM (mo_fX10_wantsOf (fun _ _ => (n_iteM (mo_fX10_mindsNow_J73 (fun _ _ _ _ _ => (ih _ _ _ _ _)) hQ ) (n_iteM (mo_fX10_mindsNow_J73 (fun _ _ _ _ _ => (ih _ _ _ _ _)) hQ ) (mo_fX10_mindsNow_J79 (fun _ _ _ _ _ => (ih _ _ _ _ _)) hQ )))) ) (mo_fX10_mindsNow_J79 (fun _ _ _ _ _ => (ih _ _ _ _ _)) hQ ))) )))))
theorem mo_fX10_mindsNow {A : pA} {p1 : Int32} {Q Q' : Int32 → pA → Prop} (hQ : ∀ b0 b1, Q b0 b1 → Q' b0 b1) : fX10_mindsNow A p1 Q → fX10_mindsNow A p1 Q' := by
  unfold fX10_mindsNow
  exact (Exists.imp fun _ => (mo_fX10_mindsNow_L8 hQ _ _ _ _ _ _))
theorem mo_fX10_stepTo_J82 {A : pA} {l1 : Int32} {l2 : Int32} {l3 : Int32} {l4 : Int32} {l5 : Int32} {k9 k9' : Int32 → Int32 → Int32 → Int32 → Int32 → Prop} {Q Q' : Int32 → Prop} (hk9 : ∀ b0 b1 b2 b3 b4, k9 b0 b1 b2 b3 b4 → k9' b0 b1 b2 b3 b4) (hQ : ∀ b0, Q b0 → Q' b0) : fX10_stepTo_J82 A k9 Q l1 l2 l3 l4 l5 → fX10_stepTo_J82 A k9' Q' l1 l2 l3 l4 l5 := by
  unfold fX10_stepTo_J82
  exact (hk9 _ _ _ _ _)
theorem mo_fX10_stepTo_L9 {A : pA} {Q Q' : Int32 → Prop} (hQ : ∀ b0, Q b0 → Q' b0) : ∀ m w0 w1 w2 w3 w4, fX10_stepTo_L9 A Q m w0 w1 w2 w3 w4 → fX10_stepTo_L9 A Q' m w0 w1 w2 w3 w4 := by
  intro m
  induction m with
  | zero => intro w0 w1 w2 w3 w4 h; exact absurd h id
  | succ m ih =>
    intro w0 w1 w2 w3 w4
    unfold fX10_stepTo_L9
    exact (And.imp_right (n_iteM (hQ _) (And.imp_right (n_iteM (mo_fX10_stepTo_J82 (fun _ _ _ _ _ => (ih _ _ _ _ _)) hQ ) (And.imp_right (n_iteM (And.imp_right (mo_fX10_stepTo_J82 (fun _ _ _ _ _ => (ih _ _ _ _ _)) hQ )) (mo_fX10_stepTo_J82 (fun _ _ _ _ _ => (ih _ _ _ _ _)) hQ )))))))
theorem mo_fX10_stepTo {A : pA} {p1 : Int32} {p2 : Int32} {Q Q' : Int32 → Prop} (hQ : ∀ b0, Q b0 → Q' b0) : fX10_stepTo A p1 p2 Q → fX10_stepTo A p1 p2 Q' := by
  unfold fX10_stepTo
  exact (Exists.imp fun _ => (mo_fX10_stepTo_L9 hQ _ _ _ _ _ _))
theorem mo_fX10_dogGoes {A : pA} {p1 : Int32} {Q Q' : pA → Prop} (hQ : ∀ b0, Q b0 → Q' b0) : fX10_dogGoes A p1 Q → fX10_dogGoes A p1 Q' := by
  unfold fX10_dogGoes
  exact (mo_fX10_mindsNow (fun _ _ => (n_iteM (And.imp_right (And.imp_right (n_iteM (mo_fX10_bearsGrudge (fun _ => (n_iteM (mo_fX10_takesOf (fun _ _ => (And.imp_right (And.imp_right (forall_imp fun _ => (forall_imp fun _ => (And.imp_right (And.imp_right (forall_imp fun _ => (forall_imp fun _ => (And.imp_right (And.imp_right (forall_imp fun _ => (forall_imp fun _ => (hQ _)))))))))))))) ) (And.imp_right (forall_imp fun _ => (forall_imp fun _ => (And.imp_right (forall_imp fun _ => (forall_imp fun _ => (And.imp_right (forall_imp fun _ => (forall_imp fun _ => (And.imp_right (And.imp_right (forall_imp fun _ => (forall_imp fun _ => (hQ _)))))))))))))))) ) (And.imp_right (And.imp_right (mo_fX10_stepTo (fun _ => (And.imp_right (forall_imp fun _ => (forall_imp fun _ => (hQ _))))) )))))) (hQ _))) )
theorem mo_fX10_dogsRest_L51  {Q Q' : pA → Prop} (hQ : ∀ b0, Q b0 → Q' b0) : ∀ m w0 w1, fX10_dogsRest_L51 Q m w0 w1 → fX10_dogsRest_L51 Q' m w0 w1 := by
  intro m
  induction m with
  | zero => intro w0 w1 h; exact absurd h id
  | succ m ih =>
    intro w0 w1
    unfold fX10_dogsRest_L51
    exact (And.imp_right (n_iteM (hQ _) (And.imp_right (forall_imp fun _ => (forall_imp fun _ => (ih _ _))))))
theorem mo_fX10_dogsRest_L2  {Q Q' : pA → Prop} (hQ : ∀ b0, Q b0 → Q' b0) : ∀ m w0 w1, fX10_dogsRest_L2 Q m w0 w1 → fX10_dogsRest_L2 Q' m w0 w1 := by
  intro m
  induction m with
  | zero => intro w0 w1 h; exact absurd h id
  | succ m ih =>
    intro w0 w1
    unfold fX10_dogsRest_L2
    exact (And.imp_right (n_iteM (Exists.imp fun _ => (mo_fX10_dogsRest_L51 hQ _ _ _)) (And.imp_right (And.imp_right (forall_imp fun _ => (forall_imp fun _ => (And.imp_right (forall_imp fun _ => (forall_imp fun _ => (ih _ _))))))))))
theorem mo_fX10_dogsRest {A : pA} {Q Q' : pA → Prop} (hQ : ∀ b0, Q b0 → Q' b0) : fX10_dogsRest A Q → fX10_dogsRest A Q' := by
  unfold fX10_dogsRest
  exact (Exists.imp fun _ => (mo_fX10_dogsRest_L2 hQ _ _ _))
theorem mo_fX10_fades {A : pA} {p1 : Int32} {p2 : Int32} {Q Q' : pA → Prop} (hQ : ∀ b0, Q b0 → Q' b0) : fX10_fades A p1 p2 Q → fX10_fades A p1 p2 Q' := by
  unfold fX10_fades
  exact (mo_fX10_fadesOf (fun _ _ => (And.imp_right (mo_fX10_within (fun _ => (And.imp_right (forall_imp fun _ => (forall_imp fun _ => (And.imp_right (mo_fX10_within (fun _ => (And.imp_right (forall_imp fun _ => (forall_imp fun _ => (hQ _))))) )))))) ))) )
theorem mo_fX10_isHour {A : pA} {Q Q' : Int32 → Prop} (hQ : ∀ b0, Q b0 → Q' b0) : fX10_isHour A Q → fX10_isHour A Q' := by
  unfold fX10_isHour
  exact (mo_fX10_minuteNow (fun _ => (And.imp_right (And.imp_right (mo_fX10_in (fun _ => (And.imp_right (hQ _))) )))) )
theorem mo_fX10_personGoes_J146 {l1 : Int32} {l3 : Int32} {A : pA} {k76 k76' : Int32 → Int32 → pA → Prop} {Q Q' : pA → Prop} (hk76 : ∀ b0 b1 b2, k76 b0 b1 b2 → k76' b0 b1 b2) (hQ : ∀ b0, Q b0 → Q' b0) : fX10_personGoes_J146 k76 Q l1 l3 A → fX10_personGoes_J146 k76' Q' l1 l3 A := by
  unfold fX10_personGoes_J146
  exact (hk76 _ _ _)
theorem mo_fX10_personGoes_L76  {Q Q' : pA → Prop} (hQ : ∀ b0, Q b0 → Q' b0) : ∀ m w0 w1 w2, fX10_personGoes_L76 Q m w0 w1 w2 → fX10_personGoes_L76 Q' m w0 w1 w2 := by
  intro m
  induction m with
  | zero => intro w0 w1 w2 h; exact absurd h id
  | succ m ih =>
    intro w0 w1 w2
    unfold fX10_personGoes_L76
    exact (And.imp_right (n_iteM (hQ _) (And.imp_right (n_iteM (And.imp_right (And.imp_right (n_iteM (forall_imp fun _ => (forall_imp fun _ => (mo_fX10_personGoes_J146 (fun _ _ _ => (ih _ _ _)) hQ ))) (mo_fX10_personGoes_J146 (fun _ _ _ => (ih _ _ _)) hQ )))) (mo_fX10_personGoes_J146 (fun _ _ _ => (ih _ _ _)) hQ )))))
theorem mo_fX10_personGoes_J74 {l1 : Int32} {A : pA} {Q Q' : pA → Prop} (hQ : ∀ b0, Q b0 → Q' b0) : fX10_personGoes_J74 Q l1 A → fX10_personGoes_J74 Q' l1 A := by
  unfold fX10_personGoes_J74
  exact (Exists.imp fun _ => (mo_fX10_personGoes_L76 hQ _ _ _ _))
theorem mo_fX10_personGoes {A : pA} {p1 : Int32} {Q Q' : pA → Prop} (hQ : ∀ b0, Q b0 → Q' b0) : fX10_personGoes A p1 Q → fX10_personGoes A p1 Q' := by
  unfold fX10_personGoes
  exact (And.imp_right (n_iteM (mo_fX10_personGoes_J74 hQ ) (And.imp_right (n_iteM (mo_fX10_personGoes_J74 hQ ) (And.imp_right (And.imp_right (n_iteM (mo_fX10_personGoes_J74 hQ ) (And.imp_right (mo_fX10_stepTo (fun _ => (And.imp_right (forall_imp fun _ => (forall_imp fun _ => (mo_fX10_personGoes_J74 hQ ))))) )))))))))
theorem mo_fX10_minuteGoes_J32 {l1 : Int32} {A : pA} {k2 k2' : Int32 → pA → Prop} {Q Q' : pA → Prop} (hk2 : ∀ b0 b1, k2 b0 b1 → k2' b0 b1) (hQ : ∀ b0, Q b0 → Q' b0) : fX10_minuteGoes_J32 k2 Q l1 A → fX10_minuteGoes_J32 k2' Q' l1 A := by
  unfold fX10_minuteGoes_J32
  exact (hk2 _ _)
theorem mo_fX10_minuteGoes_L114  {k99 k99' : Int32 → pA → Prop} {Q Q' : pA → Prop} (hk99 : ∀ b0 b1, k99 b0 b1 → k99' b0 b1) (hQ : ∀ b0, Q b0 → Q' b0) : ∀ m w0 w1 w2, fX10_minuteGoes_L114 k99 Q m w0 w1 w2 → fX10_minuteGoes_L114 k99' Q' m w0 w1 w2 := by
  intro m
  induction m with
  | zero => intro w0 w1 w2 h; exact absurd h id
  | succ m ih =>
    intro w0 w1 w2
    unfold fX10_minuteGoes_L114
    exact (And.imp_right (n_iteM (hk99 _ _) (mo_fX10_fades (fun _ => (ih _ _ _)) )))
theorem mo_fX10_minuteGoes_L99  {Q Q' : pA → Prop} (hQ : ∀ b0, Q b0 → Q' b0) : ∀ m w0 w1, fX10_minuteGoes_L99 Q m w0 w1 → fX10_minuteGoes_L99 Q' m w0 w1 := by
  intro m
  induction m with
  | zero => intro w0 w1 h; exact absurd h id
  | succ m ih =>
    intro w0 w1
    unfold fX10_minuteGoes_L99
    exact (And.imp_right (n_iteM (hQ _) (Exists.imp fun _ => (mo_fX10_minuteGoes_L114 (fun _ _ => (ih _ _)) hQ _ _ _ _))))
theorem mo_fX10_minuteGoes_J78 {A : pA} {Q Q' : pA → Prop} (hQ : ∀ b0, Q b0 → Q' b0) : fX10_minuteGoes_J78 Q A → fX10_minuteGoes_J78 Q' A := by
  unfold fX10_minuteGoes_J78
  exact (forall_imp fun _ => (forall_imp fun _ => (mo_fX10_minuteNow (fun _ => (n_iteM (Exists.imp fun _ => (mo_fX10_minuteGoes_L99 hQ _ _ _)) (hQ _))) )))
theorem mo_fX10_minuteGoes_L54  {Q Q' : pA → Prop} (hQ : ∀ b0, Q b0 → Q' b0) : ∀ m w0 w1, fX10_minuteGoes_L54 Q m w0 w1 → fX10_minuteGoes_L54 Q' m w0 w1 := by
  intro m
  induction m with
  | zero => intro w0 w1 h; exact absurd h id
  | succ m ih =>
    intro w0 w1
    unfold fX10_minuteGoes_L54
    exact (And.imp_right (n_iteM (mo_fX10_minuteGoes_J78 hQ ) (mo_fX10_dogGoes (fun _ => (ih _ _)) )))
theorem mo_fX10_minuteGoes_L2  {Q Q' : pA → Prop} (hQ : ∀ b0, Q b0 → Q' b0) : ∀ m w0 w1, fX10_minuteGoes_L2 Q m w0 w1 → fX10_minuteGoes_L2 Q' m w0 w1 := by
  intro m
  induction m with
  | zero => intro w0 w1 h; exact absurd h id
  | succ m ih =>
    intro w0 w1
    unfold fX10_minuteGoes_L2
    exact (And.imp_right (n_iteM (mo_fX10_isHour (fun _ => (n_iteM (mo_fX10_dogsRest (fun _ => (mo_fX10_minuteGoes_J78 hQ )) ) (Exists.imp fun _ => (mo_fX10_minuteGoes_L54 hQ _ _ _)))) ) (And.imp_right (n_iteM (mo_fX10_personGoes (fun _ => (mo_fX10_minuteGoes_J32 (fun _ _ => (ih _ _)) hQ )) ) (mo_fX10_minuteGoes_J32 (fun _ _ => (ih _ _)) hQ )))))
theorem mo_fX10_minuteGoes {A : pA} {Q Q' : pA → Prop} (hQ : ∀ b0, Q b0 → Q' b0) : fX10_minuteGoes A Q → fX10_minuteGoes A Q' := by
  unfold fX10_minuteGoes
  exact (Exists.imp fun _ => (mo_fX10_minuteGoes_L2 hQ _ _ _))
theorem mo_fX10_goes_L2  {Q Q' : pA → Prop} (hQ : ∀ b0, Q b0 → Q' b0) : ∀ m w0 w1 w2, fX10_goes_L2 Q m w0 w1 w2 → fX10_goes_L2 Q' m w0 w1 w2 := by
  intro m
  induction m with
  | zero => intro w0 w1 w2 h; exact absurd h id
  | succ m ih =>
    intro w0 w1 w2
    unfold fX10_goes_L2
    exact (n_iteM (hQ _) (mo_fX10_minuteGoes (fun _ => (ih _ _ _)) ))
theorem mo_fX10_goes {A : pA} {p1 : Int32} {Q Q' : pA → Prop} (hQ : ∀ b0, Q b0 → Q' b0) : fX10_goes A p1 Q → fX10_goes A p1 Q' := by
  unfold fX10_goes
  exact (Exists.imp fun _ => (mo_fX10_goes_L2 hQ _ _ _ _))
theorem mo_fX10_minutes {A : pA} {p1 : Int32} {Q Q' : Int32 → pA → Prop} (hQ : ∀ b0 b1, Q b0 b1 → Q' b0 b1) : fX10_minutes A p1 Q → fX10_minutes A p1 Q' := by
  unfold fX10_minutes
  exact (mo_fX10_in (fun _ => (n_iteM (hQ _ _) (n_iteM (hQ _ _) (mo_fX10_copies (fun _ => (mo_fX10_goes (fun _ => (mo_fX10_records (fun _ => (hQ _ _)) )) )) )))) )
theorem mo_fX10_undo_L21  {Q Q' : Int32 → pA → Prop} (hQ : ∀ b0 b1, Q b0 b1 → Q' b0 b1) : ∀ m w0 w1, fX10_undo_L21 Q m w0 w1 → fX10_undo_L21 Q' m w0 w1 := by
  intro m
  induction m with
  | zero => intro w0 w1 h; exact absurd h id
  | succ m ih =>
    intro w0 w1
    unfold fX10_undo_L21
    exact (n_iteM (hQ _ _) (And.imp_right (And.imp_right (forall_imp fun _ => (forall_imp fun _ => (ih _ _))))))
theorem mo_fX10_undo {A : pA} {Q Q' : Int32 → pA → Prop} (hQ : ∀ b0 b1, Q b0 b1 → Q' b0 b1) : fX10_undo A Q → fX10_undo A Q' := by
  unfold fX10_undo
  exact (n_iteM (hQ _ _) (forall_imp fun _ => (forall_imp fun _ => (Exists.imp fun _ => (mo_fX10_undo_L21 hQ _ _ _)))))
theorem mo_fX10_far {A : pA} {p1 : Int32} {p2 : Int32} {Q Q' : Int32 → Prop} (hQ : ∀ b0, Q b0 → Q' b0) : fX10_far A p1 p2 Q → fX10_far A p1 p2 Q' := by
  unfold fX10_far
  exact (mo_fX10_isPlace (fun _ => (n_iteM (hQ _) (mo_fX10_isPlace (fun _ => (n_iteM (hQ _) (And.imp_right (n_iteM (And.imp_right (hQ _)) (hQ _))))) ))) )
theorem mo_fX10_tillNext {A : pA} {Q Q' : Int32 → Prop} (hQ : ∀ b0, Q b0 → Q' b0) : fX10_tillNext A Q → fX10_tillNext A Q' := by
  unfold fX10_tillNext
  exact (And.imp_right (mo_fX10_minuteNow (fun _ => (n_iteM (hQ _) (hQ _))) ))
theorem mo_fX10_till {A : pA} {Q Q' : Int32 → pA → Prop} (hQ : ∀ b0 b1, Q b0 b1 → Q' b0 b1) : fX10_till A Q → fX10_till A Q' := by
  unfold fX10_till
  exact (mo_fX10_copies (fun _ => (mo_fX10_tillNext (fun _ => (hQ _ _)) )) )
theorem mo_fX10_roundOf_J32 {l1 : Int32} {l2 : Int32} {l3 : Int32} {A : pA} {k4 k4' : Int32 → Int32 → Int32 → pA → Prop} {Q Q' : Int32 → pA → Prop} (hk4 : ∀ b0 b1 b2 b3, k4 b0 b1 b2 b3 → k4' b0 b1 b2 b3) (hQ : ∀ b0 b1, Q b0 b1 → Q' b0 b1) : fX10_roundOf_J32 k4 Q l1 l2 l3 A → fX10_roundOf_J32 k4' Q' l1 l2 l3 A := by
  unfold fX10_roundOf_J32
  exact (hk4 _ _ _ _)
theorem mo_fX10_roundOf_J111 {l1 : Int32} {l2 : Int32} {l3 : Int32} {A : pA} {k64 k64' : Int32 → Int32 → Int32 → pA → Prop} {Q Q' : Int32 → pA → Prop} (hk64 : ∀ b0 b1 b2 b3, k64 b0 b1 b2 b3 → k64' b0 b1 b2 b3) (hQ : ∀ b0 b1, Q b0 b1 → Q' b0 b1) : fX10_roundOf_J111 k64 Q l1 l2 l3 A → fX10_roundOf_J111 k64' Q' l1 l2 l3 A := by
  unfold fX10_roundOf_J111
  exact (hk64 _ _ _ _)
theorem mo_fX10_roundOf_J262 {l1 : Int32} {l2 : Int32} {l3 : Int32} {l4 : Int32} {A : pA} {k127 k127' : Int32 → Int32 → Int32 → Int32 → pA → Prop} {Q Q' : Int32 → pA → Prop} (hk127 : ∀ b0 b1 b2 b3 b4, k127 b0 b1 b2 b3 b4 → k127' b0 b1 b2 b3 b4) (hQ : ∀ b0 b1, Q b0 b1 → Q' b0 b1) : fX10_roundOf_J262 k127 Q l1 l2 l3 l4 A → fX10_roundOf_J262 k127' Q' l1 l2 l3 l4 A := by
  unfold fX10_roundOf_J262
  exact (hk127 _ _ _ _ _)
theorem mo_fX10_roundOf_J256 {l1 : Int32} {l2 : Int32} {l3 : Int32} {l4 : Int32} {l5 : Int32} {A : pA} {k158 k158' : Int32 → Int32 → Int32 → Int32 → Int32 → pA → Prop} {Q Q' : Int32 → pA → Prop} (hk158 : ∀ b0 b1 b2 b3 b4 b5, k158 b0 b1 b2 b3 b4 b5 → k158' b0 b1 b2 b3 b4 b5) (hQ : ∀ b0 b1, Q b0 b1 → Q' b0 b1) : fX10_roundOf_J256 k158 Q l1 l2 l3 l4 l5 A → fX10_roundOf_J256 k158' Q' l1 l2 l3 l4 l5 A := by
  unfold fX10_roundOf_J256
  exact (hk158 _ _ _ _ _ _)
theorem mo_fX10_roundOf_L158  {k127 k127' : Int32 → Int32 → Int32 → Int32 → pA → Prop} {Q Q' : Int32 → pA → Prop} (hk127 : ∀ b0 b1 b2 b3 b4, k127 b0 b1 b2 b3 b4 → k127' b0 b1 b2 b3 b4) (hQ : ∀ b0 b1, Q b0 b1 → Q' b0 b1) : ∀ m w0 w1 w2 w3 w4 w5, fX10_roundOf_L158 k127 Q m w0 w1 w2 w3 w4 w5 → fX10_roundOf_L158 k127' Q' m w0 w1 w2 w3 w4 w5 := by
  intro m
  induction m with
  | zero => intro w0 w1 w2 w3 w4 w5 h; exact absurd h id
  | succ m ih =>
    intro w0 w1 w2 w3 w4 w5
    unfold fX10_roundOf_L158
    exact (n_iteM (mo_fX10_roundOf_J262 hk127 hQ ) (n_iteM (mo_fX10_roundOf_J256 (fun _ _ _ _ _ _ => (ih _ _ _ _ _ _)) hQ ) (n_iteM (mo_fX10_roundOf_J256 (fun _ _ _ _ _ _ => (ih _ _ _ _ _ _)) hQ ) (And.imp_right (And.imp_right (And.imp_right (n_iteM (mo_fX10_roundOf_J256 (fun _ _ _ _ _ _ => (ih _ _ _ _ _ _)) hQ ) (And.imp_right (forall_imp fun _ => (forall_imp fun _ => (mo_fX10_roundOf_J256 (fun _ _ _ _ _ _ => (ih _ _ _ _ _ _)) hQ )))))))))))
theorem mo_fX10_roundOf_L127  {k119 k119' : Int32 → Int32 → Int32 → pA → Prop} {Q Q' : Int32 → pA → Prop} (hk119 : ∀ b0 b1 b2 b3, k119 b0 b1 b2 b3 → k119' b0 b1 b2 b3) (hQ : ∀ b0 b1, Q b0 b1 → Q' b0 b1) : ∀ m w0 w1 w2 w3 w4, fX10_roundOf_L127 k119 Q m w0 w1 w2 w3 w4 → fX10_roundOf_L127 k119' Q' m w0 w1 w2 w3 w4 := by
  intro m
  induction m with
  | zero => intro w0 w1 w2 w3 w4 h; exact absurd h id
  | succ m ih =>
    intro w0 w1 w2 w3 w4
    unfold fX10_roundOf_L127
    exact (n_iteM (hk119 _ _ _ _) (And.imp_right (n_iteM (Exists.imp fun _ => (mo_fX10_roundOf_L158 (fun _ _ _ _ _ => (ih _ _ _ _ _)) hQ _ _ _ _ _ _ _)) (mo_fX10_roundOf_J262 (fun _ _ _ _ _ => (ih _ _ _ _ _)) hQ ))))
theorem mo_fX10_roundOf_J384 {l2 : Int32} {l3 : Int32} {l4 : Int32} {l5 : Int32} {A : pA} {k320 k320' : Int32 → Int32 → Int32 → Int32 → pA → Prop} {Q Q' : Int32 → pA → Prop} (hk320 : ∀ b0 b1 b2 b3 b4, k320 b0 b1 b2 b3 b4 → k320' b0 b1 b2 b3 b4) (hQ : ∀ b0 b1, Q b0 b1 → Q' b0 b1) : fX10_roundOf_J384 k320 Q l2 l3 l4 l5 A → fX10_roundOf_J384 k320' Q' l2 l3 l4 l5 A := by
  unfold fX10_roundOf_J384
  exact (hk320 _ _ _ _ _)
theorem mo_fX10_roundOf_L320  {Q Q' : Int32 → pA → Prop} (hQ : ∀ b0 b1, Q b0 b1 → Q' b0 b1) : ∀ m w0 w1 w2 w3 w4, fX10_roundOf_L320 Q m w0 w1 w2 w3 w4 → fX10_roundOf_L320 Q' m w0 w1 w2 w3 w4 := by
  intro m
  induction m with
  | zero => intro w0 w1 w2 w3 w4 h; exact absurd h id
  | succ m ih =>
    intro w0 w1 w2 w3 w4
    unfold fX10_roundOf_L320
    exact (n_iteM (hQ _ _) (And.imp_right (And.imp_right (n_iteM (mo_fX10_roundOf_J384 (fun _ _ _ _ _ => (ih _ _ _ _ _)) hQ ) (And.imp_right (And.imp_right (mo_fX10_roundOf_J384 (fun _ _ _ _ _ => (ih _ _ _ _ _)) hQ )))))))
theorem mo_fX10_roundOf_L119  {Q Q' : Int32 → pA → Prop} (hQ : ∀ b0 b1, Q b0 b1 → Q' b0 b1) : ∀ m w0 w1 w2 w3, fX10_roundOf_L119 Q m w0 w1 w2 w3 → fX10_roundOf_L119 Q' m w0 w1 w2 w3 := by
  intro m
  induction m with
  | zero => intro w0 w1 w2 w3 h; exact absurd h id
  | succ m ih =>
    intro w0 w1 w2 w3
    unfold fX10_roundOf_L119
    exact (n_iteM (And.imp_right (n_iteM (And.imp_right (And.imp_right (hQ _ _))) (Exists.imp fun _ => (mo_fX10_roundOf_L320 hQ _ _ _ _ _ _)))) (Exists.imp fun _ => (mo_fX10_roundOf_L127 (fun _ _ _ _ => (ih _ _ _ _)) hQ _ _ _ _ _ _)))
theorem mo_fX10_roundOf_L64  {Q Q' : Int32 → pA → Prop} (hQ : ∀ b0 b1, Q b0 b1 → Q' b0 b1) : ∀ m w0 w1 w2 w3, fX10_roundOf_L64 Q m w0 w1 w2 w3 → fX10_roundOf_L64 Q' m w0 w1 w2 w3 := by
  intro m
  induction m with
  | zero => intro w0 w1 w2 w3 h; exact absurd h id
  | succ m ih =>
    intro w0 w1 w2 w3
    unfold fX10_roundOf_L64
    exact (n_iteM (Exists.imp fun _ => (mo_fX10_roundOf_L119 hQ _ _ _ _ _)) (n_iteM (And.imp_right (And.imp_right (And.imp_right (forall_imp fun _ => (forall_imp fun _ => (mo_fX10_roundOf_J111 (fun _ _ _ _ => (ih _ _ _ _)) hQ )))))) (mo_fX10_roundOf_J111 (fun _ _ _ _ => (ih _ _ _ _)) hQ )))
theorem mo_fX10_roundOf_L40  {Q Q' : Int32 → pA → Prop} (hQ : ∀ b0 b1, Q b0 b1 → Q' b0 b1) : ∀ m w0 w1 w2 w3, fX10_roundOf_L40 Q m w0 w1 w2 w3 → fX10_roundOf_L40 Q' m w0 w1 w2 w3 := by
  intro m
  induction m with
  | zero => intro w0 w1 w2 w3 h; exact absurd h id
  | succ m ih =>
    intro w0 w1 w2 w3
    unfold fX10_roundOf_L40
    exact (n_iteM (Exists.imp fun _ => (mo_fX10_roundOf_L64 hQ _ _ _ _ _)) (And.imp_right (forall_imp fun _ => (forall_imp fun _ => (ih _ _ _ _)))))
theorem mo_fX10_roundOf_L4  {Q Q' : Int32 → pA → Prop} (hQ : ∀ b0 b1, Q b0 b1 → Q' b0 b1) : ∀ m w0 w1 w2 w3, fX10_roundOf_L4 Q m w0 w1 w2 w3 → fX10_roundOf_L4 Q' m w0 w1 w2 w3 := by
  intro m
  induction m with
  | zero => intro w0 w1 w2 w3 h; exact absurd h id
  | succ m ih =>
    intro w0 w1 w2 w3
    unfold fX10_roundOf_L4
    exact (And.imp_right (n_iteM (Exists.imp fun _ => (mo_fX10_roundOf_L40 hQ _ _ _ _ _)) (mo_fX10_errandsLeft (fun _ => (n_iteM (mo_fX10_roundOf_J32 (fun _ _ _ _ => (ih _ _ _ _)) hQ ) (mo_fX10_roundOf_J32 (fun _ _ _ _ => (ih _ _ _ _)) hQ ))) )))
theorem mo_fX10_roundOf {A : pA} {p1 : Int32} {Q Q' : Int32 → pA → Prop} (hQ : ∀ b0 b1, Q b0 b1 → Q' b0 b1) : fX10_roundOf A p1 Q → fX10_roundOf A p1 Q' := by
  unfold fX10_roundOf
  exact (Exists.imp fun _ => (mo_fX10_roundOf_L4 hQ _ _ _ _ _))
theorem mo_fX10_round {A : pA} {p1 : Int32} {p2 : Int32} {Q Q' : Int32 → pA → Prop} (hQ : ∀ b0 b1, Q b0 b1 → Q' b0 b1) : fX10_round A p1 p2 Q → fX10_round A p1 p2 Q' := by
  unfold fX10_round
  exact (mo_fX10_isPerson (fun _ => (n_iteM (hQ _ _) (mo_fX10_in (fun _ => (n_iteM (hQ _ _) (mo_fX10_copies (fun _ => (mo_fX10_roundOf (fun _ _ => (n_iteM (n_iteM (hQ _ _) (mo_fX10_isHour (fun _ => (n_iteM (mo_fX10_tillNext (fun _ => (n_iteM (hQ _ _) (hQ _ _))) ) (hQ _ _))) )) (hQ _ _))) )) ))) ))) )
theorem mo_fX10_minds {A : pA} {p1 : Int32} {Q Q' : Int32 → pA → Prop} (hQ : ∀ b0 b1, Q b0 b1 → Q' b0 b1) : fX10_minds A p1 Q → fX10_minds A p1 Q' := by
  unfold fX10_minds
  exact (mo_fX10_isDog (fun _ => (n_iteM (hQ _ _) (mo_fX10_copies (fun _ => (mo_fX10_mindsNow (fun _ _ => (hQ _ _)) )) ))) )
theorem mo_fX10_feeding_J66 {A : pA} {l1 : Int32} {l2 : Int32} {l3 : Int32} {k14 k14' : Int32 → Int32 → Int32 → Prop} {Q Q' : Int32 → Prop} (hk14 : ∀ b0 b1 b2, k14 b0 b1 b2 → k14' b0 b1 b2) (hQ : ∀ b0, Q b0 → Q' b0) : fX10_feeding_J66 A k14 Q l1 l2 l3 → fX10_feeding_J66 A k14' Q' l1 l2 l3 := by
  unfold fX10_feeding_J66
  exact (hk14 _ _ _)
theorem mo_fX10_feeding_L14 {A : pA} {Q Q' : Int32 → Prop} (hQ : ∀ b0, Q b0 → Q' b0) : ∀ m w0 w1 w2, fX10_feeding_L14 A Q m w0 w1 w2 → fX10_feeding_L14 A Q' m w0 w1 w2 := by
  intro m
  induction m with
  | zero => intro w0 w1 w2 h; exact absurd h id
  | succ m ih =>
    intro w0 w1 w2
    unfold fX10_feeding_L14
    exact (And.imp_right (n_iteM (hQ _) (And.imp_right (And.imp_right (n_iteM (mo_fX10_feeding_J66 (fun _ _ _ => (ih _ _ _)) hQ ) (mo_fX10_feeding_J66 (fun _ _ _ => (ih _ _ _)) hQ ))))))
theorem mo_fX10_feeding {A : pA} {p1 : Int32} {Q Q' : Int32 → Prop} (hQ : ∀ b0, Q b0 → Q' b0) : fX10_feeding A p1 Q → fX10_feeding A p1 Q' := by
  unfold fX10_feeding
  exact (mo_fX10_isPerson (fun _ => (n_iteM (hQ _) (Exists.imp fun _ => (mo_fX10_feeding_L14 hQ _ _ _ _)))) )
theorem mo_fX10_nextHour_L20  {Q Q' : pA → Prop} (hQ : ∀ b0, Q b0 → Q' b0) : ∀ m w0 w1, fX10_nextHour_L20 Q m w0 w1 → fX10_nextHour_L20 Q' m w0 w1 := by
  intro m
  induction m with
  | zero => intro w0 w1 h; exact absurd h id
  | succ m ih =>
    intro w0 w1
    unfold fX10_nextHour_L20
    exact (n_iteM (And.imp_right (And.imp_right (mo_fX10_goes (fun _ => (hQ _)) ))) (And.imp_right (forall_imp fun _ => (forall_imp fun _ => (ih _ _)))))
theorem mo_fX10_nextHour {A : pA} {Q Q' : pA → Prop} (hQ : ∀ b0, Q b0 → Q' b0) : fX10_nextHour A Q → fX10_nextHour A Q' := by
  unfold fX10_nextHour
  exact (mo_fX10_tillNext (fun _ => (forall_imp fun _ => (forall_imp fun _ => (mo_fX10_dogsRest (fun _ => (Exists.imp fun _ => (mo_fX10_nextHour_L20 hQ _ _ _))) )))) )
theorem mo_fX10_safeBits_J53 {l1 : Int32} {l2 : Int32} {l3 : Int32} {A : pA} {k4 k4' : Int32 → Int32 → Int32 → pA → Prop} {Q Q' : Int32 → pA → Prop} (hk4 : ∀ b0 b1 b2 b3, k4 b0 b1 b2 b3 → k4' b0 b1 b2 b3) (hQ : ∀ b0 b1, Q b0 b1 → Q' b0 b1) : fX10_safeBits_J53 k4 Q l1 l2 l3 A → fX10_safeBits_J53 k4' Q' l1 l2 l3 A := by
  unfold fX10_safeBits_J53
  exact (hk4 _ _ _ _)
theorem mo_fX10_safeBits_L4  {Q Q' : Int32 → pA → Prop} (hQ : ∀ b0 b1, Q b0 b1 → Q' b0 b1) : ∀ m w0 w1 w2 w3, fX10_safeBits_L4 Q m w0 w1 w2 w3 → fX10_safeBits_L4 Q' m w0 w1 w2 w3 := by
  intro m
  induction m with
  | zero => intro w0 w1 w2 w3 h; exact absurd h id
  | succ m ih =>
    intro w0 w1 w2 w3
    unfold fX10_safeBits_L4
    exact (And.imp_right (n_iteM (hQ _ _) (mo_fX10_copies (fun _ => (And.imp_right (forall_imp fun _ => (forall_imp fun _ => (mo_fX10_nextHour (fun _ => (And.imp_right (n_iteM (mo_fX10_safeBits_J53 (fun _ _ _ _ => (ih _ _ _ _)) hQ ) (mo_fX10_safeBits_J53 (fun _ _ _ _ => (ih _ _ _ _)) hQ )))) ))))) )))
theorem mo_fX10_safeBits {A : pA} {p1 : Int32} {Q Q' : Int32 → pA → Prop} (hQ : ∀ b0 b1, Q b0 b1 → Q' b0 b1) : fX10_safeBits A p1 Q → fX10_safeBits A p1 Q' := by
  unfold fX10_safeBits
  exact (Exists.imp fun _ => (mo_fX10_safeBits_L4 hQ _ _ _ _ _))
theorem mo_fX10_safe {A : pA} {p1 : Int32} {Q Q' : Int32 → pA → Prop} (hQ : ∀ b0 b1, Q b0 b1 → Q' b0 b1) : fX10_safe A p1 Q → fX10_safe A p1 Q' := by
  unfold fX10_safe
  exact (mo_fX10_isPerson (fun _ => (n_iteM (hQ _ _) (mo_fX10_safeBits (fun _ _ => (hQ _ _)) ))) )
theorem mo_fX10_refuge_J99 {l1 : Int32} {l2 : Int32} {l3 : Int32} {l4 : Int32} {l5 : Int32} {l6 : Int32} {A : pA} {k36 k36' : Int32 → Int32 → Int32 → Int32 → Int32 → Int32 → pA → Prop} {Q Q' : Int32 → pA → Prop} (hk36 : ∀ b0 b1 b2 b3 b4 b5 b6, k36 b0 b1 b2 b3 b4 b5 b6 → k36' b0 b1 b2 b3 b4 b5 b6) (hQ : ∀ b0 b1, Q b0 b1 → Q' b0 b1) : fX10_refuge_J99 k36 Q l1 l2 l3 l4 l5 l6 A → fX10_refuge_J99 k36' Q' l1 l2 l3 l4 l5 l6 A := by
  unfold fX10_refuge_J99
  exact (hk36 _ _ _ _ _ _ _)
theorem mo_fX10_refuge_L36  {Q Q' : Int32 → pA → Prop} (hQ : ∀ b0 b1, Q b0 b1 → Q' b0 b1) : ∀ m w0 w1 w2 w3 w4 w5 w6, fX10_refuge_L36 Q m w0 w1 w2 w3 w4 w5 w6 → fX10_refuge_L36 Q' m w0 w1 w2 w3 w4 w5 w6 := by
  intro m
  induction m with
  | zero => intro w0 w1 w2 w3 w4 w5 w6 h; exact absurd h id
  | succ m ih =>
    intro w0 w1 w2 w3 w4 w5 w6
    unfold fX10_refuge_L36
    exact (And.imp_right (n_iteM (n_iteM (hQ _ _) (n_iteM (hQ _ _) (hQ _ _))) (And.imp_right (And.imp_right (n_iteM (mo_fX10_refuge_J99 (fun _ _ _ _ _ _ _ => (ih _ _ _ _ _ _ _)) hQ ) (n_iteM (mo_fX10_refuge_J99 (fun _ _ _ _ _ _ _ => (ih _ _ _ _ _ _ _)) hQ ) (mo_fX10_refuge_J99 (fun _ _ _ _ _ _ _ => (ih _ _ _ _ _ _ _)) hQ )))))))
theorem mo_fX10_refuge {A : pA} {p1 : Int32} {p2 : Int32} {Q Q' : Int32 → pA → Prop} (hQ : ∀ b0 b1, Q b0 b1 → Q' b0 b1) : fX10_refuge A p1 p2 Q → fX10_refuge A p1 p2 Q' := by
  unfold fX10_refuge
  exact (mo_fX10_isPerson (fun _ => (n_iteM (hQ _ _) (mo_fX10_in (fun _ => (n_iteM (hQ _ _) (mo_fX10_safeBits (fun _ _ => (Exists.imp fun _ => (mo_fX10_refuge_L36 hQ _ _ _ _ _ _ _ _))) ))) ))) )
theorem mo_fX10_loses {A : pA} {p1 : Int32} {Q Q' : Int32 → pA → Prop} (hQ : ∀ b0 b1, Q b0 b1 → Q' b0 b1) : fX10_loses A p1 Q → fX10_loses A p1 Q' := by
  unfold fX10_loses
  exact (mo_fX10_isPerson (fun _ => (n_iteM (hQ _ _) (mo_fX10_copies (fun _ => (mo_fX10_nextHour (fun _ => (And.imp_right (And.imp_right (hQ _ _)))) )) ))) )
theorem mo_fX10_fetched {A : pA} {Q Q' : Int32 → pA → Prop} (hQ : ∀ b0 b1, Q b0 b1 → Q' b0 b1) : fX10_fetched A Q → fX10_fetched A Q' := by
  unfold fX10_fetched
  exact (mo_fX10_copies (fun _ => (mo_fX10_nextHour (fun _ => (And.imp_right (mo_fX10_bitsOf (fun _ => (hQ _ _)) ))) )) )
theorem mo_fX10_held_J74 {A : pA} {l1 : Int32} {l2 : Int32} {l3 : Int32} {l4 : Int32} {k19 k19' : Int32 → Int32 → Int32 → Int32 → Prop} {Q Q' : Int32 → Prop} (hk19 : ∀ b0 b1 b2 b3, k19 b0 b1 b2 b3 → k19' b0 b1 b2 b3) (hQ : ∀ b0, Q b0 → Q' b0) : fX10_held_J74 A k19 Q l1 l2 l3 l4 → fX10_held_J74 A k19' Q' l1 l2 l3 l4 := by
  unfold fX10_held_J74
  exact (hk19 _ _ _ _)
theorem mo_fX10_held_L19 {A : pA} {Q Q' : Int32 → Prop} (hQ : ∀ b0, Q b0 → Q' b0) : ∀ m w0 w1 w2 w3, fX10_held_L19 A Q m w0 w1 w2 w3 → fX10_held_L19 A Q' m w0 w1 w2 w3 := by
  intro m
  induction m with
  | zero => intro w0 w1 w2 w3 h; exact absurd h id
  | succ m ih =>
    intro w0 w1 w2 w3
    unfold fX10_held_L19
    exact (And.imp_right (n_iteM (hQ _) (And.imp_right (And.imp_right (n_iteM (mo_fX10_held_J74 (fun _ _ _ _ => (ih _ _ _ _)) hQ ) (mo_fX10_held_J74 (fun _ _ _ _ => (ih _ _ _ _)) hQ ))))))
theorem mo_fX10_held {A : pA} {p1 : Int32} {Q Q' : Int32 → Prop} (hQ : ∀ b0, Q b0 → Q' b0) : fX10_held A p1 Q → fX10_held A p1 Q' := by
  unfold fX10_held
  exact (mo_fX10_isPlace (fun _ => (n_iteM (hQ _) (Exists.imp fun _ => (mo_fX10_held_L19 hQ _ _ _ _ _)))) )
theorem mo_fX10_grudge_L24  {Q Q' : Int32 → pA → Prop} (hQ : ∀ b0 b1, Q b0 b1 → Q' b0 b1) : ∀ m w0 w1 w2 w3, fX10_grudge_L24 Q m w0 w1 w2 w3 → fX10_grudge_L24 Q' m w0 w1 w2 w3 := by
  intro m
  induction m with
  | zero => intro w0 w1 w2 w3 h; exact absurd h id
  | succ m ih =>
    intro w0 w1 w2 w3
    unfold fX10_grudge_L24
    exact (n_iteM (hQ _ _) (mo_fX10_bearsGrudge (fun _ => (n_iteM (hQ _ _) (mo_fX10_fades (fun _ => (ih _ _ _ _)) ))) ))
theorem mo_fX10_grudge {A : pA} {p1 : Int32} {p2 : Int32} {Q Q' : Int32 → pA → Prop} (hQ : ∀ b0 b1, Q b0 b1 → Q' b0 b1) : fX10_grudge A p1 p2 Q → fX10_grudge A p1 p2 Q' := by
  unfold fX10_grudge
  exact (mo_fX10_isDog (fun _ => (n_iteM (hQ _ _) (mo_fX10_isPerson (fun _ => (n_iteM (hQ _ _) (mo_fX10_copies (fun _ => (Exists.imp fun _ => (mo_fX10_grudge_L24 hQ _ _ _ _ _))) ))) ))) )
theorem mo_fX10_duesOf {A : pA} {p1 : Int32} {Q Q' : Int32 → pA → Prop} (hQ : ∀ b0 b1, Q b0 b1 → Q' b0 b1) : fX10_duesOf A p1 Q → fX10_duesOf A p1 Q' := by
  unfold fX10_duesOf
  exact (mo_fX10_looksAtDog (fun _ => (mo_fX10_asks (fun _ _ => (mo_fX10_within (fun _ => (hQ _ _)) )) )) )
theorem mo_fX10_share_L21  {Q Q' : Int32 → pA → Prop} (hQ : ∀ b0 b1, Q b0 b1 → Q' b0 b1) : ∀ m w0 w1 w2 w3 w4, fX10_share_L21 Q m w0 w1 w2 w3 w4 → fX10_share_L21 Q' m w0 w1 w2 w3 w4 := by
  intro m
  induction m with
  | zero => intro w0 w1 w2 w3 w4 h; exact absurd h id
  | succ m ih =>
    intro w0 w1 w2 w3 w4
    unfold fX10_share_L21
    exact (And.imp_right (n_iteM (n_iteM (hQ _ _) (mo_fX10_duesOf (fun _ _ => (And.imp_right (hQ _ _))) )) (mo_fX10_duesOf (fun _ _ => (And.imp_right (ih _ _ _ _ _))) )))
theorem mo_fX10_share {A : pA} {p1 : Int32} {Q Q' : Int32 → pA → Prop} (hQ : ∀ b0 b1, Q b0 b1 → Q' b0 b1) : fX10_share A p1 Q → fX10_share A p1 Q' := by
  unfold fX10_share
  exact (mo_fX10_isDog (fun _ => (n_iteM (hQ _ _) (mo_fX10_copies (fun _ => (Exists.imp fun _ => (mo_fX10_share_L21 hQ _ _ _ _ _ _))) ))) )
theorem mo_fX10_isLong {A : pA} {p0 : Int32} {Q Q' : Int32 → Prop} (hQ : ∀ b0, Q b0 → Q' b0) : fX10_isLong A p0 Q → fX10_isLong A p0 Q' := by
  unfold fX10_isLong
  exact (mo_fX10_in (fun _ => (And.imp_right (hQ _))) )
theorem mo_fX10_then {A : pA} {p1 : Int32} {p2 : Int32} {p3 : Int32} {Q Q' : Int32 → pA → Prop} (hQ : ∀ b0 b1, Q b0 b1 → Q' b0 b1) : fX10_then A p1 p2 p3 Q → fX10_then A p1 p2 p3 Q' := by
  unfold fX10_then
  exact (mo_fX10_isPerson (fun _ => (n_iteM (hQ _ _) (mo_fX10_isLong (fun _ => (n_iteM (hQ _ _) (mo_fX10_in (fun _ => (n_iteM (hQ _ _) (mo_fX10_copies (fun _ => (mo_fX10_goes (fun _ => (n_iteM (And.imp_right (hQ _ _)) (n_iteM (And.imp_right (hQ _ _)) (n_iteM (And.imp_right (hQ _ _)) (mo_fX10_errandsLeft (fun _ => (hQ _ _)) ))))) )) ))) ))) ))) )
theorem mo_fX10_dogIn {A : pA} {p1 : Int32} {p2 : Int32} {Q Q' : Int32 → pA → Prop} (hQ : ∀ b0 b1, Q b0 b1 → Q' b0 b1) : fX10_dogIn A p1 p2 Q → fX10_dogIn A p1 p2 Q' := by
  unfold fX10_dogIn
  exact (mo_fX10_isDog (fun _ => (n_iteM (hQ _ _) (mo_fX10_isLong (fun _ => (n_iteM (hQ _ _) (mo_fX10_copies (fun _ => (mo_fX10_goes (fun _ => (And.imp_right (hQ _ _))) )) ))) ))) )
theorem mo_fX10_first_J86 {l1 : Int32} {l2 : Int32} {l3 : Int32} {A : pA} {k30 k30' : Int32 → Int32 → Int32 → pA → Prop} {Q Q' : Int32 → pA → Prop} (hk30 : ∀ b0 b1 b2 b3, k30 b0 b1 b2 b3 → k30' b0 b1 b2 b3) (hQ : ∀ b0 b1, Q b0 b1 → Q' b0 b1) : fX10_first_J86 k30 Q l1 l2 l3 A → fX10_first_J86 k30' Q' l1 l2 l3 A := by
  unfold fX10_first_J86
  exact (hk30 _ _ _ _)
theorem mo_fX10_first_L30  {k17 k17' : Int32 → Int32 → pA → Prop} {Q Q' : Int32 → pA → Prop} (hk17 : ∀ b0 b1 b2, k17 b0 b1 b2 → k17' b0 b1 b2) (hQ : ∀ b0 b1, Q b0 b1 → Q' b0 b1) : ∀ m w0 w1 w2 w3, fX10_first_L30 k17 Q m w0 w1 w2 w3 → fX10_first_L30 k17' Q' m w0 w1 w2 w3 := by
  intro m
  induction m with
  | zero => intro w0 w1 w2 w3 h; exact absurd h id
  | succ m ih =>
    intro w0 w1 w2 w3
    unfold fX10_first_L30
    exact (And.imp_right (n_iteM (hk17 _ _ _) (And.imp_right (n_iteM (And.imp_right (And.imp_right (n_iteM (mo_fX10_first_J86 (fun _ _ _ _ => (ih _ _ _ _)) hQ ) (n_iteM (hQ _ _) (hQ _ _))))) (mo_fX10_first_J86 (fun _ _ _ _ => (ih _ _ _ _)) hQ )))))
theorem mo_fX10_first_L17  {Q Q' : Int32 → pA → Prop} (hQ : ∀ b0 b1, Q b0 b1 → Q' b0 b1) : ∀ m w0 w1 w2, fX10_first_L17 Q m w0 w1 w2 → fX10_first_L17 Q' m w0 w1 w2 := by
  intro m
  induction m with
  | zero => intro w0 w1 w2 h; exact absurd h id
  | succ m ih =>
    intro w0 w1 w2
    unfold fX10_first_L17
    exact (n_iteM (hQ _ _) (mo_fX10_minuteGoes (fun _ => (Exists.imp fun _ => (mo_fX10_first_L30 (fun _ _ _ => (ih _ _ _)) hQ _ _ _ _ _))) ))
theorem mo_fX10_first {A : pA} {p1 : Int32} {Q Q' : Int32 → pA → Prop} (hQ : ∀ b0 b1, Q b0 b1 → Q' b0 b1) : fX10_first A p1 Q → fX10_first A p1 Q' := by
  unfold fX10_first
  exact (mo_fX10_in (fun _ => (n_iteM (hQ _ _) (mo_fX10_copies (fun _ => (Exists.imp fun _ => (mo_fX10_first_L17 hQ _ _ _ _))) ))) )
theorem mo_fX10_tell {A : pA} {p1 : Int32} {p2 : Int32} {Q Q' : Int32 → pA → Prop} (hQ : ∀ b0 b1, Q b0 b1 → Q' b0 b1) : fX10_tell A p1 p2 Q → fX10_tell A p1 p2 Q' := by
  unfold fX10_tell
  exact (n_iteM (hQ _ _) (mo_fX10_isPerson (fun _ => (n_iteM (hQ _ _) (And.imp_right (forall_imp fun _ => (forall_imp fun _ => (And.imp_right (forall_imp fun _ => (forall_imp fun _ => (forall_imp fun _ => (forall_imp fun _ => (hQ _ _))))))))))) ))
theorem mo_fX10_forget {A : pA} {Q Q' : Int32 → pA → Prop} (hQ : ∀ b0 b1, Q b0 b1 → Q' b0 b1) : fX10_forget A Q → fX10_forget A Q' := by
  unfold fX10_forget
  exact (forall_imp fun _ => (forall_imp fun _ => (hQ _ _)))
theorem mo_fX10_isPair {A : pA} {p1 : Int32} {Q Q' : Int32 → Prop} (hQ : ∀ b0, Q b0 → Q' b0) : fX10_isPair A p1 Q → fX10_isPair A p1 Q' := by
  unfold fX10_isPair
  exact (mo_fX10_isDog (fun _ => (n_iteM (hQ _) (mo_fX10_isPerson (fun _ => (n_iteM (hQ _) (hQ _))) ))) )
theorem mo_fX10_isSo_J65 {l2 : Int32} {l3 : Int32} {s0 : Int32} {A : pA} {k37 k37' : Int32 → Int32 → pA → Prop} {Q Q' : Int32 → pA → Prop} (hk37 : ∀ b0 b1 b2, k37 b0 b1 b2 → k37' b0 b1 b2) (hQ : ∀ b0 b1, Q b0 b1 → Q' b0 b1) : fX10_isSo_J65 k37 Q l2 l3 s0 A → fX10_isSo_J65 k37' Q' l2 l3 s0 A := by
  unfold fX10_isSo_J65
  exact (And.imp_right (n_iteM (hk37 _ _ _) (hQ _ _)))
theorem mo_fX10_isSo_L37  {Q Q' : Int32 → pA → Prop} (hQ : ∀ b0 b1, Q b0 b1 → Q' b0 b1) : ∀ m w0 w1 w2, fX10_isSo_L37 Q m w0 w1 w2 → fX10_isSo_L37 Q' m w0 w1 w2 := by
  intro m
  induction m with
  | zero => intro w0 w1 w2 h; exact absurd h id
  | succ m ih =>
    intro w0 w1 w2
    unfold fX10_isSo_L37
    exact (n_iteM (hQ _ _) (And.imp_right (And.imp_right (n_iteM (mo_fX10_isSo_J65 (fun _ _ _ => (ih _ _ _)) hQ ) (mo_fX10_isSo_J65 (fun _ _ _ => (ih _ _ _)) hQ )))))
theorem mo_fX10_isSo {A : pA} {p1 : Int32} {p2 : Int32} {Q Q' : Int32 → pA → Prop} (hQ : ∀ b0 b1, Q b0 b1 → Q' b0 b1) : fX10_isSo A p1 p2 Q → fX10_isSo A p1 p2 Q' := by
  unfold fX10_isSo
  exact (mo_fX10_copies (fun _ => (And.imp_right (mo_fX10_within (fun _ => (And.imp_right (forall_imp fun _ => (forall_imp fun _ => (mo_fX10_nextHour (fun _ => (Exists.imp fun _ => (mo_fX10_isSo_L37 hQ _ _ _ _))) ))))) ))) )
theorem mo_fX10_kicks_J44 {l1 : Int32} {l2 : Int32} {l3 : Int32} {A : pA} {k18 k18' : Int32 → Int32 → Int32 → pA → Prop} {Q Q' : Int32 → pA → Prop} (hk18 : ∀ b0 b1 b2 b3, k18 b0 b1 b2 b3 → k18' b0 b1 b2 b3) (hQ : ∀ b0 b1, Q b0 b1 → Q' b0 b1) : fX10_kicks_J44 k18 Q l1 l2 l3 A → fX10_kicks_J44 k18' Q' l1 l2 l3 A := by
  unfold fX10_kicks_J44
  exact (hk18 _ _ _ _)
theorem mo_fX10_kicks_L18  {Q Q' : Int32 → pA → Prop} (hQ : ∀ b0 b1, Q b0 b1 → Q' b0 b1) : ∀ m w0 w1 w2 w3, fX10_kicks_L18 Q m w0 w1 w2 w3 → fX10_kicks_L18 Q' m w0 w1 w2 w3 := by
  intro m
  induction m with
  | zero => intro w0 w1 w2 w3 h; exact absurd h id
  | succ m ih =>
    intro w0 w1 w2 w3
    unfold fX10_kicks_L18
    exact (n_iteM (hQ _ _) (mo_fX10_isPair (fun _ => (n_iteM (mo_fX10_kicks_J44 (fun _ _ _ _ => (ih _ _ _ _)) hQ ) (mo_fX10_isSo (fun _ _ => (n_iteM (mo_fX10_kicks_J44 (fun _ _ _ _ => (ih _ _ _ _)) hQ ) (mo_fX10_kicks_J44 (fun _ _ _ _ => (ih _ _ _ _)) hQ ))) ))) ))
theorem mo_fX10_kicks {A : pA} {p1 : Int32} {Q Q' : Int32 → pA → Prop} (hQ : ∀ b0 b1, Q b0 b1 → Q' b0 b1) : fX10_kicks A p1 Q → fX10_kicks A p1 Q' := by
  unfold fX10_kicks
  exact (mo_fX10_in (fun _ => (n_iteM (hQ _ _) (Exists.imp fun _ => (mo_fX10_kicks_L18 hQ _ _ _ _ _)))) )
theorem mo_fX10_sure_J63 {l1 : Int32} {l2 : Int32} {l3 : Int32} {A : pA} {k19 k19' : Int32 → Int32 → Int32 → pA → Prop} {Q Q' : Int32 → pA → Prop} (hk19 : ∀ b0 b1 b2 b3, k19 b0 b1 b2 b3 → k19' b0 b1 b2 b3) (hQ : ∀ b0 b1, Q b0 b1 → Q' b0 b1) : fX10_sure_J63 k19 Q l1 l2 l3 A → fX10_sure_J63 k19' Q' l1 l2 l3 A := by
  unfold fX10_sure_J63
  exact (hk19 _ _ _ _)
theorem mo_fX10_sure_L19  {Q Q' : Int32 → pA → Prop} (hQ : ∀ b0 b1, Q b0 b1 → Q' b0 b1) : ∀ m w0 w1 w2 w3, fX10_sure_L19 Q m w0 w1 w2 w3 → fX10_sure_L19 Q' m w0 w1 w2 w3 := by
  intro m
  induction m with
  | zero => intro w0 w1 w2 w3 h; exact absurd h id
  | succ m ih =>
    intro w0 w1 w2 w3
    unfold fX10_sure_L19
    exact (n_iteM (hQ _ _) (mo_fX10_isPair (fun _ => (n_iteM (mo_fX10_sure_J63 (fun _ _ _ _ => (ih _ _ _ _)) hQ ) (mo_fX10_isSo (fun _ _ => (n_iteM (mo_fX10_sure_J63 (fun _ _ _ _ => (ih _ _ _ _)) hQ ) (n_iteM (mo_fX10_sure_J63 (fun _ _ _ _ => (ih _ _ _ _)) hQ ) (hQ _ _)))) ))) ))
theorem mo_fX10_sure {A : pA} {p1 : Int32} {Q Q' : Int32 → pA → Prop} (hQ : ∀ b0 b1, Q b0 b1 → Q' b0 b1) : fX10_sure A p1 Q → fX10_sure A p1 Q' := by
  unfold fX10_sure
  exact (mo_fX10_in (fun _ => (n_iteM (hQ _ _) (Exists.imp fun _ => (mo_fX10_sure_L19 hQ _ _ _ _ _)))) )
theorem mo_fX10_ask_J110 {l1 : Int32} {l2 : Int32} {l3 : Int32} {A : pA} {k38 k38' : Int32 → Int32 → Int32 → pA → Prop} {Q Q' : Int32 → pA → Prop} (hk38 : ∀ b0 b1 b2 b3, k38 b0 b1 b2 b3 → k38' b0 b1 b2 b3) (hQ : ∀ b0 b1, Q b0 b1 → Q' b0 b1) : fX10_ask_J110 k38 Q l1 l2 l3 A → fX10_ask_J110 k38' Q' l1 l2 l3 A := by
  unfold fX10_ask_J110
  exact (hk38 _ _ _ _)
theorem mo_fX10_ask_L70  {k38 k38' : Int32 → Int32 → Int32 → pA → Prop} {Q Q' : Int32 → pA → Prop} (hk38 : ∀ b0 b1 b2 b3, k38 b0 b1 b2 b3 → k38' b0 b1 b2 b3) (hQ : ∀ b0 b1, Q b0 b1 → Q' b0 b1) : ∀ m w0 w1 w2 w3 w4, fX10_ask_L70 k38 Q m w0 w1 w2 w3 w4 → fX10_ask_L70 k38' Q' m w0 w1 w2 w3 w4 := by
  intro m
  induction m with
  | zero => intro w0 w1 w2 w3 w4 h; exact absurd h id
  | succ m ih =>
    intro w0 w1 w2 w3 w4
    unfold fX10_ask_L70
    exact (And.imp_right (n_iteM (mo_fX10_ask_J110 hk38 hQ ) (And.imp_right (And.imp_right (And.imp_right (forall_imp fun _ => (forall_imp fun _ => (ih _ _ _ _ _))))))))
theorem mo_fX10_ask_J204 {l2 : Int32} {l3 : Int32} {l4 : Int32} {l5 : Int32} {A : pA} {k125 k125' : Int32 → Int32 → Int32 → Int32 → pA → Prop} {Q Q' : Int32 → pA → Prop} (hk125 : ∀ b0 b1 b2 b3 b4, k125 b0 b1 b2 b3 b4 → k125' b0 b1 b2 b3 b4) (hQ : ∀ b0 b1, Q b0 b1 → Q' b0 b1) : fX10_ask_J204 k125 Q l2 l3 l4 l5 A → fX10_ask_J204 k125' Q' l2 l3 l4 l5 A := by
  unfold fX10_ask_J204
  exact (hk125 _ _ _ _ _)
theorem mo_fX10_ask_J197 {l2 : Int32} {l5 : Int32} {l6 : Int32} {A : pA} {k125 k125' : Int32 → Int32 → Int32 → Int32 → pA → Prop} {Q Q' : Int32 → pA → Prop} (hk125 : ∀ b0 b1 b2 b3 b4, k125 b0 b1 b2 b3 b4 → k125' b0 b1 b2 b3 b4) (hQ : ∀ b0 b1, Q b0 b1 → Q' b0 b1) : fX10_ask_J197 k125 Q l2 l5 l6 A → fX10_ask_J197 k125' Q' l2 l5 l6 A := by
  unfold fX10_ask_J197
  exact (mo_fX10_ask_J204 hk125 hQ )
theorem mo_fX10_ask_J181 {l2 : Int32} {l3 : Int32} {l4 : Int32} {l5 : Int32} {s0 : Int32} {A : pA} {k125 k125' : Int32 → Int32 → Int32 → Int32 → pA → Prop} {Q Q' : Int32 → pA → Prop} (hk125 : ∀ b0 b1 b2 b3 b4, k125 b0 b1 b2 b3 b4 → k125' b0 b1 b2 b3 b4) (hQ : ∀ b0 b1, Q b0 b1 → Q' b0 b1) : fX10_ask_J181 k125 Q l2 l3 l4 l5 s0 A → fX10_ask_J181 k125' Q' l2 l3 l4 l5 s0 A := by
  unfold fX10_ask_J181
  exact (n_iteM (mo_fX10_ask_J197 hk125 hQ ) (n_iteM (mo_fX10_ask_J197 hk125 hQ ) (mo_fX10_ask_J204 hk125 hQ )))
theorem mo_fX10_ask_L125  {Q Q' : Int32 → pA → Prop} (hQ : ∀ b0 b1, Q b0 b1 → Q' b0 b1) : ∀ m w0 w1 w2 w3 w4, fX10_ask_L125 Q m w0 w1 w2 w3 w4 → fX10_ask_L125 Q' m w0 w1 w2 w3 w4 := by
  intro m
  induction m with
  | zero => intro w0 w1 w2 w3 w4 h; exact absurd h id
  | succ m ih =>
    intro w0 w1 w2 w3 w4
    unfold fX10_ask_L125
    exact (And.imp_right (n_iteM (hQ _ _) (n_iteM (hQ _ _) (And.imp_right (And.imp_right (n_iteM (And.imp_right (mo_fX10_ask_J181 (fun _ _ _ _ _ => (ih _ _ _ _ _)) hQ )) (And.imp_right (mo_fX10_ask_J181 (fun _ _ _ _ _ => (ih _ _ _ _ _)) hQ ))))))))
theorem mo_fX10_ask_L38  {Q Q' : Int32 → pA → Prop} (hQ : ∀ b0 b1, Q b0 b1 → Q' b0 b1) : ∀ m w0 w1 w2 w3, fX10_ask_L38 Q m w0 w1 w2 w3 → fX10_ask_L38 Q' m w0 w1 w2 w3 := by
  intro m
  induction m with
  | zero => intro w0 w1 w2 w3 h; exact absurd h id
  | succ m ih =>
    intro w0 w1 w2 w3
    unfold fX10_ask_L38
    exact (n_iteM (Exists.imp fun _ => (mo_fX10_ask_L125 hQ _ _ _ _ _ _)) (mo_fX10_isPair (fun _ => (n_iteM (mo_fX10_ask_J110 (fun _ _ _ _ => (ih _ _ _ _)) hQ ) (mo_fX10_isSo (fun _ _ => (n_iteM (mo_fX10_ask_J110 (fun _ _ _ _ => (ih _ _ _ _)) hQ ) (Exists.imp fun _ => (mo_fX10_ask_L70 (fun _ _ _ _ => (ih _ _ _ _)) hQ _ _ _ _ _ _)))) ))) ))
theorem mo_fX10_ask_L18  {Q Q' : Int32 → pA → Prop} (hQ : ∀ b0 b1, Q b0 b1 → Q' b0 b1) : ∀ m w0 w1 w2 w3, fX10_ask_L18 Q m w0 w1 w2 w3 → fX10_ask_L18 Q' m w0 w1 w2 w3 := by
  intro m
  induction m with
  | zero => intro w0 w1 w2 w3 h; exact absurd h id
  | succ m ih =>
    intro w0 w1 w2 w3
    unfold fX10_ask_L18
    exact (n_iteM (Exists.imp fun _ => (mo_fX10_ask_L38 hQ _ _ _ _ _)) (And.imp_right (forall_imp fun _ => (forall_imp fun _ => (ih _ _ _ _)))))
theorem mo_fX10_ask {A : pA} {p1 : Int32} {Q Q' : Int32 → pA → Prop} (hQ : ∀ b0 b1, Q b0 b1 → Q' b0 b1) : fX10_ask A p1 Q → fX10_ask A p1 Q' := by
  unfold fX10_ask
  exact (mo_fX10_in (fun _ => (n_iteM (hQ _ _) (Exists.imp fun _ => (mo_fX10_ask_L18 hQ _ _ _ _ _)))) )
theorem mo_fX10_hold_L20  {Q Q' : Int32 → pA → Prop} (hQ : ∀ b0 b1, Q b0 b1 → Q' b0 b1) : ∀ m w0 w1 w2, fX10_hold_L20 Q m w0 w1 w2 → fX10_hold_L20 Q' m w0 w1 w2 := by
  intro m
  induction m with
  | zero => intro w0 w1 w2 h; exact absurd h id
  | succ m ih =>
    intro w0 w1 w2
    unfold fX10_hold_L20
    exact (n_iteM (hQ _ _) (And.imp_right (And.imp_right (forall_imp fun _ => (forall_imp fun _ => (ih _ _ _))))))
theorem mo_fX10_hold {A : pA} {p1 : Int32} {Q Q' : Int32 → pA → Prop} (hQ : ∀ b0 b1, Q b0 b1 → Q' b0 b1) : fX10_hold A p1 Q → fX10_hold A p1 Q' := by
  unfold fX10_hold
  exact (mo_fX10_in (fun _ => (n_iteM (hQ _ _) (And.imp_right (forall_imp fun _ => (forall_imp fun _ => (Exists.imp fun _ => (mo_fX10_hold_L20 hQ _ _ _ _))))))) )
theorem mo_fX10_restore_L22  {Q Q' : Int32 → pA → Prop} (hQ : ∀ b0 b1, Q b0 b1 → Q' b0 b1) : ∀ m w0 w1 w2, fX10_restore_L22 Q m w0 w1 w2 → fX10_restore_L22 Q' m w0 w1 w2 := by
  intro m
  induction m with
  | zero => intro w0 w1 w2 h; exact absurd h id
  | succ m ih =>
    intro w0 w1 w2
    unfold fX10_restore_L22
    exact (n_iteM (forall_imp fun _ => (forall_imp fun _ => (hQ _ _))) (And.imp_right (And.imp_right (forall_imp fun _ => (forall_imp fun _ => (ih _ _ _))))))
theorem mo_fX10_restore {A : pA} {p1 : Int32} {Q Q' : Int32 → pA → Prop} (hQ : ∀ b0 b1, Q b0 b1 → Q' b0 b1) : fX10_restore A p1 Q → fX10_restore A p1 Q' := by
  unfold fX10_restore
  exact (mo_fX10_in (fun _ => (n_iteM (hQ _ _) (And.imp_right (n_iteM (hQ _ _) (Exists.imp fun _ => (mo_fX10_restore_L22 hQ _ _ _ _)))))) )
theorem mo_fX10_sumNow_L5 {A : pA} {Q Q' : Int32 → Prop} (hQ : ∀ b0, Q b0 → Q' b0) : ∀ m w0 w1 w2 w3, fX10_sumNow_L5 A Q m w0 w1 w2 w3 → fX10_sumNow_L5 A Q' m w0 w1 w2 w3 := by
  intro m
  induction m with
  | zero => intro w0 w1 w2 w3 h; exact absurd h id
  | succ m ih =>
    intro w0 w1 w2 w3
    unfold fX10_sumNow_L5
    exact (n_iteM (hQ _) (And.imp_right (ih _ _ _ _)))
theorem mo_fX10_sumNow {A : pA} {p1 : Int32} {p2 : Int32} {Q Q' : Int32 → Prop} (hQ : ∀ b0, Q b0 → Q' b0) : fX10_sumNow A p1 p2 Q → fX10_sumNow A p1 p2 Q' := by
  unfold fX10_sumNow
  exact (Exists.imp fun _ => (mo_fX10_sumNow_L5 hQ _ _ _ _ _))
theorem mo_fX10_count_J262 {s0 : Int32} {s1 : Int32} {A : pA} {Q Q' : Int32 → pA → Prop} (hQ : ∀ b0 b1, Q b0 b1 → Q' b0 b1) : fX10_count_J262 Q s0 s1 A → fX10_count_J262 Q' s0 s1 A := by
  unfold fX10_count_J262
  exact (hQ _ _)
theorem mo_fX10_count_J247 {s0 : Int32} {s1 : Int32} {A : pA} {Q Q' : Int32 → pA → Prop} (hQ : ∀ b0 b1, Q b0 b1 → Q' b0 b1) : fX10_count_J247 Q s0 s1 A → fX10_count_J247 Q' s0 s1 A := by
  unfold fX10_count_J247
  exact (n_iteM (mo_fX10_count_J262 hQ ) (mo_fX10_count_J262 hQ ))
theorem mo_fX10_count_J233 {s0 : Int32} {A : pA} {Q Q' : Int32 → pA → Prop} (hQ : ∀ b0 b1, Q b0 b1 → Q' b0 b1) : fX10_count_J233 Q s0 A → fX10_count_J233 Q' s0 A := by
  unfold fX10_count_J233
  exact (n_iteM (mo_fX10_count_J247 hQ ) (mo_fX10_count_J247 hQ ))
theorem mo_fX10_count {A : pA} {p1 : Int32} {Q Q' : Int32 → pA → Prop} (hQ : ∀ b0 b1, Q b0 b1 → Q' b0 b1) : fX10_count A p1 Q → fX10_count A p1 Q' := by
  unfold fX10_count
  exact (mo_fX10_copies (fun _ => (n_iteM (And.imp_right (hQ _ _)) (n_iteM (And.imp_right (hQ _ _)) (n_iteM (And.imp_right (hQ _ _)) (n_iteM (And.imp_right (hQ _ _)) (n_iteM (And.imp_right (hQ _ _)) (n_iteM (mo_fX10_minuteNow (fun _ => (hQ _ _)) ) (n_iteM (mo_fX10_isHour (fun _ => (n_iteM (hQ _ _) (hQ _ _))) ) (n_iteM (hQ _ _) (n_iteM (And.imp_right (mo_fX10_bitsOf (fun _ => (hQ _ _)) )) (n_iteM (hQ _ _) (n_iteM (mo_fX10_sumNow (fun _ => (hQ _ _)) ) (n_iteM (hQ _ _) (n_iteM (hQ _ _) (n_iteM (hQ _ _) (n_iteM (n_iteM (mo_fX10_count_J233 hQ ) (mo_fX10_count_J233 hQ )) (n_iteM (mo_fX10_sumNow (fun _ => (hQ _ _)) ) (n_iteM (mo_fX10_sumNow (fun _ => (hQ _ _)) ) (n_iteM (mo_fX10_sumNow (fun _ => (hQ _ _)) ) (n_iteM (mo_fX10_sumNow (fun _ => (hQ _ _)) ) (hQ _ _))))))))))))))))))))) )
