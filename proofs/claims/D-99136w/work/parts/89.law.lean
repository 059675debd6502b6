set_option maxRecDepth 100000
set_option linter.all false
theorem DONE.of {B B' n : Nat} {K : Nat → pKd} {A : pA} {Lg : pL} {G : pG} (hB : B ≤ B') (h : DONE B n K A Lg G) : DONE B' n K A Lg G := by
  obtain ⟨x, hx⟩ := h
  exact ⟨x, hx.mono hB⟩
theorem lb_feed {Γ : jG} {k18 : Int32 → Nat → (Nat → pKd) → pA → pL → pG → Nat → Nat → Prop} {Q : Int32 → Nat → (Nat → pKd) → pA → pL → pG → Prop} {l3 : Int32} {kc ks : Nat} {B : Nat} {x : St} {n : Nat} {K : Nat → pKd} {A : pA} {Lg : pL} {G : pG} (h : INV B x n K A Lg G) (hB : B ≤ 800000000) (v1 : vp_in (l3 + 1) (gN Γ)) (v2 : vp_in (l3 + 2) (gN Γ)) (v3 : vp_in (l3 + 3) (gN Γ)) (v4 : vp_in (l3 + 4) (gN Γ)) (v5 : vp_in (l3 + 5) (gN Γ)) (hk : ∀ A2, DONE (B + 1440) n K A2 Lg G → k18 (l3 + 6) n K A2 Lg G kc ks) : fL_law_J192 Γ k18 Q l3 n K A Lg G kc ks := by
  unfold fL_law_J192 fL_law_J1186
  refine ⟨v1, v2, v3, v4, v5, x.tx, h.g03, h.xok, h.fok, mo_fX0_feed (fun r A1 hh => ⟨v1, v2, v3, v4, v5, h.mok, mo_fX10_feed (fun r' A2 hr => ?_) hh⟩) (d_feed h _ _ _ _ _)⟩
  rw [if_pos hr.1]; exact hk A2 (hr.2.of (by omega))
theorem lb_back {Γ : jG} {k18 : Int32 → Nat → (Nat → pKd) → pA → pL → pG → Nat → Nat → Prop} {Q : Int32 → Nat → (Nat → pKd) → pA → pL → pG → Prop} {l3 : Int32} {kc ks : Nat} {B : Nat} {x : St} {n : Nat} {K : Nat → pKd} {A : pA} {Lg : pL} {G : pG} (h : INV B x n K A Lg G) (hB : B ≤ 800000000) (v1 : vp_in (l3 + 1) (gN Γ)) (v2 : vp_in (l3 + 2) (gN Γ)) (v3 : vp_in (l3 + 3) (gN Γ)) (v4 : vp_in (l3 + 4) (gN Γ)) (v5 : vp_in (l3 + 5) (gN Γ)) (hk : ∀ A2, DONE (B + 1440) n K A2 Lg G → k18 (l3 + 6) n K A2 Lg G kc ks) : fL_law_J255 Γ k18 Q l3 n K A Lg G kc ks := by
  unfold fL_law_J255 fL_law_J1186
  refine ⟨v1, x.tx, h.g03, h.xok, h.fok, mo_fX0_back (fun r A1 hh => ⟨v1, h.mok, mo_fX10_back (fun r' A2 hr => ?_) hh⟩) (d_back h _)⟩
  rw [if_pos hr.1]; exact hk A2 (hr.2.of (by omega))
theorem lb_place {Γ : jG} {k18 : Int32 → Nat → (Nat → pKd) → pA → pL → pG → Nat → Nat → Prop} {Q : Int32 → Nat → (Nat → pKd) → pA → pL → pG → Prop} {l3 : Int32} {kc ks : Nat} {B : Nat} {x : St} {n : Nat} {K : Nat → pKd} {A : pA} {Lg : pL} {G : pG} (h : INV B x n K A Lg G) (hB : B ≤ 800000000) (v1 : vp_in (l3 + 1) (gN Γ)) (v2 : vp_in (l3 + 2) (gN Γ)) (v3 : vp_in (l3 + 3) (gN Γ)) (v4 : vp_in (l3 + 4) (gN Γ)) (v5 : vp_in (l3 + 5) (gN Γ)) (hk : ∀ A2, DONE (B + 1440) n K A2 Lg G → k18 (l3 + 6) n K A2 Lg G kc ks) : fL_law_J291 Γ k18 Q l3 n K A Lg G kc ks := by
  unfold fL_law_J291 fL_law_J1186
  refine ⟨x.tx, h.g03, h.xok, h.fok, mo_fX0_place (fun r hh => ⟨h.mok, mo_fX10_place (fun r' hr => ?_) hh⟩) (q_place h )⟩
  rw [if_pos hr]; exact hk A ⟨x, h.mono (by omega)⟩
theorem lb_spot {Γ : jG} {k18 : Int32 → Nat → (Nat → pKd) → pA → pL → pG → Nat → Nat → Prop} {Q : Int32 → Nat → (Nat → pKd) → pA → pL → pG → Prop} {l3 : Int32} {kc ks : Nat} {B : Nat} {x : St} {n : Nat} {K : Nat → pKd} {A : pA} {Lg : pL} {G : pG} (h : INV B x n K A Lg G) (hB : B ≤ 800000000) (v1 : vp_in (l3 + 1) (gN Γ)) (v2 : vp_in (l3 + 2) (gN Γ)) (v3 : vp_in (l3 + 3) (gN Γ)) (v4 : vp_in (l3 + 4) (gN Γ)) (v5 : vp_in (l3 + 5) (gN Γ)) (hk : ∀ A2, DONE (B + 1440) n K A2 Lg G → k18 (l3 + 6) n K A2 Lg G kc ks) : fL_law_J304 Γ k18 Q l3 n K A Lg G kc ks := by
  unfold fL_law_J304 fL_law_J1186
  refine ⟨v1, v2, x.tx, h.g03, h.xok, h.fok, mo_fX0_spot (fun r hh => ⟨v1, v2, h.mok, mo_fX10_spot (fun r' A2 hr => ?_) hh⟩) (q_spot h _ _)⟩
  rw [if_pos hr.1]; exact hk A2 ⟨x, (h.scr hr.2).mono (by omega)⟩
theorem lb_dog {Γ : jG} {k18 : Int32 → Nat → (Nat → pKd) → pA → pL → pG → Nat → Nat → Prop} {Q : Int32 → Nat → (Nat → pKd) → pA → pL → pG → Prop} {l3 : Int32} {kc ks : Nat} {B : Nat} {x : St} {n : Nat} {K : Nat → pKd} {A : pA} {Lg : pL} {G : pG} (h : INV B x n K A Lg G) (hB : B ≤ 800000000) (v1 : vp_in (l3 + 1) (gN Γ)) (v2 : vp_in (l3 + 2) (gN Γ)) (v3 : vp_in (l3 + 3) (gN Γ)) (v4 : vp_in (l3 + 4) (gN Γ)) (v5 : vp_in (l3 + 5) (gN Γ)) (hk : ∀ A2, DONE (B + 1440) n K A2 Lg G → k18 (l3 + 6) n K A2 Lg G kc ks) : fL_law_J337 Γ k18 Q l3 n K A Lg G kc ks := by
  unfold fL_law_J337 fL_law_J1186
  refine ⟨v1, v2, x.tx, h.g03, h.xok, h.fok, mo_fX0_dog (fun r hh => ⟨v1, v2, h.mok, mo_fX10_dog (fun r' hr => ?_) hh⟩) (q_dog h _ _)⟩
  rw [if_pos hr]; exact hk A ⟨x, h.mono (by omega)⟩
theorem lb_person {Γ : jG} {k18 : Int32 → Nat → (Nat → pKd) → pA → pL → pG → Nat → Nat → Prop} {Q : Int32 → Nat → (Nat → pKd) → pA → pL → pG → Prop} {l3 : Int32} {kc ks : Nat} {B : Nat} {x : St} {n : Nat} {K : Nat → pKd} {A : pA} {Lg : pL} {G : pG} (h : INV B x n K A Lg G) (hB : B ≤ 800000000) (v1 : vp_in (l3 + 1) (gN Γ)) (v2 : vp_in (l3 + 2) (gN Γ)) (v3 : vp_in (l3 + 3) (gN Γ)) (v4 : vp_in (l3 + 4) (gN Γ)) (v5 : vp_in (l3 + 5) (gN Γ)) (hk : ∀ A2, DONE (B + 1440) n K A2 Lg G → k18 (l3 + 6) n K A2 Lg G kc ks) : fL_law_J370 Γ k18 Q l3 n K A Lg G kc ks := by
  unfold fL_law_J370 fL_law_J1186
  refine ⟨v1, v2, x.tx, h.g03, h.xok, h.fok, mo_fX0_person (fun r hh => ⟨v1, v2, h.mok, mo_fX10_person (fun r' A2 hr => ?_) hh⟩) (q_person h _ _)⟩
  rw [if_pos hr.1]; exact hk A2 ⟨x, (h.scr hr.2).mono (by omega)⟩
theorem lb_mind {Γ : jG} {k18 : Int32 → Nat → (Nat → pKd) → pA → pL → pG → Nat → Nat → Prop} {Q : Int32 → Nat → (Nat → pKd) → pA → pL → pG → Prop} {l3 : Int32} {kc ks : Nat} {B : Nat} {x : St} {n : Nat} {K : Nat → pKd} {A : pA} {Lg : pL} {G : pG} (h : INV B x n K A Lg G) (hB : B ≤ 800000000) (v1 : vp_in (l3 + 1) (gN Γ)) (v2 : vp_in (l3 + 2) (gN Γ)) (v3 : vp_in (l3 + 3) (gN Γ)) (v4 : vp_in (l3 + 4) (gN Γ)) (v5 : vp_in (l3 + 5) (gN Γ)) (hk : ∀ A2, DONE (B + 1440) n K A2 Lg G → k18 (l3 + 6) n K A2 Lg G kc ks) : fL_law_J403 Γ k18 Q l3 n K A Lg G kc ks := by
  unfold fL_law_J403 fL_law_J1186
  refine ⟨v1, v2, v3, x.tx, h.g03, h.xok, h.fok, mo_fX0_mind (fun r A1 hh => ⟨v1, v2, v3, h.mok, mo_fX10_mind (fun r' A2 hr => ?_) hh⟩) (q_mind h _ _ _)⟩
  rw [if_pos hr.1]; exact hk A2 ⟨x, (h.scr hr.2).mono (by omega)⟩
theorem lb_go {Γ : jG} {k18 : Int32 → Nat → (Nat → pKd) → pA → pL → pG → Nat → Nat → Prop} {Q : Int32 → Nat → (Nat → pKd) → pA → pL → pG → Prop} {l3 : Int32} {kc ks : Nat} {B : Nat} {x : St} {n : Nat} {K : Nat → pKd} {A : pA} {Lg : pL} {G : pG} (h : INV B x n K A Lg G) (hB : B ≤ 800000000) (v1 : vp_in (l3 + 1) (gN Γ)) (v2 : vp_in (l3 + 2) (gN Γ)) (v3 : vp_in (l3 + 3) (gN Γ)) (v4 : vp_in (l3 + 4) (gN Γ)) (v5 : vp_in (l3 + 5) (gN Γ)) (hk : ∀ A2, DONE (B + 1440) n K A2 Lg G → k18 (l3 + 6) n K A2 Lg G kc ks) : fL_law_J446 Γ k18 Q l3 n K A Lg G kc ks := by
  unfold fL_law_J446 fL_law_J1186
  refine ⟨v1, v2, x.tx, h.g03, h.xok, h.fok, mo_fX0_go (fun r A1 hh => ⟨v1, v2, h.mok, mo_fX10_go (fun r' A2 hr => ?_) hh⟩) (d_go h _ _)⟩
  rw [if_pos hr.1]; exact hk A2 (hr.2.of (by omega))
theorem lb_give {Γ : jG} {k18 : Int32 → Nat → (Nat → pKd) → pA → pL → pG → Nat → Nat → Prop} {Q : Int32 → Nat → (Nat → pKd) → pA → pL → pG → Prop} {l3 : Int32} {kc ks : Nat} {B : Nat} {x : St} {n : Nat} {K : Nat → pKd} {A : pA} {Lg : pL} {G : pG} (h : INV B x n K A Lg G) (hB : B ≤ 800000000) (v1 : vp_in (l3 + 1) (gN Γ)) (v2 : vp_in (l3 + 2) (gN Γ)) (v3 : vp_in (l3 + 3) (gN Γ)) (v4 : vp_in (l3 + 4) (gN Γ)) (v5 : vp_in (l3 + 5) (gN Γ)) (hk : ∀ A2, DONE (B + 1440) n K A2 Lg G → k18 (l3 + 6) n K A2 Lg G kc ks) : fL_law_J479 Γ k18 Q l3 n K A Lg G kc ks := by
  unfold fL_law_J479 fL_law_J1186
  refine ⟨v1, v2, v3, x.tx, h.g03, h.xok, h.fok, mo_fX0_give (fun r A1 hh => ⟨v1, v2, v3, h.mok, mo_fX10_give (fun r' A2 hr => ?_) hh⟩) (d_give h _ _ _)⟩
  rw [if_pos hr.1]; exact hk A2 (hr.2.of (by omega))
theorem lb_kick {Γ : jG} {k18 : Int32 → Nat → (Nat → pKd) → pA → pL → pG → Nat → Nat → Prop} {Q : Int32 → Nat → (Nat → pKd) → pA → pL → pG → Prop} {l3 : Int32} {kc ks : Nat} {B : Nat} {x : St} {n : Nat} {K : Nat → pKd} {A : pA} {Lg : pL} {G : pG} (h : INV B x n K A Lg G) (hB : B ≤ 800000000) (v1 : vp_in (l3 + 1) (gN Γ)) (v2 : vp_in (l3 + 2) (gN Γ)) (v3 : vp_in (l3 + 3) (gN Γ)) (v4 : vp_in (l3 + 4) (gN Γ)) (v5 : vp_in (l3 + 5) (gN Γ)) (hk : ∀ A2, DONE (B + 1440) n K A2 Lg G → k18 (l3 + 6) n K A2 Lg G kc ks) : fL_law_J522 Γ k18 Q l3 n K A Lg G kc ks := by
  unfold fL_law_J522 fL_law_J1186
  refine ⟨v1, v2, x.tx, h.g03, h.xok, h.fok, mo_fX0_kick (fun r A1 hh => ⟨v1, v2, h.mok, mo_fX10_kick (fun r' A2 hr => ?_) hh⟩) (d_kick h _ _)⟩
  rw [if_pos hr.1]; exact hk A2 (hr.2.of (by omega))
theorem lb_minutes {Γ : jG} {k18 : Int32 → Nat → (Nat → pKd) → pA → pL → pG → Nat → Nat → Prop} {Q : Int32 → Nat → (Nat → pKd) → pA → pL → pG → Prop} {l3 : Int32} {kc ks : Nat} {B : Nat} {x : St} {n : Nat} {K : Nat → pKd} {A : pA} {Lg : pL} {G : pG} (h : INV B x n K A Lg G) (hB : B ≤ 800000000) (v1 : vp_in (l3 + 1) (gN Γ)) (v2 : vp_in (l3 + 2) (gN Γ)) (v3 : vp_in (l3 + 3) (gN Γ)) (v4 : vp_in (l3 + 4) (gN Γ)) (v5 : vp_in (l3 + 5) (gN Γ)) (hk : ∀ A2, DONE (B + 1440) n K A2 Lg G → k18 (l3 + 6) n K A2 Lg G kc ks) : fL_law_J555 Γ k18 Q l3 n K A Lg G kc ks := by
  unfold fL_law_J555 fL_law_J1186
  refine ⟨v1, x.tx, h.g03, h.xok, h.fok, mo_fX0_minutes (fun r A1 hh => ⟨v1, h.mok, mo_fX10_minutes (fun r' A2 hr => ?_) hh⟩) (d_minutes h (by omega) _)⟩
  rw [if_pos hr.1]; exact hk A2 (hr.2.of (by omega))
theorem lb_undo {Γ : jG} {k18 : Int32 → Nat → (Nat → pKd) → pA → pL → pG → Nat → Nat → Prop} {Q : Int32 → Nat → (Nat → pKd) → pA → pL → pG → Prop} {l3 : Int32} {kc ks : Nat} {B : Nat} {x : St} {n : Nat} {K : Nat → pKd} {A : pA} {Lg : pL} {G : pG} (h : INV B x n K A Lg G) (hB : B ≤ 800000000) (v1 : vp_in (l3 + 1) (gN Γ)) (v2 : vp_in (l3 + 2) (gN Γ)) (v3 : vp_in (l3 + 3) (gN Γ)) (v4 : vp_in (l3 + 4) (gN Γ)) (v5 : vp_in (l3 + 5) (gN Γ)) (hk : ∀ A2, DONE (B + 1440) n K A2 Lg G → k18 (l3 + 6) n K A2 Lg G kc ks) : fL_law_J578 Γ k18 Q l3 n K A Lg G kc ks := by
  unfold fL_law_J578 fL_law_J1186
  refine ⟨x.tx, h.g03, h.xok, h.fok, mo_fX0_undo (fun r A1 hh => ⟨h.mok, mo_fX10_undo (fun r' A2 hr => ?_) hh⟩) (d_undo h )⟩
  rw [if_pos hr.1]; exact hk A2 (hr.2.of (by omega))
theorem lb_far {Γ : jG} {k18 : Int32 → Nat → (Nat → pKd) → pA → pL → pG → Nat → Nat → Prop} {Q : Int32 → Nat → (Nat → pKd) → pA → pL → pG → Prop} {l3 : Int32} {kc ks : Nat} {B : Nat} {x : St} {n : Nat} {K : Nat → pKd} {A : pA} {Lg : pL} {G : pG} (h : INV B x n K A Lg G) (hB : B ≤ 800000000) (v1 : vp_in (l3 + 1) (gN Γ)) (v2 : vp_in (l3 + 2) (gN Γ)) (v3 : vp_in (l3 + 3) (gN Γ)) (v4 : vp_in (l3 + 4) (gN Γ)) (v5 : vp_in (l3 + 5) (gN Γ)) (hk : ∀ A2, DONE (B + 1440) n K A2 Lg G → k18 (l3 + 6) n K A2 Lg G kc ks) : fL_law_J591 Γ k18 Q l3 n K A Lg G kc ks := by
  unfold fL_law_J591 fL_law_J1186
  refine ⟨v1, v2, x.tx, h.g03, h.xok, h.fok, mo_fX0_far (fun r hh => ⟨v1, v2, h.mok, mo_fX10_far (fun r' hr => ?_) hh⟩) (q_far h _ _)⟩
  rw [if_pos hr]; exact hk A ⟨x, h.mono (by omega)⟩
theorem lb_till {Γ : jG} {k18 : Int32 → Nat → (Nat → pKd) → pA → pL → pG → Nat → Nat → Prop} {Q : Int32 → Nat → (Nat → pKd) → pA → pL → pG → Prop} {l3 : Int32} {kc ks : Nat} {B : Nat} {x : St} {n : Nat} {K : Nat → pKd} {A : pA} {Lg : pL} {G : pG} (h : INV B x n K A Lg G) (hB : B ≤ 800000000) (v1 : vp_in (l3 + 1) (gN Γ)) (v2 : vp_in (l3 + 2) (gN Γ)) (v3 : vp_in (l3 + 3) (gN Γ)) (v4 : vp_in (l3 + 4) (gN Γ)) (v5 : vp_in (l3 + 5) (gN Γ)) (hk : ∀ A2, DONE (B + 1440) n K A2 Lg G → k18 (l3 + 6) n K A2 Lg G kc ks) : fL_law_J624 Γ k18 Q l3 n K A Lg G kc ks := by
  unfold fL_law_J624 fL_law_J1186
  refine ⟨x.tx, h.g03, h.xok, h.fok, mo_fX0_till (fun r hh => ⟨h.mok, mo_fX10_till (fun r' A2 hr => ?_) hh⟩) (q_till h )⟩
  rw [if_pos hr.1]; exact hk A2 ⟨x, (h.scr hr.2).mono (by omega)⟩
theorem lb_round {Γ : jG} {k18 : Int32 → Nat → (Nat → pKd) → pA → pL → pG → Nat → Nat → Prop} {Q : Int32 → Nat → (Nat → pKd) → pA → pL → pG → Prop} {l3 : Int32} {kc ks : Nat} {B : Nat} {x : St} {n : Nat} {K : Nat → pKd} {A : pA} {Lg : pL} {G : pG} (h : INV B x n K A Lg G) (hB : B ≤ 800000000) (v1 : vp_in (l3 + 1) (gN Γ)) (v2 : vp_in (l3 + 2) (gN Γ)) (v3 : vp_in (l3 + 3) (gN Γ)) (v4 : vp_in (l3 + 4) (gN Γ)) (v5 : vp_in (l3 + 5) (gN Γ)) (hk : ∀ A2, DONE (B + 1440) n K A2 Lg G → k18 (l3 + 6) n K A2 Lg G kc ks) : fL_law_J637 Γ k18 Q l3 n K A Lg G kc ks := by
  unfold fL_law_J637 fL_law_J1186
  refine ⟨v1, v2, x.tx, h.g03, h.xok, h.fok, mo_fX0_round (fun r A1 hh => ⟨v1, v2, h.mok, mo_fX10_round (fun r' A2 hr => ?_) hh⟩) (q_round h _ _)⟩
  rw [if_pos hr.1]; exact hk A2 ⟨x, (h.scr hr.2).mono (by omega)⟩
theorem lb_minds {Γ : jG} {k18 : Int32 → Nat → (Nat → pKd) → pA → pL → pG → Nat → Nat → Prop} {Q : Int32 → Nat → (Nat → pKd) → pA → pL → pG → Prop} {l3 : Int32} {kc ks : Nat} {B : Nat} {x : St} {n : Nat} {K : Nat → pKd} {A : pA} {Lg : pL} {G : pG} (h : INV B x n K A Lg G) (hB : B ≤ 800000000) (v1 : vp_in (l3 + 1) (gN Γ)) (v2 : vp_in (l3 + 2) (gN Γ)) (v3 : vp_in (l3 + 3) (gN Γ)) (v4 : vp_in (l3 + 4) (gN Γ)) (v5 : vp_in (l3 + 5) (gN Γ)) (hk : ∀ A2, DONE (B + 1440) n K A2 Lg G → k18 (l3 + 6) n K A2 Lg G kc ks) : fL_law_J670 Γ k18 Q l3 n K A Lg G kc ks := by
  unfold fL_law_J670 fL_law_J1186
  refine ⟨v1, x.tx, h.g03, h.xok, h.fok, mo_fX0_minds (fun r A1 hh => ⟨v1, h.mok, mo_fX10_minds (fun r' A2 hr => ?_) hh⟩) (q_minds h _)⟩
  rw [if_pos hr.1]; exact hk A2 ⟨x, (h.scr hr.2).mono (by omega)⟩
theorem lb_feeding {Γ : jG} {k18 : Int32 → Nat → (Nat → pKd) → pA → pL → pG → Nat → Nat → Prop} {Q : Int32 → Nat → (Nat → pKd) → pA → pL → pG → Prop} {l3 : Int32} {kc ks : Nat} {B : Nat} {x : St} {n : Nat} {K : Nat → pKd} {A : pA} {Lg : pL} {G : pG} (h : INV B x n K A Lg G) (hB : B ≤ 800000000) (v1 : vp_in (l3 + 1) (gN Γ)) (v2 : vp_in (l3 + 2) (gN Γ)) (v3 : vp_in (l3 + 3) (gN Γ)) (v4 : vp_in (l3 + 4) (gN Γ)) (v5 : vp_in (l3 + 5) (gN Γ)) (hk : ∀ A2, DONE (B + 1440) n K A2 Lg G → k18 (l3 + 6) n K A2 Lg G kc ks) : fL_law_J693 Γ k18 Q l3 n K A Lg G kc ks := by
  unfold fL_law_J693 fL_law_J1186
  refine ⟨v1, x.tx, h.g03, h.xok, h.fok, mo_fX0_feeding (fun r hh => ⟨v1, h.mok, mo_fX10_feeding (fun r' hr => ?_) hh⟩) (q_feeding h _)⟩
  rw [if_pos hr]; exact hk A ⟨x, h.mono (by omega)⟩
theorem lb_safe {Γ : jG} {k18 : Int32 → Nat → (Nat → pKd) → pA → pL → pG → Nat → Nat → Prop} {Q : Int32 → Nat → (Nat → pKd) → pA → pL → pG → Prop} {l3 : Int32} {kc ks : Nat} {B : Nat} {x : St} {n : Nat} {K : Nat → pKd} {A : pA} {Lg : pL} {G : pG} (h : INV B x n K A Lg G) (hB : B ≤ 800000000) (v1 : vp_in (l3 + 1) (gN Γ)) (v2 : vp_in (l3 + 2) (gN Γ)) (v3 : vp_in (l3 + 3) (gN Γ)) (v4 : vp_in (l3 + 4) (gN Γ)) (v5 : vp_in (l3 + 5) (gN Γ)) (hk : ∀ A2, DONE (B + 1440) n K A2 Lg G → k18 (l3 + 6) n K A2 Lg G kc ks) : fL_law_J716 Γ k18 Q l3 n K A Lg G kc ks := by
  unfold fL_law_J716 fL_law_J1186
  refine ⟨v1, x.tx, h.g03, h.xok, h.fok, mo_fX0_safe (fun r A1 hh => ⟨v1, h.mok, mo_fX10_safe (fun r' A2 hr => ?_) hh⟩) (q_safe h (by omega) _)⟩
  rw [if_pos hr.1]; exact hk A2 ⟨x, (h.scr hr.2).mono (by omega)⟩
theorem lb_refuge {Γ : jG} {k18 : Int32 → Nat → (Nat → pKd) → pA → pL → pG → Nat → Nat → Prop} {Q : Int32 → Nat → (Nat → pKd) → pA → pL → pG → Prop} {l3 : Int32} {kc ks : Nat} {B : Nat} {x : St} {n : Nat} {K : Nat → pKd} {A : pA} {Lg : pL} {G : pG} (h : INV B x n K A Lg G) (hB : B ≤ 800000000) (v1 : vp_in (l3 + 1) (gN Γ)) (v2 : vp_in (l3 + 2) (gN Γ)) (v3 : vp_in (l3 + 3) (gN Γ)) (v4 : vp_in (l3 + 4) (gN Γ)) (v5 : vp_in (l3 + 5) (gN Γ)) (hk : ∀ A2, DONE (B + 1440) n K A2 Lg G → k18 (l3 + 6) n K A2 Lg G kc ks) : fL_law_J739 Γ k18 Q l3 n K A Lg G kc ks := by
  unfold fL_law_J739 fL_law_J1186
  refine ⟨v1, v2, x.tx, h.g03, h.xok, h.fok, mo_fX0_refuge (fun r A1 hh => ⟨v1, v2, h.mok, mo_fX10_refuge (fun r' A2 hr => ?_) hh⟩) (q_refuge h (by omega) _ _)⟩
  rw [if_pos hr.1]; exact hk A2 ⟨x, (h.scr hr.2).mono (by omega)⟩
theorem lb_loses {Γ : jG} {k18 : Int32 → Nat → (Nat → pKd) → pA → pL → pG → Nat → Nat → Prop} {Q : Int32 → Nat → (Nat → pKd) → pA → pL → pG → Prop} {l3 : Int32} {kc ks : Nat} {B : Nat} {x : St} {n : Nat} {K : Nat → pKd} {A : pA} {Lg : pL} {G : pG} (h : INV B x n K A Lg G) (hB : B ≤ 800000000) (v1 : vp_in (l3 + 1) (gN Γ)) (v2 : vp_in (l3 + 2) (gN Γ)) (v3 : vp_in (l3 + 3) (gN Γ)) (v4 : vp_in (l3 + 4) (gN Γ)) (v5 : vp_in (l3 + 5) (gN Γ)) (hk : ∀ A2, DONE (B + 1440) n K A2 Lg G → k18 (l3 + 6) n K A2 Lg G kc ks) : fL_law_J772 Γ k18 Q l3 n K A Lg G kc ks := by
  unfold fL_law_J772 fL_law_J1186
  refine ⟨v1, x.tx, h.g03, h.xok, h.fok, mo_fX0_loses (fun r A1 hh => ⟨v1, h.mok, mo_fX10_loses (fun r' A2 hr => ?_) hh⟩) (q_loses h (by omega) _)⟩
  rw [if_pos hr.1]; exact hk A2 ⟨x, (h.scr hr.2).mono (by omega)⟩
theorem lb_fetched {Γ : jG} {k18 : Int32 → Nat → (Nat → pKd) → pA → pL → pG → Nat → Nat → Prop} {Q : Int32 → Nat → (Nat → pKd) → pA → pL → pG → Prop} {l3 : Int32} {kc ks : Nat} {B : Nat} {x : St} {n : Nat} {K : Nat → pKd} {A : pA} {Lg : pL} {G : pG} (h : INV B x n K A Lg G) (hB : B ≤ 800000000) (v1 : vp_in (l3 + 1) (gN Γ)) (v2 : vp_in (l3 + 2) (gN Γ)) (v3 : vp_in (l3 + 3) (gN Γ)) (v4 : vp_in (l3 + 4) (gN Γ)) (v5 : vp_in (l3 + 5) (gN Γ)) (hk : ∀ A2, DONE (B + 1440) n K A2 Lg G → k18 (l3 + 6) n K A2 Lg G kc ks) : fL_law_J795 Γ k18 Q l3 n K A Lg G kc ks := by
  unfold fL_law_J795 fL_law_J1186
  refine ⟨x.tx, h.g03, h.xok, h.fok, mo_fX0_fetched (fun r A1 hh => ⟨h.mok, mo_fX10_fetched (fun r' A2 hr => ?_) hh⟩) (q_fetched h (by omega) )⟩
  rw [if_pos hr.1]; exact hk A2 ⟨x, (h.scr hr.2).mono (by omega)⟩
theorem lb_held {Γ : jG} {k18 : Int32 → Nat → (Nat → pKd) → pA → pL → pG → Nat → Nat → Prop} {Q : Int32 → Nat → (Nat → pKd) → pA → pL → pG → Prop} {l3 : Int32} {kc ks : Nat} {B : Nat} {x : St} {n : Nat} {K : Nat → pKd} {A : pA} {Lg : pL} {G : pG} (h : INV B x n K A Lg G) (hB : B ≤ 800000000) (v1 : vp_in (l3 + 1) (gN Γ)) (v2 : vp_in (l3 + 2) (gN Γ)) (v3 : vp_in (l3 + 3) (gN Γ)) (v4 : vp_in (l3 + 4) (gN Γ)) (v5 : vp_in (l3 + 5) (gN Γ)) (hk : ∀ A2, DONE (B + 1440) n K A2 Lg G → k18 (l3 + 6) n K A2 Lg G kc ks) : fL_law_J808 Γ k18 Q l3 n K A Lg G kc ks := by
  unfold fL_law_J808 fL_law_J1186
  refine ⟨v1, x.tx, h.g03, h.xok, h.fok, mo_fX0_held (fun r hh => ⟨v1, h.mok, mo_fX10_held (fun r' hr => ?_) hh⟩) (q_held h _)⟩
  rw [if_pos hr]; exact hk A ⟨x, h.mono (by omega)⟩
theorem lb_grudge {Γ : jG} {k18 : Int32 → Nat → (Nat → pKd) → pA → pL → pG → Nat → Nat → Prop} {Q : Int32 → Nat → (Nat → pKd) → pA → pL → pG → Prop} {l3 : Int32} {kc ks : Nat} {B : Nat} {x : St} {n : Nat} {K : Nat → pKd} {A : pA} {Lg : pL} {G : pG} (h : INV B x n K A Lg G) (hB : B ≤ 800000000) (v1 : vp_in (l3 + 1) (gN Γ)) (v2 : vp_in (l3 + 2) (gN Γ)) (v3 : vp_in (l3 + 3) (gN Γ)) (v4 : vp_in (l3 + 4) (gN Γ)) (v5 : vp_in (l3 + 5) (gN Γ)) (hk : ∀ A2, DONE (B + 1440) n K A2 Lg G → k18 (l3 + 6) n K A2 Lg G kc ks) : fL_law_J831 Γ k18 Q l3 n K A Lg G kc ks := by
  unfold fL_law_J831 fL_law_J1186
  refine ⟨v1, v2, x.tx, h.g03, h.xok, h.fok, mo_fX0_grudge (fun r A1 hh => ⟨v1, v2, h.mok, mo_fX10_grudge (fun r' A2 hr => ?_) hh⟩) (q_grudge h _ _)⟩
  rw [if_pos hr.1]; exact hk A2 ⟨x, (h.scr hr.2).mono (by omega)⟩
theorem lb_share {Γ : jG} {k18 : Int32 → Nat → (Nat → pKd) → pA → pL → pG → Nat → Nat → Prop} {Q : Int32 → Nat → (Nat → pKd) → pA → pL → pG → Prop} {l3 : Int32} {kc ks : Nat} {B : Nat} {x : St} {n : Nat} {K : Nat → pKd} {A : pA} {Lg : pL} {G : pG} (h : INV B x n K A Lg G) (hB : B ≤ 800000000) (v1 : vp_in (l3 + 1) (gN Γ)) (v2 : vp_in (l3 + 2) (gN Γ)) (v3 : vp_in (l3 + 3) (gN Γ)) (v4 : vp_in (l3 + 4) (gN Γ)) (v5 : vp_in (l3 + 5) (gN Γ)) (hk : ∀ A2, DONE (B + 1440) n K A2 Lg G → k18 (l3 + 6) n K A2 Lg G kc ks) : fL_law_J864 Γ k18 Q l3 n K A Lg G kc ks := by
  unfold fL_law_J864 fL_law_J1186
  refine ⟨v1, x.tx, h.g03, h.xok, h.fok, mo_fX0_share (fun r A1 hh => ⟨v1, h.mok, mo_fX10_share (fun r' A2 hr => ?_) hh⟩) (q_share h _)⟩
  rw [if_pos hr.1]; exact hk A2 ⟨x, (h.scr hr.2).mono (by omega)⟩
theorem lb_then {Γ : jG} {k18 : Int32 → Nat → (Nat → pKd) → pA → pL → pG → Nat → Nat → Prop} {Q : Int32 → Nat → (Nat → pKd) → pA → pL → pG → Prop} {l3 : Int32} {kc ks : Nat} {B : Nat} {x : St} {n : Nat} {K : Nat → pKd} {A : pA} {Lg : pL} {G : pG} (h : INV B x n K A Lg G) (hB : B ≤ 800000000) (v1 : vp_in (l3 + 1) (gN Γ)) (v2 : vp_in (l3 + 2) (gN Γ)) (v3 : vp_in (l3 + 3) (gN Γ)) (v4 : vp_in (l3 + 4) (gN Γ)) (v5 : vp_in (l3 + 5) (gN Γ)) (hk : ∀ A2, DONE (B + 1440) n K A2 Lg G → k18 (l3 + 6) n K A2 Lg G kc ks) : fL_law_J887 Γ k18 Q l3 n K A Lg G kc ks := by
  unfold fL_law_J887 fL_law_J1186
  refine ⟨v1, v2, v3, x.tx, h.g03, h.xok, h.fok, mo_fX0_then (fun r A1 hh => ⟨v1, v2, v3, h.mok, mo_fX10_then (fun r' A2 hr => ?_) hh⟩) (q_then h (by omega) _ _ _)⟩
  rw [if_pos hr.1]; exact hk A2 ⟨x, (h.scr hr.2).mono (by omega)⟩
theorem lb_dogIn {Γ : jG} {k18 : Int32 → Nat → (Nat → pKd) → pA → pL → pG → Nat → Nat → Prop} {Q : Int32 → Nat → (Nat → pKd) → pA → pL → pG → Prop} {l3 : Int32} {kc ks : Nat} {B : Nat} {x : St} {n : Nat} {K : Nat → pKd} {A : pA} {Lg : pL} {G : pG} (h : INV B x n K A Lg G) (hB : B ≤ 800000000) (v1 : vp_in (l3 + 1) (gN Γ)) (v2 : vp_in (l3 + 2) (gN Γ)) (v3 : vp_in (l3 + 3) (gN Γ)) (v4 : vp_in (l3 + 4) (gN Γ)) (v5 : vp_in (l3 + 5) (gN Γ)) (hk : ∀ A2, DONE (B + 1440) n K A2 Lg G → k18 (l3 + 6) n K A2 Lg G kc ks) : fL_law_J930 Γ k18 Q l3 n K A Lg G kc ks := by
  unfold fL_law_J930 fL_law_J1186
  refine ⟨v1, v2, x.tx, h.g03, h.xok, h.fok, mo_fX0_dogIn (fun r A1 hh => ⟨v1, v2, h.mok, mo_fX10_dogIn (fun r' A2 hr => ?_) hh⟩) (q_dogIn h (by omega) _ _)⟩
  rw [if_pos hr.1]; exact hk A2 ⟨x, (h.scr hr.2).mono (by omega)⟩
theorem lb_first {Γ : jG} {k18 : Int32 → Nat → (Nat → pKd) → pA → pL → pG → Nat → Nat → Prop} {Q : Int32 → Nat → (Nat → pKd) → pA → pL → pG → Prop} {l3 : Int32} {kc ks : Nat} {B : Nat} {x : St} {n : Nat} {K : Nat → pKd} {A : pA} {Lg : pL} {G : pG} (h : INV B x n K A Lg G) (hB : B ≤ 800000000) (v1 : vp_in (l3 + 1) (gN Γ)) (v2 : vp_in (l3 + 2) (gN Γ)) (v3 : vp_in (l3 + 3) (gN Γ)) (v4 : vp_in (l3 + 4) (gN Γ)) (v5 : vp_in (l3 + 5) (gN Γ)) (hk : ∀ A2, DONE (B + 1440) n K A2 Lg G → k18 (l3 + 6) n K A2 Lg G kc ks) : fL_law_J963 Γ k18 Q l3 n K A Lg G kc ks := by
  unfold fL_law_J963 fL_law_J1186
  refine ⟨v1, x.tx, h.g03, h.xok, h.fok, mo_fX0_first (fun r A1 hh => ⟨v1, h.mok, mo_fX10_first (fun r' A2 hr => ?_) hh⟩) (q_first h (by omega) _)⟩
  rw [if_pos hr.1]; exact hk A2 ⟨x, (h.scr hr.2).mono (by omega)⟩
theorem lb_forget {Γ : jG} {k18 : Int32 → Nat → (Nat → pKd) → pA → pL → pG → Nat → Nat → Prop} {Q : Int32 → Nat → (Nat → pKd) → pA → pL → pG → Prop} {l3 : Int32} {kc ks : Nat} {B : Nat} {x : St} {n : Nat} {K : Nat → pKd} {A : pA} {Lg : pL} {G : pG} (h : INV B x n K A Lg G) (hB : B ≤ 800000000) (v1 : vp_in (l3 + 1) (gN Γ)) (v2 : vp_in (l3 + 2) (gN Γ)) (v3 : vp_in (l3 + 3) (gN Γ)) (v4 : vp_in (l3 + 4) (gN Γ)) (v5 : vp_in (l3 + 5) (gN Γ)) (hk : ∀ A2, DONE (B + 1440) n K A2 Lg G → k18 (l3 + 6) n K A2 Lg G kc ks) : fL_law_J1035 Γ k18 Q l3 n K A Lg G kc ks := by
  unfold fL_law_J1035 fL_law_J1186
  refine ⟨x.tx, h.g03, h.xok, h.fok, mo_fX0_forget (fun r A1 hh => ⟨h.mok, mo_fX10_forget (fun r' A2 hr => ?_) hh⟩) (d_forget h )⟩
  rw [if_pos hr.1]; exact hk A2 (hr.2.of (by omega))
theorem lb_kicks {Γ : jG} {k18 : Int32 → Nat → (Nat → pKd) → pA → pL → pG → Nat → Nat → Prop} {Q : Int32 → Nat → (Nat → pKd) → pA → pL → pG → Prop} {l3 : Int32} {kc ks : Nat} {B : Nat} {x : St} {n : Nat} {K : Nat → pKd} {A : pA} {Lg : pL} {G : pG} (h : INV B x n K A Lg G) (hB : B ≤ 800000000) (v1 : vp_in (l3 + 1) (gN Γ)) (v2 : vp_in (l3 + 2) (gN Γ)) (v3 : vp_in (l3 + 3) (gN Γ)) (v4 : vp_in (l3 + 4) (gN Γ)) (v5 : vp_in (l3 + 5) (gN Γ)) (hk : ∀ A2, DONE (B + 1440) n K A2 Lg G → k18 (l3 + 6) n K A2 Lg G kc ks) : fL_law_J1048 Γ k18 Q l3 n K A Lg G kc ks := by
  unfold fL_law_J1048 fL_law_J1186
  refine ⟨v1, x.tx, h.g03, h.xok, h.fok, mo_fX0_kicks (fun r A1 hh => ⟨v1, h.mok, mo_fX10_kicks (fun r' A2 hr => ?_) hh⟩) (q_kicks h (by omega) _)⟩
  rw [if_pos hr.1]; exact hk A2 ⟨x, (h.scr hr.2).mono (by omega)⟩
theorem lb_sure {Γ : jG} {k18 : Int32 → Nat → (Nat → pKd) → pA → pL → pG → Nat → Nat → Prop} {Q : Int32 → Nat → (Nat → pKd) → pA → pL → pG → Prop} {l3 : Int32} {kc ks : Nat} {B : Nat} {x : St} {n : Nat} {K : Nat → pKd} {A : pA} {Lg : pL} {G : pG} (h : INV B x n K A Lg G) (hB : B ≤ 800000000) (v1 : vp_in (l3 + 1) (gN Γ)) (v2 : vp_in (l3 + 2) (gN Γ)) (v3 : vp_in (l3 + 3) (gN Γ)) (v4 : vp_in (l3 + 4) (gN Γ)) (v5 : vp_in (l3 + 5) (gN Γ)) (hk : ∀ A2, DONE (B + 1440) n K A2 Lg G → k18 (l3 + 6) n K A2 Lg G kc ks) : fL_law_J1071 Γ k18 Q l3 n K A Lg G kc ks := by
  unfold fL_law_J1071 fL_law_J1186
  refine ⟨v1, x.tx, h.g03, h.xok, h.fok, mo_fX0_sure (fun r A1 hh => ⟨v1, h.mok, mo_fX10_sure (fun r' A2 hr => ?_) hh⟩) (q_sure h (by omega) _)⟩
  rw [if_pos hr.1]; exact hk A2 ⟨x, (h.scr hr.2).mono (by omega)⟩
theorem lb_ask {Γ : jG} {k18 : Int32 → Nat → (Nat → pKd) → pA → pL → pG → Nat → Nat → Prop} {Q : Int32 → Nat → (Nat → pKd) → pA → pL → pG → Prop} {l3 : Int32} {kc ks : Nat} {B : Nat} {x : St} {n : Nat} {K : Nat → pKd} {A : pA} {Lg : pL} {G : pG} (h : INV B x n K A Lg G) (hB : B ≤ 800000000) (v1 : vp_in (l3 + 1) (gN Γ)) (v2 : vp_in (l3 + 2) (gN Γ)) (v3 : vp_in (l3 + 3) (gN Γ)) (v4 : vp_in (l3 + 4) (gN Γ)) (v5 : vp_in (l3 + 5) (gN Γ)) (hk : ∀ A2, DONE (B + 1440) n K A2 Lg G → k18 (l3 + 6) n K A2 Lg G kc ks) : fL_law_J1094 Γ k18 Q l3 n K A Lg G kc ks := by
  unfold fL_law_J1094 fL_law_J1186
  refine ⟨v1, x.tx, h.g03, h.xok, h.fok, mo_fX0_ask (fun r A1 hh => ⟨v1, h.mok, mo_fX10_ask (fun r' A2 hr => ?_) hh⟩) (q_ask h (by omega) _)⟩
  rw [if_pos hr.1]; exact hk A2 ⟨x, (h.scr hr.2).mono (by omega)⟩
theorem lb_hold {Γ : jG} {k18 : Int32 → Nat → (Nat → pKd) → pA → pL → pG → Nat → Nat → Prop} {Q : Int32 → Nat → (Nat → pKd) → pA → pL → pG → Prop} {l3 : Int32} {kc ks : Nat} {B : Nat} {x : St} {n : Nat} {K : Nat → pKd} {A : pA} {Lg : pL} {G : pG} (h : INV B x n K A Lg G) (hB : B ≤ 800000000) (v1 : vp_in (l3 + 1) (gN Γ)) (v2 : vp_in (l3 + 2) (gN Γ)) (v3 : vp_in (l3 + 3) (gN Γ)) (v4 : vp_in (l3 + 4) (gN Γ)) (v5 : vp_in (l3 + 5) (gN Γ)) (hk : ∀ A2, DONE (B + 1440) n K A2 Lg G → k18 (l3 + 6) n K A2 Lg G kc ks) : fL_law_J1117 Γ k18 Q l3 n K A Lg G kc ks := by
  unfold fL_law_J1117 fL_law_J1186
  refine ⟨v1, x.tx, h.g03, h.xok, h.fok, mo_fX0_hold (fun r A1 hh => ⟨v1, h.mok, mo_fX10_hold (fun r' A2 hr => ?_) hh⟩) (d_hold h _)⟩
  rw [if_pos hr.1]; exact hk A2 (hr.2.of (by omega))
theorem lb_restore {Γ : jG} {k18 : Int32 → Nat → (Nat → pKd) → pA → pL → pG → Nat → Nat → Prop} {Q : Int32 → Nat → (Nat → pKd) → pA → pL → pG → Prop} {l3 : Int32} {kc ks : Nat} {B : Nat} {x : St} {n : Nat} {K : Nat → pKd} {A : pA} {Lg : pL} {G : pG} (h : INV B x n K A Lg G) (hB : B ≤ 800000000) (v1 : vp_in (l3 + 1) (gN Γ)) (v2 : vp_in (l3 + 2) (gN Γ)) (v3 : vp_in (l3 + 3) (gN Γ)) (v4 : vp_in (l3 + 4) (gN Γ)) (v5 : vp_in (l3 + 5) (gN Γ)) (hk : ∀ A2, DONE (B + 1440) n K A2 Lg G → k18 (l3 + 6) n K A2 Lg G kc ks) : fL_law_J1140 Γ k18 Q l3 n K A Lg G kc ks := by
  unfold fL_law_J1140 fL_law_J1186
  refine ⟨v1, x.tx, h.g03, h.xok, h.fok, mo_fX0_restore (fun r A1 hh => ⟨v1, h.mok, mo_fX10_restore (fun r' A2 hr => ?_) hh⟩) (d_restore h _)⟩
  rw [if_pos hr.1]; exact hk A2 (hr.2.of (by omega))
theorem lb_count {Γ : jG} {k18 : Int32 → Nat → (Nat → pKd) → pA → pL → pG → Nat → Nat → Prop} {Q : Int32 → Nat → (Nat → pKd) → pA → pL → pG → Prop} {l3 : Int32} {kc ks : Nat} {B : Nat} {x : St} {n : Nat} {K : Nat → pKd} {A : pA} {Lg : pL} {G : pG} (h : INV B x n K A Lg G) (hB : B ≤ 800000000) (v1 : vp_in (l3 + 1) (gN Γ)) (v2 : vp_in (l3 + 2) (gN Γ)) (v3 : vp_in (l3 + 3) (gN Γ)) (v4 : vp_in (l3 + 4) (gN Γ)) (v5 : vp_in (l3 + 5) (gN Γ)) (hk : ∀ A2, DONE (B + 1440) n K A2 Lg G → k18 (l3 + 6) n K A2 Lg G kc ks) : fL_law_J1163 Γ k18 Q l3 n K A Lg G kc ks := by
  unfold fL_law_J1163 fL_law_J1186
  refine ⟨v1, x.tx, h.g03, h.xok, h.fok, mo_fX0_count (fun r hh => ⟨v1, h.mok, mo_fX10_count (fun r' A2 hr => ?_) hh⟩) (q_count h _)⟩
  rw [if_pos hr.1]; exact hk A2 ⟨x, (h.scr hr.2).mono (by omega)⟩
theorem lb_tell {Γ : jG} {k18 : Int32 → Nat → (Nat → pKd) → pA → pL → pG → Nat → Nat → Prop} {Q : Int32 → Nat → (Nat → pKd) → pA → pL → pG → Prop} {l3 : Int32} {kc ks : Nat} {B : Nat} {x : St} {n : Nat} {K : Nat → pKd} {A : pA} {Lg : pL} {G : pG} (h : INV B x n K A Lg G) (hB : B ≤ 800000000) (v1 : vp_in (l3 + 1) (gN Γ)) (v2 : vp_in (l3 + 2) (gN Γ)) (v3 : vp_in (l3 + 3) (gN Γ)) (v4 : vp_in (l3 + 4) (gN Γ)) (v5 : vp_in (l3 + 5) (gN Γ)) (hk : ∀ A2, DONE (B + 1440) n K A2 Lg G → k18 (l3 + 6) n K A2 Lg G kc ks) : fL_law_J986 Γ k18 Q l3 n K A Lg G kc ks := by
  have key : ∀ w : Int32, (if gS Γ (l3 + 2).toNatClampNeg = 0 then 0 else 1) = w → fL_law_J1005 Γ k18 Q l3 w (gS Γ (l3 + 1).toNatClampNeg) n K A Lg G kc ks := by
    intro w hw
    unfold fL_law_J1005 fL_law_J1027 fL_law_J1186
    refine ⟨x.tx, h.g03, h.xok, h.fok, mo_fX0_tell (fun r A1 hh => ⟨v1, v2, ?_⟩) (d_tell h _ _)⟩
    have fin : h.mok = h.mok ∧ fX10_tell A1 (gS Γ (l3 + 1).toNatClampNeg) w (fun r' A2 => if r = r' then k18 (l3 + 6) n K A2 Lg G kc ks else Q 0 n K A2 Lg G) := ⟨rfl, mo_fX10_tell (fun r' A2 hr => by rw [if_pos hr.1]; exact hk A2 (hr.2.of (by omega))) hh⟩
    by_cases c : gS Γ (l3 + 2).toNatClampNeg = 0
    · rw [if_pos c] at hw; subst hw; rw [if_pos c]; exact ⟨h.mok, fin.2⟩
    · rw [if_neg c] at hw; subst hw; rw [if_neg c]; exact ⟨h.mok, fin.2⟩
  unfold fL_law_J986
  refine ⟨v1, v2, ?_⟩
  by_cases c : gS Γ (l3 + 2).toNatClampNeg = 0
  · rw [if_pos c]; exact key 0 (by rw [if_pos c])
  · rw [if_neg c]; exact key 1 (by rw [if_neg c])
/-- what is owed of reading: both read alike, over cells enough -/
def RDok : Prop := ∀ (B : Nat) (x : St) (n : Nat) (K : Nat → pKd) (A : pA) (Lg : pL) (G : pG), INV B x n K A Lg G → n ≤ 900000 → ∀ P : Int32 → Int32 → Nat → (Nat → pKd) → pA → pL → pG → Prop, (∀ r n' K' A2 Lg2 G', n' ≤ n + 9000 → (∃ x', INV B x' n' K' A2 Lg2 G') → P r r n' K' A2 Lg2 G') → fX0_read n K A Lg G 9000 110000 (fun r n' K' A1 Lg1 G' => mOK n' K' G' ∧ fX10_read A1 Lg1 (fun r' A2 Lg2 => P r r' n' K' A2 Lg2 G'))
theorem law_loop (hR : RDok) {Γ : jG} (hN : gN Γ ≤ 384) {Q : Int32 → Nat → (Nat → pKd) → pA → pL → pG → Prop} (hQ : ∀ n K A Lg G, Q 1 n K A Lg G) : ∀ r j, j + r = 64 → ∀ x n K A Lg G kc ks, INV (1440 * j) x n K A Lg G → n ≤ 1246 + 9000 * j → 9000 * r ≤ kc → 110000 * r ≤ ks → fL_law_L18 Γ Q (r + 1) (Int32.ofNat (6 * j)) n K A Lg G kc ks := by
  intro r
  induction r with
  | zero =>
    intro j hj x n K A Lg G kc ks h hn hc hs
    unfold fL_law_L18
    rw [if_pos]
    · exact hQ _ _ _ _ _
    · rw [Int32.lt_iff_toInt_lt, i_sub' (by rw [n_int (by omega)]; omega) (by rw [n_int (by omega)]; omega) (by decide) (by decide), n_int (by omega), n_int (by omega)]
      show (gN Γ : Int) - 6 < _
      omega
  | succ r ih =>
    intro j hj x n K A Lg G kc ks h hn hc hs
    unfold fL_law_L18
    by_cases c0 : gN Γ < 6 * j + 6
    · rw [if_pos]
      · exact hQ _ _ _ _ _
      · rw [Int32.lt_iff_toInt_lt, i_sub' (by rw [n_int (by omega)]; omega) (by rw [n_int (by omega)]; omega) (by decide) (by decide), n_int (by omega), n_int (by omega)]
        show (gN Γ : Int) - 6 < _
        omega
    · rw [if_neg]
      · have vi : ∀ i, i ≤ 5 → vp_in (Int32.ofNat (6 * j + i)) (gN Γ) := fun i hi => n_in (by omega) (by omega)
        have w1 : vp_in (Int32.ofNat (6 * j) + 1) (gN Γ) := by rw [n_addR]; exact vi 1 (by omega)
        have w2 : vp_in (Int32.ofNat (6 * j) + 2) (gN Γ) := by rw [n_addR]; exact vi 2 (by omega)
        have w3 : vp_in (Int32.ofNat (6 * j) + 3) (gN Γ) := by rw [n_addR]; exact vi 3 (by omega)
        have w4 : vp_in (Int32.ofNat (6 * j) + 4) (gN Γ) := by rw [n_addR]; exact vi 4 (by omega)
        have w5 : vp_in (Int32.ofNat (6 * j) + 5) (gN Γ) := by rw [n_addR]; exact vi 5 (by omega)
        have e6 : Int32.ofNat (6 * j) + 6 = Int32.ofNat (6 * (j + 1)) := by rw [n_addR]; congr 1
        have hB : 1440 * j ≤ 800000000 := by omega
        have nx : ∀ A2, DONE (1440 * j + 1440) n K A2 Lg G → fL_law_L18 Γ Q (r + 1) (Int32.ofNat (6 * j) + 6) n K A2 Lg G kc ks := by
          intro A2 ⟨x2, h2⟩
          rw [e6]
          exact ih (j + 1) (by omega) x2 n K A2 Lg G kc ks (by rw [show 1440 * (j + 1) = 1440 * j + 1440 by omega]; exact h2) (by omega) (by omega) (by omega)
        refine ⟨vi 0 (by omega), ?_⟩
        generalize gS Γ (Int32.ofNat (6 * j)).toNatClampNeg &&& 63 = op
        by_cases o0 : op = 0
        · rw [if_pos o0]; exact lb_feed h hB w1 w2 w3 w4 w5 nx
        rw [if_neg o0]
        by_cases o1 : op = 1
        · rw [if_pos o1]; exact lb_back h hB w1 w2 w3 w4 w5 nx
        rw [if_neg o1]
        by_cases o2 : op = 2
        · rw [if_pos o2]
          unfold fL_law_J278 fL_law_J1186
          refine ⟨9000, 110000, by omega, by omega, h.fok, hR _ x n K A Lg G h (by omega) (fun r1 r2 n' K' A2 Lg2 G' => if r1 = r2 then fL_law_L18 Γ Q (r + 1) (Int32.ofNat (6 * j) + 6) n' K' A2 Lg2 G' (kc - 9000) (ks - 110000) else Q 0 n' K' A2 Lg2 G') (fun r1 n' K' A2 Lg2 G' hn' hx => ?_)⟩
          rw [if_pos rfl, e6]
          obtain ⟨x2, h2⟩ := hx
          exact ih (j + 1) (by omega) x2 n' K' A2 Lg2 G' _ _ (h2.mono (by omega)) (by omega) (by omega) (by omega)
        rw [if_neg o2]
        by_cases o3 : op = 3
        · rw [if_pos o3]; exact lb_place h hB w1 w2 w3 w4 w5 nx
        rw [if_neg o3]
        by_cases o4 : op = 4
        · rw [if_pos o4]; exact lb_spot h hB w1 w2 w3 w4 w5 nx
        rw [if_neg o4]
        by_cases o5 : op = 5
        · rw [if_pos o5]; exact lb_dog h hB w1 w2 w3 w4 w5 nx
        rw [if_neg o5]
        by_cases o6 : op = 6
        · rw [if_pos o6]; exact lb_person h hB w1 w2 w3 w4 w5 nx
        rw [if_neg o6]
        by_cases o7 : op = 7
        · rw [if_pos o7]; exact lb_mind h hB w1 w2 w3 w4 w5 nx
        rw [if_neg o7]
        by_cases o8 : op = 8
        · rw [if_pos o8]; exact lb_go h hB w1 w2 w3 w4 w5 nx
        rw [if_neg o8]
        by_cases o9 : op = 9
        · rw [if_pos o9]; exact lb_give h hB w1 w2 w3 w4 w5 nx
        rw [if_neg o9]
        by_cases o10 : op = 10
        · rw [if_pos o10]; exact lb_kick h hB w1 w2 w3 w4 w5 nx
        rw [if_neg o10]
        by_cases o11 : op = 11
        · rw [if_pos o11]; exact lb_minutes h hB w1 w2 w3 w4 w5 nx
        rw [if_neg o11]
        by_cases o12 : op = 12
        · rw [if_pos o12]; exact lb_undo h hB w1 w2 w3 w4 w5 nx
        rw [if_neg o12]
        by_cases o13 : op = 13
        · rw [if_pos o13]; exact lb_far h hB w1 w2 w3 w4 w5 nx
        rw [if_neg o13]
        by_cases o14 : op = 14
        · rw [if_pos o14]; exact lb_till h hB w1 w2 w3 w4 w5 nx
        rw [if_neg o14]
        by_cases o15 : op = 15
        · rw [if_pos o15]; exact lb_round h hB w1 w2 w3 w4 w5 nx
        rw [if_neg o15]
        by_cases o16 : op = 16
        · rw [if_pos o16]; exact lb_minds h hB w1 w2 w3 w4 w5 nx
        rw [if_neg o16]
        by_cases o17 : op = 17
        · rw [if_pos o17]; exact lb_feeding h hB w1 w2 w3 w4 w5 nx
        rw [if_neg o17]
        by_cases o18 : op = 18
        · rw [if_pos o18]; exact lb_safe h hB w1 w2 w3 w4 w5 nx
        rw [if_neg o18]
        by_cases o19 : op = 19
        · rw [if_pos o19]; exact lb_refuge h hB w1 w2 w3 w4 w5 nx
        rw [if_neg o19]
        by_cases o20 : op = 20
        · rw [if_pos o20]; exact lb_loses h hB w1 w2 w3 w4 w5 nx
        rw [if_neg o20]
        by_cases o21 : op = 21
        · rw [if_pos o21]; exact lb_fetched h hB w1 w2 w3 w4 w5 nx
        rw [if_neg o21]
        by_cases o22 : op = 22
        · rw [if_pos o22]; exact lb_held h hB w1 w2 w3 w4 w5 nx
        rw [if_neg o22]
        by_cases o23 : op = 23
        · rw [if_pos o23]; exact lb_grudge h hB w1 w2 w3 w4 w5 nx
        rw [if_neg o23]
        by_cases o24 : op = 24
        · rw [if_pos o24]; exact lb_share h hB w1 w2 w3 w4 w5 nx
        rw [if_neg o24]
        by_cases o25 : op = 25
        · rw [if_pos o25]; exact lb_then h hB w1 w2 w3 w4 w5 nx
        rw [if_neg o25]
        by_cases o26 : op = 26
        · rw [if_pos o26]; exact lb_dogIn h hB w1 w2 w3 w4 w5 nx
        rw [if_neg o26]
        by_cases o27 : op = 27
        · rw [if_pos o27]; exact lb_first h hB w1 w2 w3 w4 w5 nx
        rw [if_neg o27]
        by_cases o28 : op = 28
        · rw [if_pos o28]; exact lb_tell h hB w1 w2 w3 w4 w5 nx
        rw [if_neg o28]
        by_cases o29 : op = 29
        · rw [if_pos o29]; exact lb_forget h hB w1 w2 w3 w4 w5 nx
        rw [if_neg o29]
        by_cases o30 : op = 30
        · rw [if_pos o30]; exact lb_kicks h hB w1 w2 w3 w4 w5 nx
        rw [if_neg o30]
        by_cases o31 : op = 31
        · rw [if_pos o31]; exact lb_sure h hB w1 w2 w3 w4 w5 nx
        rw [if_neg o31]
        by_cases o32 : op = 32
        · rw [if_pos o32]; exact lb_ask h hB w1 w2 w3 w4 w5 nx
        rw [if_neg o32]
        by_cases o33 : op = 33
        · rw [if_pos o33]; exact lb_hold h hB w1 w2 w3 w4 w5 nx
        rw [if_neg o33]
        by_cases o34 : op = 34
        · rw [if_pos o34]; exact lb_restore h hB w1 w2 w3 w4 w5 nx
        rw [if_neg o34]
        by_cases o35 : op = 35
        · rw [if_pos o35]; exact lb_count h hB w1 w2 w3 w4 w5 nx
        rw [if_neg o35]
        unfold fL_law_J1186
        exact nx A ⟨x, h.mono (by omega)⟩
      · rw [Int32.lt_iff_toInt_lt, i_sub' (by rw [n_int (by omega)]; omega) (by rw [n_int (by omega)]; omega) (by decide) (by decide), n_int (by omega), n_int (by omega)]
        show ¬ (gN Γ : Int) - 6 < _
        omega
