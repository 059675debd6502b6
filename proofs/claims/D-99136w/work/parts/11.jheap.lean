set_option maxRecDepth 100000
section JH
variable {Γ : jG} {own : String} {cc : ByteArray} {L : Nat} {ret : Option FieldType} {nm : String} {hh : List (Nat × Nat × Nat × Nat)} {dd kc ks pc : Nat} {ls : List (Nat × Value)} {st : List Value} {σ : pS} {Q : jO → pS → Prop}
variable {n : Nat} {K : Nat → pKd} {A : pA} {Lg : pL} {G : pG}
theorem jHR_set {σ σ' : pS} {H H' : Heap} {a : Nat} (h : jHR Γ σ H) (hz : H'.size = H.size) (oq : ∀ q, q ≠ (gH Γ).size + a → H'[q]? = H[q]?) (hn : σ'.1 = σ.1) (hr : ∀ k, k ≠ a → σ'.2.1 k = σ.2.1 k ∧ σ'.2.2.1 k = σ.2.2.1 k ∧ σ'.2.2.2.1 k = σ.2.2.2.1 k ∧ σ'.2.2.2.2 k = σ.2.2.2.2 k) (he : pAt Γ σ' a H') : jHR Γ σ' H' := by
  refine ⟨by rw [hz, hn]; exact h.1, fun k hk => ?_, fun q hq => (oq q (by omega)).trans (h.2.2 q hq)⟩
  by_cases e : k = a
  · subst e; exact he
  · obtain ⟨r1, r2, r3, r4⟩ := hr k e
    exact pAt_kept (h.2.1 k (by rw [← hn]; exact hk)) r1 r2 r3 r4 (oq _ (by omega))
theorem jDy_set {σ σ' : pS} {H H' : Heap} {locs : List Loc} {cells slots mc ms a i : Nat} (h : jDy Γ kc ks σ H locs cells slots mc ms) (hr : jHR Γ σ' H') (hn : σ'.1 = σ.1) : jDy Γ kc ks σ' H' (locs ++ [⟨(gH Γ).size + a, i⟩]) cells slots mc ms := by
  refine ⟨hr, fun z hz => ?_, h.2.2.1, h.2.2.2.1, by rw [hn]; exact h.2.2.2.2⟩
  rcases List.mem_append.mp hz with h1 | h1
  · exact h.2.1 z h1
  · rw [List.mem_singleton.mp h1]; exact Nat.le_add_right _ _
/-! fields -/
def jFl (own : String) (index ci j : Nat) : Prop := ∃ (C : String) (T : u_T) (N : Nat) (ty : Nat → FieldType) (ref : String), jCk ci C T N ty ∧ j < N ∧ Cond.fieldLink own index ref (T j).2.1 (T j).2.2.1 ∈ lw_all ∧ (ref = (T j).1 ∨ Cond.sameField ref (T j).1 (T j).2.1 (T j).2.2.1 ∈ lw_all)
def jFp (own nm : String) (index ci j : Nat) (ty0 : FieldType) : Prop := ∃ (C : String) (T : u_T) (N : Nat) (ty : Nat → FieldType) (ref : String), jCk ci C T N ty ∧ j < N ∧ Cond.fieldLink own index ref (T j).2.1 (T j).2.2.1 ∈ lw_all ∧ (ref = (T j).1 ∨ Cond.sameField ref (T j).1 (T j).2.1 (T j).2.2.1 ∈ lw_all) ∧ ty j = ty0 ∧ ((T j).2.2.2 = false ∨ ((T j).2.2.2 = true ∧ nm = "<init>" ∧ (T j).1 = own))
theorem j_same {s : State} {args : Array Value} {ref o f d : String} (hts : ∀ w ∈ lw_all, w.before args s = true) (h : ref = o ∨ Cond.sameField ref o f d ∈ lw_all) : ∀ x, s.fieldFound? o f d = some x → s.fieldFound? ref f d = some x := by
  intro x hx
  rcases h with h | h
  · rw [h]; exact hx
  · exact u_same (hts _ h) x hx
theorem j_getv {ci j index a : Nat} {v : Value} (f : jFl own index ci j) (ha : a < σ.1) (hk : σ.2.1 a = .inl ci) (hv : pVal Γ σ a (jFk ci j) j = pv Γ v) (d : decode cc pc = .ok (.getfield index, 3)) (k : J Γ own cc L ret nm hh dd kc ks (pc + 3) ls (v :: st) σ Q) : J Γ own cc L ret nm hh dd kc ks pc ls (.ref a :: st) σ Q := by
  intro p e R s m args below meth c H locs cells slots mc ms lsA hS hD hl
  have kk := k p e R s m args below meth c H locs cells slots mc ms lsA hS hD hl
  obtain ⟨C, T, N, ty, ref, ⟨hc, hin, hty, hnm, -⟩, hj, hlk, hsm⟩ := f
  obtain ⟨hx, hb, -, -, -, -, hown, hts, -, hKK, -⟩ := hS
  obtain ⟨cell, q1, q2, q3, q4⟩ := pAt_o hk hc (hD.1.2.1 a ha)
  obtain ⟨hSl, hfc, kC, hkC, hkind⟩ := hKK.1.1 ci _ hc
  obtain ⟨cf, kf, fi, fd, hi, hsl⟩ := hSl j hj
  rw [List.map_cons, pv_lt (by have := hD.2.2.2.2; omega)]
  refine W.getf hx hb hown (hts _ hlk) (j_same hts hsm _ hi) (u_facts hfc hkC (u_lays hts hin hj) hi).1 q1 (by rw [q3]; exact fun h => by cases h) (v := pv Γ v) ?_ rfl rfl d kk
  rw [hsl, q4 j hj]
  exact congrArg some hv
theorem j_getfi {ci j index a : Nat} (f : jFl own index ci j) (h0 : jFk ci j = 0) (ha : a < n) (hk : K a = .inl ci) (d : decode cc pc = .ok (.getfield index, 3)) (k : J Γ own cc L ret nm hh dd kc ks (pc + 3) ls (.int (A a j) :: st) (n, K, A, Lg, G) Q) : J Γ own cc L ret nm hh dd kc ks pc ls (.ref a :: st) (n, K, A, Lg, G) Q :=
  j_getv f ha hk (by rw [h0]; rfl) d k
theorem j_getfr {ci j index a : Nat} {v : Value} (f : jFl own index ci j) (h0 : jFk ci j = 2) (ha : a < n) (hk : K a = .inl ci) (hv : G a j = v) (d : decode cc pc = .ok (.getfield index, 3)) (k : J Γ own cc L ret nm hh dd kc ks (pc + 3) ls (v :: st) (n, K, A, Lg, G) Q) : J Γ own cc L ret nm hh dd kc ks pc ls (.ref a :: st) (n, K, A, Lg, G) Q :=
  j_getv f ha hk (by rw [h0, ← hv]; rfl) d k
theorem j_putv {ci j index a : Nat} {v : Value} {ty0 : FieldType} {σ' : pS} (f : jFp own nm index ci j ty0) (ha : a < σ.1) (hk : σ.2.1 a = .inl ci) (hn0 : narrow ty0 (pv Γ v) = pv Γ v) (hft : fits ty0 (pv Γ v) = true) (hn : σ'.1 = σ.1) (hK : σ'.2.1 = σ.2.1) (hr : ∀ k, k ≠ a → σ'.2.2.1 k = σ.2.2.1 k ∧ σ'.2.2.2.1 k = σ.2.2.2.1 k ∧ σ'.2.2.2.2 k = σ.2.2.2.2 k)
    (hv : ∀ i, pVal Γ σ' a (jFk ci i) i = if i = j then pv Γ v else pVal Γ σ a (jFk ci i) i) (d : decode cc pc = .ok (.putfield index, 3)) (k : J Γ own cc L ret nm hh dd kc ks (pc + 3) ls st σ' Q) : J Γ own cc L ret nm hh dd kc ks pc ls (v :: .ref a :: st) σ Q := by
  intro p e R s m args below meth c H locs cells slots mc ms lsA hS hD hl
  obtain ⟨C, T, N, ty, ref, ⟨hc, hin, hty, hnm, -⟩, hj, hlk, hsm, ht0, hfin⟩ := f
  obtain ⟨hx, hb, -, -, -, hname, hown, hts, -, hKK, -⟩ := id hS
  obtain ⟨cell, q1, q2, q3, q4⟩ := pAt_o hk hc (hD.1.2.1 a ha)
  have hap := va_apart (own := own) (D := (gC Γ, gI Γ)) (ci := ci) hts hin ty hty hnm hKK.1 hc
  obtain ⟨hSl, hfc, kC, hkC, hkind⟩ := hKK.1.1 ci _ hc
  obtain ⟨cf, kf, fi, fd, hi, hsl⟩ := hSl j hj
  have hst := (u_facts hfc hkC (u_lays hts hin hj) hi).1
  have hd : parseFieldDescriptor (T j).2.2.1 = some ty0 := by rw [← ht0]; exact hty j hj
  rw [List.map_cons, List.map_cons, pv_lt (by have := hD.2.2.2.2; omega)]
  have last : ∀ H' : Heap, H'[(gH Γ).size + a]? = some (cell.setSlot (gI Γ ci j) (pv Γ v)) → H'.size = H.size → (∀ q, q ≠ (gH Γ).size + a → H'[q]? = H[q]?) → W p (gl Γ) e R s m args below meth c H' (locs ++ [⟨(gH Γ).size + a, gI Γ ci j⟩]) cells slots (jMQ Γ Q mc ms below s) (F0 m (pc + 3) lsA (st.map (pv Γ))) := by
    intro H' e1 e2 e3
    refine k p e R s m args below meth c H' _ cells slots mc ms lsA hS (jDy_set hD (jHR_set hD.1 e2 e3 hn (fun b hb => ⟨by rw [hK], hr b hb⟩) ?_) hn) hl
    unfold pAt
    rw [hK, hk]
    refine ⟨_, hc, t_OB.to (V := updV (fun j => pVal Γ σ a (jFk ci j) j) j (pv Γ v)) ⟨_, e1, q2, q3, t_set q4 hap hj _⟩ (fun i _ => ?_)⟩
    show _ = pVal Γ σ' a (jFk ci i) i
    rw [hv i]
    rfl
  rcases hfin with h0 | ⟨h0, hin1, hdecl⟩
  · have hlay := hts _ (hin _ (u_in_lay hj))
    unfold u_lay at hlay
    rw [if_neg (by rw [h0]; decide)] at hlay
    have h6 := u_store hfc hkC hkind hlay hi hd hn0 hft
    refine W.putK hx hb (f := fd) ⟨hown, hts _ hlk, ⟨_, _, _, j_same hts hsm _ hi⟩, hst⟩ (by rw [q2]; exact h6) q1 q3 (by rw [hsl]; exact k2_hasslot (q4 j hj)) rfl rfl d fun H' e1 e2 e3 => ?_
    rw [hsl] at e1 ⊢
    exact last H' e1 e2 e3
  · have hlay := hts _ (hin _ (u_in_lay hj))
    unfold u_lay at hlay
    rw [if_pos h0] at hlay
    have hcf : m.cls = cf := by
      obtain ⟨_, _, c', _, _, _, -, -, hf', -, -, -, hown2, -⟩ := Cond.laysFinal_spec hlay
      have e1 : c' = cf := by have := hi.symm.trans hf'; simp at this; exact this.1.symm
      rw [hdecl] at hown2
      rw [← e1]; exact Option.some.inj (hown.symm.trans hown2)
    have h6 := u_fits hfc hkC hkind (Or.inr hlay) hi hd hn0 hft
    refine W.putFinK hx hb hown (hts _ hlk) (j_same hts hsm _ hi) hst hcf (by rw [hname]; exact hin1) (by rw [q2]; exact h6) q1 q3 (by rw [hsl]; exact k2_hasslot (q4 j hj)) rfl rfl d fun H' e1 e2 e3 => ?_
    rw [hsl] at e1 ⊢
    exact last H' e1 e2 e3
theorem pup_at {α : Type} {B : Nat → Nat → α} {a j : Nat} {v : α} (i : Nat) : pup B a j v a i = if i = j then v else B a i := by rw [pup_self]
theorem j_putfi {ci j index a : Nat} {x : Int32} {ty0 : FieldType} (f : jFp own nm index ci j ty0) (h0 : jFk ci j = 0) (hn0 : narrow ty0 (.int x) = .int x) (hft : fits ty0 (.int x) = true) (ha : a < n) (hk : K a = .inl ci) (d : decode cc pc = .ok (.putfield index, 3)) (k : J Γ own cc L ret nm hh dd kc ks (pc + 3) ls st (n, K, pup A a j x, Lg, G) Q) : J Γ own cc L ret nm hh dd kc ks pc ls (.int x :: .ref a :: st) (n, K, A, Lg, G) Q := by
  refine j_putv (σ' := (n, K, pup A a j x, Lg, G)) f ha hk hn0 hft rfl rfl (fun b hb => ⟨pup_ne hb, rfl, rfl⟩) (fun i => ?_) d k
  unfold pVal
  by_cases e : i = j
  · subst e
    rw [h0, if_pos rfl, if_pos rfl]
    show Value.int (pup A a i x a i) = .int x
    rw [pup_at, if_pos rfl]
  · rw [if_neg e]
    show (if _ then Value.int (pup A a j x a i) else _) = _
    rw [pup_at, if_neg e]
theorem j_putfr {ci j index a : Nat} {v : Value} {ty0 : FieldType} (f : jFp own nm index ci j ty0) (h0 : jFk ci j = 2) (hty : (∃ c, ty0 = .object c) ∨ ∃ t, ty0 = .array t) (hv : v = .null ∨ ∃ b, v = .ref b) (ha : a < n) (hk : K a = .inl ci) (d : decode cc pc = .ok (.putfield index, 3)) (k : J Γ own cc L ret nm hh dd kc ks (pc + 3) ls st (n, K, A, Lg, pup G a j v) Q) : J Γ own cc L ret nm hh dd kc ks pc ls (v :: .ref a :: st) (n, K, A, Lg, G) Q := by
  intro p e R s m args below meth c H locs cells slots mc ms lsA hS hD hl
  have hrf : pv Γ v = .null ∨ ∃ a, pv Γ v = .ref a := by
    rcases hv with rfl | ⟨b, rfl⟩
    · exact Or.inl rfl
    · exact j_rf hS b
  have hnf : narrow ty0 (pv Γ v) = pv Γ v ∧ fits ty0 (pv Γ v) = true := by
    rcases hty with ⟨c, rfl⟩ | ⟨t, rfl⟩ <;> rcases hrf with h | ⟨a, h⟩ <;> rw [h] <;> exact ⟨rfl, rfl⟩
  refine j_putv (σ := (n, K, A, Lg, G)) (σ' := (n, K, A, Lg, pup G a j v)) f ha hk hnf.1 hnf.2 rfl rfl (fun b hb => ⟨rfl, rfl, pup_ne hb⟩) (fun i => ?_) d k p e R s m args below meth c H locs cells slots mc ms lsA hS hD hl
  unfold pVal
  by_cases e : i = j
  · subst e
    rw [h0, if_pos rfl, if_neg (by decide), if_neg (by decide)]
    show pv Γ (pup G a i v a i) = pv Γ v
    rw [pup_at, if_pos rfl]
  · rw [if_neg e]
    show (if _ then _ else if _ then _ else pv Γ (pup G a j v a i)) = _
    rw [pup_at, if_neg e]
/-! arrays -/
theorem j_arr {p : Program} {R : Room} {s : State} {m : MethodId} {args : Array Value} {meth : Method} {c : Code} {mc ms : Nat} {t : Nat} {ty : FieldType} (hS : jSt Γ own cc L ret nm hh dd p R s m args meth c mc ms) (ht : jTy[t]? = some ty) : ArrOfT s (gT Γ t) ty := (hS.2.2.2.2.2.2.2.2.2.1.1.2 t _ (jTys_at ht)).1
theorem j_ix {i : Int32} {len : Nat} (h : vp_in i len) : i.toNatClampNeg < len := Nat.not_le.mp fun q => h (Or.inr q)
theorem j_iald {a len : Nat} {i : Int32} (ha : a < n) (hk : K a = .inr (0, len)) (hin : vp_in i len) (d : decode cc pc = .ok (.iaload, 1)) (k : J Γ own cc L ret nm hh dd kc ks (pc + 1) ls (.int (A a i.toNatClampNeg) :: st) (n, K, A, Lg, G) Q) : J Γ own cc L ret nm hh dd kc ks pc ls (.int i :: .ref a :: st) (n, K, A, Lg, G) Q := by
  intro p e R s m args below meth c H locs cells slots mc ms lsA hS hD hl
  have h1 := pAt_a hk (hD.1.2.1 a ha)
  rw [List.map_cons, List.map_cons, pv_lt (by have h9 := hD.2.2.2.2; have h8 : a < n := ha; dsimp only at h9; omega)]
  exact W.iald (v := .int (A a i.toNatClampNeg)) hS.1 hS.2.1 h1 (j_arr (ty := .int) hS rfl len _) (fun q => by cases q) (by rw [arrV_size]; exact hin) (by rw [arrV_read _ _ (j_ix hin)]; rfl) rfl rfl d (k p e R s m args below meth c H locs cells slots mc ms lsA hS hD hl)
theorem j_bald {a len : Nat} {i : Int32} (ha : a < n) (hk : K a = .inr (1, len)) (hin : vp_in i len) (d : decode cc pc = .ok (.baload, 1)) (k : J Γ own cc L ret nm hh dd kc ks (pc + 1) ls (.int (A a i.toNatClampNeg) :: st) (n, K, A, Lg, G) Q) : J Γ own cc L ret nm hh dd kc ks pc ls (.int i :: .ref a :: st) (n, K, A, Lg, G) Q := by
  intro p e R s m args below meth c H locs cells slots mc ms lsA hS hD hl
  have h1 := pAt_a hk (hD.1.2.1 a ha)
  rw [List.map_cons, List.map_cons, pv_lt (by have h9 := hD.2.2.2.2; have h8 : a < n := ha; dsimp only at h9; omega)]
  exact W.bald (v := .int (A a i.toNatClampNeg)) hS.1 hS.2.1 h1 (j_arr (ty := .byte) hS rfl len _) (fun q => by cases q) (by rw [arrV_size]; exact hin) (by rw [arrV_read _ _ (j_ix hin)]; rfl) rfl rfl d (k p e R s m args below meth c H locs cells slots mc ms lsA hS hD hl)
theorem j_sald {a len : Nat} {i : Int32} (ha : a < n) (hk : K a = .inr (2, len)) (hin : vp_in i len) (d : decode cc pc = .ok (.saload, 1)) (k : J Γ own cc L ret nm hh dd kc ks (pc + 1) ls (.int (A a i.toNatClampNeg) :: st) (n, K, A, Lg, G) Q) : J Γ own cc L ret nm hh dd kc ks pc ls (.int i :: .ref a :: st) (n, K, A, Lg, G) Q := by
  intro p e R s m args below meth c H locs cells slots mc ms lsA hS hD hl
  have h1 := pAt_a hk (hD.1.2.1 a ha)
  rw [List.map_cons, List.map_cons, pv_lt (by have h9 := hD.2.2.2.2; have h8 : a < n := ha; dsimp only at h9; omega)]
  exact W.sald (v := .int (A a i.toNatClampNeg)) hS.1 hS.2.1 h1 (j_arr (ty := .short) hS rfl len _) (fun q => by cases q) (by rw [arrV_size]; exact hin) (by rw [arrV_read _ _ (j_ix hin)]; rfl) rfl rfl d (k p e R s m args below meth c H locs cells slots mc ms lsA hS hD hl)
theorem j_zald {a len : Nat} {i : Int32} (ha : a < n) (hk : K a = .inr (3, len)) (hin : vp_in i len) (d : decode cc pc = .ok (.baload, 1)) (k : J Γ own cc L ret nm hh dd kc ks (pc + 1) ls (.int (A a i.toNatClampNeg) :: st) (n, K, A, Lg, G) Q) : J Γ own cc L ret nm hh dd kc ks pc ls (.int i :: .ref a :: st) (n, K, A, Lg, G) Q := by
  intro p e R s m args below meth c H locs cells slots mc ms lsA hS hD hl
  have h1 := pAt_a hk (hD.1.2.1 a ha)
  rw [List.map_cons, List.map_cons, pv_lt (by have h9 := hD.2.2.2.2; have h8 : a < n := ha; dsimp only at h9; omega)]
  exact W.zald (v := .int (A a i.toNatClampNeg)) hS.1 hS.2.1 h1 (j_arr (ty := .boolean) hS rfl len _) (fun q => by cases q) (by rw [arrV_size]; exact hin) (by rw [arrV_read _ _ (j_ix hin)]; rfl) rfl rfl d (k p e R s m args below meth c H locs cells slots mc ms lsA hS hD hl)
theorem j_lald {a len : Nat} {i : Int32} (ha : a < n) (hk : K a = .inr (4, len)) (hin : vp_in i len) (d : decode cc pc = .ok (.laload, 1)) (k : J Γ own cc L ret nm hh dd kc ks (pc + 1) ls (.long (Lg a i.toNatClampNeg) :: st) (n, K, A, Lg, G) Q) : J Γ own cc L ret nm hh dd kc ks pc ls (.int i :: .ref a :: st) (n, K, A, Lg, G) Q := by
  intro p e R s m args below meth c H locs cells slots mc ms lsA hS hD hl
  have h1 := pAt_a hk (hD.1.2.1 a ha)
  rw [List.map_cons, List.map_cons, pv_lt (by have h9 := hD.2.2.2.2; have h8 : a < n := ha; dsimp only at h9; omega)]
  exact W.lald (v := .long (Lg a i.toNatClampNeg)) hS.1 hS.2.1 h1 (j_arr (ty := .long) hS rfl len _) (fun q => by cases q) (by rw [arrV_size]; exact hin) (by rw [arrV_read _ _ (j_ix hin)]; rfl) rfl rfl d (k p e R s m args below meth c H locs cells slots mc ms lsA hS hD hl)
theorem j_aald {a len t : Nat} {ty : FieldType} {i : Int32} {v : Value} (ht : jTy[t]? = some ty) (hr : ty.isReference = true) (h2 : jTk t = 2) (ha : a < n) (hk : K a = .inr (t, len)) (hin : vp_in i len) (hv : G a i.toNatClampNeg = v) (d : decode cc pc = .ok (.aaload, 1)) (k : J Γ own cc L ret nm hh dd kc ks (pc + 1) ls (v :: st) (n, K, A, Lg, G) Q) : J Γ own cc L ret nm hh dd kc ks pc ls (.int i :: .ref a :: st) (n, K, A, Lg, G) Q := by
  intro p e R s m args below meth c H locs cells slots mc ms lsA hS hD hl
  have h1 := pAt_a hk (hD.1.2.1 a ha)
  rw [List.map_cons, List.map_cons, pv_lt (by have h9 := hD.2.2.2.2; have h8 : a < n := ha; dsimp only at h9; omega)]
  exact W.aald (v := pv Γ v) (ty := ty) hS.1 hS.2.1 h1 (j_arr hS ht len _) hr (fun q => by cases q) (by rw [arrV_size]; exact hin) (by rw [arrV_read _ _ (j_ix hin)]; rw [h2]; show some (pv Γ (G a i.toNatClampNeg)) = _; rw [hv]) rfl rfl d (k p e R s m args below meth c H locs cells slots mc ms lsA hS hD hl)
theorem j_alen {a len t : Nat} {ty : FieldType} (ht : jTy[t]? = some ty) (ha : a < n) (hk : K a = .inr (t, len)) (d : decode cc pc = .ok (.arraylength, 1)) (k : J Γ own cc L ret nm hh dd kc ks (pc + 1) ls (.int (Int32.ofNat len) :: st) (n, K, A, Lg, G) Q) : J Γ own cc L ret nm hh dd kc ks pc ls (.ref a :: st) (n, K, A, Lg, G) Q := by
  intro p e R s m args below meth c H locs cells slots mc ms lsA hS hD hl
  have h1 := pAt_a hk (hD.1.2.1 a ha)
  rw [List.map_cons, pv_lt (by have h9 := hD.2.2.2.2; have h8 : a < n := ha; dsimp only at h9; omega)]
  exact W.alen (n := Int32.ofNat len) hS.1 hS.2.1 h1 (j_arr hS ht len _) (by rw [arrV_size] <;> rfl) rfl rfl d (k p e R s m args below meth c H locs cells slots mc ms lsA hS hD hl)
theorem j_stA {a len t : Nat} {i : Nat} {w : Value} {σ σ' : pS} {H H' : Heap} {locs : List Loc} {cells slots mc ms : Nat} (hD : jDy Γ kc ks σ H locs cells slots mc ms) (ha : a < σ.1) (hk : σ.2.1 a = .inr (t, len)) (hn : σ'.1 = σ.1) (hK : σ'.2.1 = σ.2.1) (hr : ∀ k, k ≠ a → σ'.2.2.1 k = σ.2.2.1 k ∧ σ'.2.2.2.1 k = σ.2.2.2.1 k ∧ σ'.2.2.2.2 k = σ.2.2.2.2 k)
    (hv : ∀ j, pVal Γ σ' a (jTk t) j = if j = i then w else pVal Γ σ a (jTk t) j) (e1 : H'[(gH Γ).size + a]? = some ((arrV (gT Γ t) len (fun j => pVal Γ σ a (jTk t) j)).setSlot i w)) (e2 : H'.size = H.size) (e3 : ∀ q, q ≠ (gH Γ).size + a → H'[q]? = H[q]?) : jDy Γ kc ks σ' H' (locs ++ [⟨(gH Γ).size + a, i⟩]) cells slots mc ms := by
  refine jDy_set hD (jHR_set hD.1 e2 e3 hn (fun b hb => ⟨by rw [hK], hr b hb⟩) ?_) hn
  have h0 := hD.1.2.1 a ha
  unfold pAt at h0 ⊢
  rw [hK, hk]
  rw [hk] at h0
  refine ⟨h0.1, ?_⟩
  show H'[_]? = some (arrV (gT Γ t) len _)
  rw [e1, arrV_store]
  congr 2
  funext j
  rw [hv j]
  rfl
theorem j_iast {a len : Nat} {i x : Int32} (ha : a < n) (hk : K a = .inr (0, len)) (hin : vp_in i len) (d : decode cc pc = .ok (.iastore, 1)) (k : J Γ own cc L ret nm hh dd kc ks (pc + 1) ls st (n, K, pup A a i.toNatClampNeg (x), Lg, G) Q) : J Γ own cc L ret nm hh dd kc ks pc ls (.int x :: .int i :: .ref a :: st) (n, K, A, Lg, G) Q := by
  intro p e R s m args below meth c H locs cells slots mc ms lsA hS hD hl
  have h1 := pAt_a hk (hD.1.2.1 a ha)
  rw [List.map_cons, List.map_cons, List.map_cons, pv_lt (by have h9 := hD.2.2.2.2; have h8 : a < n := ha; dsimp only at h9; omega)]
  refine W.iast hS.1 hS.2.1 h1 (j_arr (ty := .int) hS rfl len _) (fun q => by cases q) (by rw [arrV_size]; exact hin) rfl rfl d fun H' e1 e2 e3 => ?_
  refine k p e R s m args below meth c H' _ cells slots mc ms lsA hS (j_stA (σ' := (n, K, pup A a i.toNatClampNeg (x), Lg, G)) hD ha hk rfl rfl (fun b hb => ⟨pup_ne hb, rfl, rfl⟩) (fun j => ?_) e1 e2 e3) hl
  show Value.int (pup A a i.toNatClampNeg (x) a j) = if j = i.toNatClampNeg then .int x else .int (A a j)
  rw [pup_at]
  split
  · first | rfl | (simp only [vp_nar]; rfl)
  · rfl
theorem j_bast {a len : Nat} {i x : Int32} (ha : a < n) (hk : K a = .inr (1, len)) (hin : vp_in i len) (d : decode cc pc = .ok (.bastore, 1)) (k : J Γ own cc L ret nm hh dd kc ks (pc + 1) ls st (n, K, pup A a i.toNatClampNeg (vp_nar .byte x), Lg, G) Q) : J Γ own cc L ret nm hh dd kc ks pc ls (.int x :: .int i :: .ref a :: st) (n, K, A, Lg, G) Q := by
  intro p e R s m args below meth c H locs cells slots mc ms lsA hS hD hl
  have h1 := pAt_a hk (hD.1.2.1 a ha)
  rw [List.map_cons, List.map_cons, List.map_cons, pv_lt (by have h9 := hD.2.2.2.2; have h8 : a < n := ha; dsimp only at h9; omega)]
  refine W.bast hS.1 hS.2.1 h1 (j_arr (ty := .byte) hS rfl len _) (fun q => by cases q) (by rw [arrV_size]; exact hin) rfl rfl d fun H' e1 e2 e3 => ?_
  refine k p e R s m args below meth c H' _ cells slots mc ms lsA hS (j_stA (σ' := (n, K, pup A a i.toNatClampNeg (vp_nar .byte x), Lg, G)) hD ha hk rfl rfl (fun b hb => ⟨pup_ne hb, rfl, rfl⟩) (fun j => ?_) e1 e2 e3) hl
  show Value.int (pup A a i.toNatClampNeg (vp_nar .byte x) a j) = if j = i.toNatClampNeg then narrow .byte (.int x) else .int (A a j)
  rw [pup_at]
  split
  · first | rfl | (simp only [vp_nar]; rfl)
  · rfl
theorem j_sast {a len : Nat} {i x : Int32} (ha : a < n) (hk : K a = .inr (2, len)) (hin : vp_in i len) (d : decode cc pc = .ok (.sastore, 1)) (k : J Γ own cc L ret nm hh dd kc ks (pc + 1) ls st (n, K, pup A a i.toNatClampNeg (vp_nar .short x), Lg, G) Q) : J Γ own cc L ret nm hh dd kc ks pc ls (.int x :: .int i :: .ref a :: st) (n, K, A, Lg, G) Q := by
  intro p e R s m args below meth c H locs cells slots mc ms lsA hS hD hl
  have h1 := pAt_a hk (hD.1.2.1 a ha)
  rw [List.map_cons, List.map_cons, List.map_cons, pv_lt (by have h9 := hD.2.2.2.2; have h8 : a < n := ha; dsimp only at h9; omega)]
  refine W.sast hS.1 hS.2.1 h1 (j_arr (ty := .short) hS rfl len _) (fun q => by cases q) (by rw [arrV_size]; exact hin) rfl rfl d fun H' e1 e2 e3 => ?_
  refine k p e R s m args below meth c H' _ cells slots mc ms lsA hS (j_stA (σ' := (n, K, pup A a i.toNatClampNeg (vp_nar .short x), Lg, G)) hD ha hk rfl rfl (fun b hb => ⟨pup_ne hb, rfl, rfl⟩) (fun j => ?_) e1 e2 e3) hl
  show Value.int (pup A a i.toNatClampNeg (vp_nar .short x) a j) = if j = i.toNatClampNeg then narrow .short (.int x) else .int (A a j)
  rw [pup_at]
  split
  · first | rfl | (simp only [vp_nar]; rfl)
  · rfl
theorem j_zast {a len : Nat} {i x : Int32} (ha : a < n) (hk : K a = .inr (3, len)) (hin : vp_in i len) (d : decode cc pc = .ok (.bastore, 1)) (k : J Γ own cc L ret nm hh dd kc ks (pc + 1) ls st (n, K, pup A a i.toNatClampNeg (vp_nar .boolean x), Lg, G) Q) : J Γ own cc L ret nm hh dd kc ks pc ls (.int x :: .int i :: .ref a :: st) (n, K, A, Lg, G) Q := by
  intro p e R s m args below meth c H locs cells slots mc ms lsA hS hD hl
  have h1 := pAt_a hk (hD.1.2.1 a ha)
  rw [List.map_cons, List.map_cons, List.map_cons, pv_lt (by have h9 := hD.2.2.2.2; have h8 : a < n := ha; dsimp only at h9; omega)]
  refine W.zast hS.1 hS.2.1 h1 (j_arr (ty := .boolean) hS rfl len _) (fun q => by cases q) (by rw [arrV_size]; exact hin) rfl rfl d fun H' e1 e2 e3 => ?_
  refine k p e R s m args below meth c H' _ cells slots mc ms lsA hS (j_stA (σ' := (n, K, pup A a i.toNatClampNeg (vp_nar .boolean x), Lg, G)) hD ha hk rfl rfl (fun b hb => ⟨pup_ne hb, rfl, rfl⟩) (fun j => ?_) e1 e2 e3) hl
  show Value.int (pup A a i.toNatClampNeg (vp_nar .boolean x) a j) = if j = i.toNatClampNeg then narrow .boolean (.int x) else .int (A a j)
  rw [pup_at]
  split
  · first | rfl | (simp only [vp_nar]; rfl)
  · rfl
theorem j_last {a len : Nat} {i : Int32} {x : Int64} (ha : a < n) (hk : K a = .inr (4, len)) (hin : vp_in i len) (d : decode cc pc = .ok (.lastore, 1)) (k : J Γ own cc L ret nm hh dd kc ks (pc + 1) ls st (n, K, A, pup Lg a i.toNatClampNeg x, G) Q) : J Γ own cc L ret nm hh dd kc ks pc ls (.long x :: .int i :: .ref a :: st) (n, K, A, Lg, G) Q := by
  intro p e R s m args below meth c H locs cells slots mc ms lsA hS hD hl
  have h1 := pAt_a hk (hD.1.2.1 a ha)
  rw [List.map_cons, List.map_cons, List.map_cons, pv_lt (by have h9 := hD.2.2.2.2; have h8 : a < n := ha; dsimp only at h9; omega)]
  refine W.last hS.1 hS.2.1 h1 (j_arr (ty := .long) hS rfl len _) (fun q => by cases q) (by rw [arrV_size]; exact hin) rfl rfl d fun H' e1 e2 e3 => ?_
  refine k p e R s m args below meth c H' _ cells slots mc ms lsA hS (j_stA (σ' := (n, K, A, pup Lg a i.toNatClampNeg x, G)) hD ha hk rfl rfl (fun b hb => ⟨rfl, pup_ne hb, rfl⟩) (fun j => ?_) e1 e2 e3) hl
  show Value.long (pup Lg a i.toNatClampNeg x a j) = if j = i.toNatClampNeg then .long x else .long (Lg a j)
  rw [pup_at]
  split <;> rfl
end JH
