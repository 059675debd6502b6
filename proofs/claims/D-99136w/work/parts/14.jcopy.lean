set_option maxRecDepth 100000
section JCP
variable {Γ : jG} {own : String} {cc : ByteArray} {L : Nat} {ret : Option FieldType} {nm : String} {hh : List (Nat × Nat × Nat × Nat)} {dd kc ks pc : Nat} {ls : List (Nat × Value)} {st : List Value} {Q : jO → pS → Prop}
variable {n : Nat} {K : Nat → pKd} {A : pA} {Lg : pL} {G : pG}
/-- System.arraycopy of ints, bytes (of two cells of one kind) -/
theorem j_copy {index a0 a n0 n1 t : Nat} {ty : FieldType} {sp dp x : Int32} (ht : jTy[t]? = some ty) (h0k : jTk t = 0) (hprim : refKind ty = false) (w1 : Cond.methodLink own index arraycopyName ∈ lw_all) (w2 : Cond.native arraycopyName ∈ lw_all) (w3 : Cond.static arraycopyName ∈ lw_all) (w4 : Cond.initialized "java/lang/System" ∈ lw_all)
    (ha0 : a0 < n) (ha : a < n) (hk0 : K a0 = .inr (t, n0)) (hk : K a = .inr (t, n1)) (h1 : ¬ sp < 0) (h2 : ¬ dp < 0) (h3 : ¬ x < 0) (h4 : sp.toNatClampNeg + x.toNatClampNeg ≤ n0) (h5 : dp.toNatClampNeg + x.toNatClampNeg ≤ n1) (hfit : ∀ i, i < x.toNatClampNeg → fits ty (.int (A a0 (sp.toNatClampNeg + i))) = true)
    (hst : (st.map fun v => v.category).sum ≤ 8) (hd : 1 ≤ dd) (d : decode cc pc = .ok (.invokestatic index, 3)) (k : J Γ own cc L ret nm hh dd kc ks (pc + 3) ls st (n, K, prow A a (va_cpy (A a0) (A a) sp.toNatClampNeg dp.toNatClampNeg x.toNatClampNeg), Lg, G) Q) : J Γ own cc L ret nm hh dd kc ks pc ls (.int x :: .int dp :: .ref a :: .int sp :: .ref a0 :: st) (n, K, A, Lg, G) Q := by
  intro p e R s m args below meth c H locs cells slots mc ms lsA hS hD hl
  have nn : ∀ z : Int32, ¬ z < 0 → z.toInt = (z.toNatClampNeg : Int) := by
    intro z hz
    have hz0 : (0 : Int) ≤ z.toInt := by
      have := Int32.not_lt.mp hz
      simpa using Int32.le_iff_toInt_le.mp this
    show z.toInt = ((z.toInt.toNat : Nat) : Int)
    omega
  obtain ⟨hx, hb, -, -, hml, -, hown, hts, -, hKK, -, hfr, hlc, hmc, hms⟩ := id hS
  have h9 : n + kc ≤ 1000000 := hD.2.2.2.2
  have hc0 : H[(gH Γ).size + a0]? = some (arrV (gT Γ t) n0 (fun j => .int (A a0 j))) := by
    have := pAt_a hk0 (hD.1.2.1 a0 ha0)
    rw [h0k] at this
    exact this
  have hc1 : H[(gH Γ).size + a]? = some (arrV (gT Γ t) n1 (fun j => .int (A a j))) := by
    have := pAt_a hk (hD.1.2.1 a ha)
    rw [h0k] at this
    exact this
  have hl1 : lsA.size = c.maxLocals := by rw [hml]; exact hl.1
  have hsum := j_cats hS st
  rw [List.map_cons, List.map_cons, List.map_cons, List.map_cons, List.map_cons, pv_lt (k := a) (by omega), pv_lt (k := a0) (by omega)]
  have e9 : nativeFrameWords "java/lang/System" "arraycopy" 5 + 11 ≤ 56 := by decide
  have h56 : 2 * 0 + ((st.map (pv Γ)).map fun v => v.category).sum + (nativeFrameWords "java/lang/System" "arraycopy" 5 + 11) ≤ R.locals := by
    rw [hsum]
    omega
  intro T hT X
  obtain ⟨-, k0, hkc0, cm0, hkk0⟩ := j_arr hS ht n0 (fun j => .int (A a0 j))
  obtain ⟨-, k1, hkc1, cm1, hkk1⟩ := j_arr hS ht n1 (fun j => .int (A a j))
  obtain ⟨vm', X', step⟩ := X.arraycopy hx hown (hts _ w1) (hts _ w2) (hts _ w3) (hts _ w4) (src := (gH Γ).size + a0) (dst := (gH Γ).size + a) (cs := arrV (gT Γ t) n0 (fun j => .int (A a0 j))) (cd := arrV (gT Γ t) n1 (fun j => .int (A a j))) (srcPos := sp) (destPos := dp) (n := x) (by rw [hT]; exact hc0) (by rw [hT]; exact hc1)
    (fun _ h => by cases h) (fun _ h => by cases h) (fun h => by cases h) (fun h => by cases h) hkc0 hkc1 hkk0 hkk1 (by simp [hprim]) h1 h2 h3
    (by rw [nn sp h1, nn x h3, arrV_size]; omega)
    (by rw [nn dp h2, nn x h3, arrV_size]; omega)
    (fun vm₁ _ i hi => by
      have e : (arrV (gT Γ t) n0 (fun j => .int (A a0 j))).slots.getD (sp.toNatClampNeg + i) .null = .int (A a0 (sp.toNatClampNeg + i)) := by
        rw [Array.getD_eq_getD_getElem?, arrV_read _ _ (by omega)]
        rfl
      refine ⟨?_, ?_⟩
      · rw [e]
        exact hfit i hi
      · rw [e]
        exact trivial)
    (g := F0 m pc lsA (.int x :: .int dp :: .ref ((gH Γ).size + a) :: .int sp :: .ref ((gH Γ).size + a0) :: st.map (pv Γ))) rfl hl1 (rest := st.map (pv Γ)) rfl (by rw [hb]; exact d) (by omega) h56
  have e1 : copied (arrV (gT Γ t) n0 (fun j => .int (A a0 j))) (arrV (gT Γ t) n1 (fun j => .int (A a j))) sp dp x = arrV (gT Γ t) n1 (fun j => .int (va_cpy (A a0) (A a) sp.toNatClampNeg dp.toNatClampNeg x.toNatClampNeg j)) := va_copied (fun z => .int z) (gT Γ t) (gT Γ t) (A a0) (A a) h4
  rw [e1] at X' step
  have hla : (gH Γ).size + a < H.size := (Array.getElem?_eq_some_iff.mp hc1).1
  generalize hC : arrV (gT Γ t) n1 (fun j => Value.int (va_cpy (A a0) (A a) sp.toNatClampNeg dp.toNatClampNeg x.toNatClampNeg j)) = cell at X' step
  have hheap : ((T.setVm vm').setCell ((gH Γ).size + a) cell).heap = H.setIfInBounds ((gH Γ).size + a) cell := by rw [← hT]; rfl
  have oq : ∀ q : Nat, q ≠ (gH Γ).size + a → (H.setIfInBounds ((gH Γ).size + a) cell)[q]? = H[q]? := fun q hq => by simp [Array.getElem?_setIfInBounds, Ne.symm hq]
  have hr : jHR Γ (n, K, prow A a (va_cpy (A a0) (A a) sp.toNatClampNeg dp.toNatClampNeg x.toNatClampNeg), Lg, G) (H.setIfInBounds ((gH Γ).size + a) cell) := by
    refine jHR_set hD.1 (by simp) oq rfl (fun b hb => ⟨rfl, prow_ne hb, rfl, rfl⟩) ?_
    unfold pAt
    rw [show (n, K, prow A a (va_cpy (A a0) (A a) sp.toNatClampNeg dp.toNatClampNeg x.toNatClampNeg), Lg, G).2.1 a = .inr (t, n1) from hk]
    refine ⟨(List.getElem?_eq_some_iff.mp ht).1, ?_⟩
    show (H.setIfInBounds ((gH Γ).size + a) cell)[(gH Γ).size + a]? = some (arrV (gT Γ t) n1 _)
    rw [show (H.setIfInBounds ((gH Γ).size + a) cell)[(gH Γ).size + a]? = some cell by simp [Array.getElem?_setIfInBounds, hla], ← hC]
    congr 2
    funext j
    rw [h0k]
    show _ = Value.int (prow A a _ a j)
    rw [prow_self]
  obtain ⟨t9, a1, b1⟩ := k p e R s m args below meth c _ _ cells slots mc ms lsA hS ⟨hr, fun z hz => by
      rcases List.mem_append.mp hz with h | h
      · exact hD.2.1 z h
      · obtain ⟨w, -, hw⟩ := List.mem_map.mp h
        rw [← hw]
        exact Nat.le_add_right _ _, hD.2.2.1, hD.2.2.2.1, h9⟩ hl _ hheap X'
  exact ⟨t9, step t9 a1, b1⟩
end JCP
section JCP2
variable {Γ : jG} {own : String} {cc : ByteArray} {L : Nat} {ret : Option FieldType} {nm : String} {hh : List (Nat × Nat × Nat × Nat)} {dd kc ks pc : Nat} {ls : List (Nat × Value)} {st : List Value} {Q : jO → pS → Prop}
variable {n : Nat} {K : Nat → pKd} {A : pA} {Lg : pL} {G : pG}
theorem j_copyE {index a0 a n0 n1 t : Nat} {ty : FieldType} {sp dp x : Int32} (ht : jTy[t]? = some ty) (h0k : jTk t = 0) (hprim : refKind ty = false) (w1 : Cond.methodLink own index arraycopyName ∈ lw_all) (w2 : Cond.native arraycopyName ∈ lw_all) (w3 : Cond.static arraycopyName ∈ lw_all) (w4 : Cond.initialized "java/lang/System" ∈ lw_all)
    (ha0 : a0 < n) (ha : a < n) (hk0 : K a0 = .inr (t, n0)) (hk : K a = .inr (t, n1)) (h1 : ¬ sp < 0) (h2 : ¬ dp < 0) (h3 : ¬ x < 0) (h4 : sp.toNatClampNeg + x.toNatClampNeg ≤ n0) (h5 : dp.toNatClampNeg + x.toNatClampNeg ≤ n1) (hfit : ∀ i, i < x.toNatClampNeg → fits ty (.int (A a0 (sp.toNatClampNeg + i))) = true)
    (hst : (st.map fun v => v.category).sum ≤ 8) (hd : 1 ≤ dd) (d : decode cc pc = .ok (.invokestatic index, 3)) (k : ∀ A1 : pA, A1 = prow A a (va_cpy (A a0) (A a) sp.toNatClampNeg dp.toNatClampNeg x.toNatClampNeg) → J Γ own cc L ret nm hh dd kc ks (pc + 3) ls st (n, K, A1, Lg, G) Q) : J Γ own cc L ret nm hh dd kc ks pc ls (.int x :: .int dp :: .ref a :: .int sp :: .ref a0 :: st) (n, K, A, Lg, G) Q :=
  j_copy ht h0k hprim w1 w2 w3 w4 ha0 ha hk0 hk h1 h2 h3 h4 h5 hfit hst hd d (k _ rfl)
end JCP2
