set_option maxRecDepth 100000
set_option maxHeartbeats 4000000
section LJ
variable {args : Array Value} {s : State}
theorem lj_arrP {ty : FieldType} (h : (Cond.arrayClass ty).before args s = true) : ∃ cA : ClassId, ArrOfT s cA ty ∧ s.vm.findClass ("[" ++ ty.toString) = some cA := by
  obtain ⟨c, k, comp, h1, h2, h3⟩ := Cond.arrayClass_spec h
  exact ⟨c, fun n z => ⟨fun k h => (by cases h), k, h2, comp, h3⟩, h1⟩
theorem lj_arrO {C : String} (h : (Cond.arrayOver (.object C)).before args s = true) : ∃ cA : ClassId, ArrOfT s cA (.object C) ∧ va_RA s cA (.object C) := by
  obtain ⟨comp, c, k, h1, -, h3, h4, h5⟩ := Cond.arrayOver_spec h
  exact ⟨c, fun n z => ⟨fun k h => (by cases h), k, h3, comp, h4⟩, k, comp, h3, h4, h1, h5⟩
theorem lj_arrA (h : (Cond.arrayOver (.array .int)).before args s = true) : ∃ cA : ClassId, ArrOfT s cA (.array .int) ∧ va_RA s cA (.array .int) := by
  obtain ⟨comp, c, k, h1, h3, h4, h5⟩ := Cond.arrayOver_specA h
  exact ⟨c, fun n z => ⟨fun k h => (by cases h), k, h3, comp, h4⟩, h5⟩
theorem lj_all (htb : ∀ w ∈ lw_tbl, w.before args s = true) : ∀ w ∈ lw_all, w.before args s = true := fun w h => htb w (List.mem_filter.mp h).1
theorem lj_cls (hts : ∀ w ∈ lw_all, w.before args s = true) : ∀ q ∈ jCl, ∃ (cC : ClassId) (iS : Nat → Nat), u_Kn s q.1 q.2.1 q.2.2 cC iS := (List.forall_mem_cons.mpr ⟨u_known hts ck_X0.2.1 (hts _ q160), (List.forall_mem_cons.mpr ⟨u_known hts ck_X1.2.1 (hts _ q168), (List.forall_mem_cons.mpr ⟨u_known hts ck_X2.2.1 (hts _ q242), (List.forall_mem_cons.mpr ⟨u_known hts ck_X3.2.1 (hts _ q304), (List.forall_mem_cons.mpr ⟨u_known hts ck_X4.2.1 (hts _ q332), (List.forall_mem_cons.mpr ⟨u_known hts ck_X5.2.1 (hts _ q433), (List.forall_mem_cons.mpr ⟨u_known hts ck_X6.2.1 (hts _ q440), (List.forall_mem_cons.mpr ⟨u_known hts ck_X8.2.1 (hts _ q514), (List.forall_mem_cons.mpr ⟨u_known hts ck_X9.2.1 (hts _ q524), (List.forall_mem_cons.mpr ⟨u_known hts ck_X10.2.1 (hts _ q1524), (List.forall_mem_cons.mpr ⟨u_known hts ck_X11.2.1 (hts _ q736), (List.forall_mem_cons.mpr ⟨u_known hts ck_X13.2.1 (hts _ q789), (List.forall_mem_cons.mpr ⟨u_known hts ck_X14.2.1 (hts _ q806), (List.forall_mem_cons.mpr ⟨u_known hts ck_X15.2.1 (hts _ q816), (List.forall_mem_cons.mpr ⟨u_known hts ck_X17.2.1 (hts _ q837), (List.forall_mem_cons.mpr ⟨u_known hts ck_X18.2.1 (hts _ q1119), (List.forall_mem_cons.mpr ⟨u_known hts ck_X19.2.1 (hts _ q1146), (List.forall_mem_cons.mpr ⟨u_known hts ck_J5.2.1 (hts _ q338), (List.forall_mem_cons.mpr ⟨u_known hts ck_J8.2.1 (hts _ q960), (List.forall_mem_cons.mpr ⟨u_known hts ck_J12.2.1 (hts _ q851), (fun _ h => absurd h List.not_mem_nil)⟩)⟩)⟩)⟩)⟩)⟩)⟩)⟩)⟩)⟩)⟩)⟩)⟩)⟩)⟩)⟩)⟩)⟩)⟩)⟩)
theorem lj_tys (htb : ∀ w ∈ lw_tbl, w.before args s = true) : ∀ ty ∈ jTy, ∃ cA : ClassId, ArrOfT s cA ty ∧ va_RA s cA ty := (List.forall_mem_cons.mpr ⟨lj_arrP (htb _ (List.mem_filter.mp q431).1), (List.forall_mem_cons.mpr ⟨lj_arrP (htb _ (List.mem_filter.mp q240).1), (List.forall_mem_cons.mpr ⟨lj_arrP (htb _ (List.mem_filter.mp q302).1), (List.forall_mem_cons.mpr ⟨lj_arrP (htb _ (List.mem_filter.mp q610).1), (List.forall_mem_cons.mpr ⟨lj_arrP (htb _ (List.mem_filter.mp q1749).1), (List.forall_mem_cons.mpr ⟨lj_arrO (htb _ q248), (List.forall_mem_cons.mpr ⟨lj_arrO (htb _ q1099), (List.forall_mem_cons.mpr ⟨lj_arrO (htb _ q364), (List.forall_mem_cons.mpr ⟨lj_arrO (htb _ q742), (List.forall_mem_cons.mpr ⟨lj_arrO (htb _ q510), (List.forall_mem_cons.mpr ⟨lj_arrO (htb _ q512), (List.forall_mem_cons.mpr ⟨lj_arrA (htb _ q366), (fun _ h => absurd h List.not_mem_nil)⟩)⟩)⟩)⟩)⟩)⟩)⟩)⟩)⟩)⟩)⟩)⟩)
theorem lj_nw (htb : ∀ w ∈ lw_tbl, w.before args s = true) : jNw s := ⟨(List.forall_mem_cons.mpr ⟨va_Nw.of rfl (htb _ q243), (List.forall_mem_cons.mpr ⟨va_Nw.of rfl (htb _ q333), (List.forall_mem_cons.mpr ⟨va_Nw.of rfl (htb _ q434), (List.forall_mem_cons.mpr ⟨va_Nw.of rfl (htb _ q441), (List.forall_mem_cons.mpr ⟨va_Nw.of rfl (htb _ q515), (List.forall_mem_cons.mpr ⟨va_Nw.of rfl (htb _ q518), (List.forall_mem_cons.mpr ⟨va_Nw.of rfl (htb _ q525), (List.forall_mem_cons.mpr ⟨va_Nw.of rfl (htb _ q528), (List.forall_mem_cons.mpr ⟨va_Nw.of rfl (htb _ q706), (List.forall_mem_cons.mpr ⟨va_Nw.of rfl (htb _ q737), (List.forall_mem_cons.mpr ⟨va_Nw.of rfl (htb _ q797), (List.forall_mem_cons.mpr ⟨va_Nw.of rfl (htb _ q810), (List.forall_mem_cons.mpr ⟨va_Nw.of rfl (htb _ q820), (List.forall_mem_cons.mpr ⟨va_Nw.of rfl (htb _ q1276), (fun _ h => absurd h List.not_mem_nil)⟩)⟩)⟩)⟩)⟩)⟩)⟩)⟩)⟩)⟩)⟩)⟩)⟩)⟩),
  (List.forall_mem_cons.mpr ⟨va_Nw.of rfl (htb _ q169), (List.forall_mem_cons.mpr ⟨va_Nw.of rfl (htb _ q914), (List.forall_mem_cons.mpr ⟨va_Nw.of rfl (htb _ q2168), (List.forall_mem_cons.mpr ⟨va_Nw.of rfl (htb _ q2169), (List.forall_mem_cons.mpr ⟨va_Nw.of rfl (htb _ q2170), (List.forall_mem_cons.mpr ⟨va_Nw.of rfl (htb _ q2171), (List.forall_mem_cons.mpr ⟨va_Nw.of rfl (htb _ q2172), (List.forall_mem_cons.mpr ⟨va_Nw.of rfl (htb _ q2173), (List.forall_mem_cons.mpr ⟨va_Nw.of rfl (htb _ q2174), (List.forall_mem_cons.mpr ⟨va_Nw.of rfl (htb _ q2175), (List.forall_mem_cons.mpr ⟨va_Nw.of rfl (htb _ q2176), (List.forall_mem_cons.mpr ⟨va_Nw.of rfl (htb _ q2177), (List.forall_mem_cons.mpr ⟨va_Nw.of rfl (htb _ q2178), (List.forall_mem_cons.mpr ⟨va_Nw.of rfl (htb _ q2179), (List.forall_mem_cons.mpr ⟨va_Nw.of rfl (htb _ q2180), (List.forall_mem_cons.mpr ⟨va_Nw.of rfl (htb _ q2181), (List.forall_mem_cons.mpr ⟨va_Nw.of rfl (htb _ q2182), (List.forall_mem_cons.mpr ⟨va_Nw.of rfl (htb _ q2183), (List.forall_mem_cons.mpr ⟨va_Nw.of rfl (htb _ q2184), (List.forall_mem_cons.mpr ⟨va_Nw.of rfl (htb _ q2185), (List.forall_mem_cons.mpr ⟨va_Nw.of rfl (htb _ q2186), (List.forall_mem_cons.mpr ⟨va_Nw.of rfl (htb _ q2187), (List.forall_mem_cons.mpr ⟨va_Nw.of rfl (htb _ q2188), (List.forall_mem_cons.mpr ⟨va_Nw.of rfl (htb _ q2189), (List.forall_mem_cons.mpr ⟨va_Nw.of rfl (htb _ q2190), (List.forall_mem_cons.mpr ⟨va_Nw.of rfl (htb _ q2191), (List.forall_mem_cons.mpr ⟨va_Nw.of rfl (htb _ q2192), (List.forall_mem_cons.mpr ⟨va_Nw.of rfl (htb _ q2193), (List.forall_mem_cons.mpr ⟨va_Nw.of rfl (htb _ q2194), (List.forall_mem_cons.mpr ⟨va_Nw.of rfl (htb _ q2195), (List.forall_mem_cons.mpr ⟨va_Nw.of rfl (htb _ q2196), (List.forall_mem_cons.mpr ⟨va_Nw.of rfl (htb _ q2197), (List.forall_mem_cons.mpr ⟨va_Nw.of rfl (htb _ q2198), (List.forall_mem_cons.mpr ⟨va_Nw.of rfl (htb _ q2202), (List.forall_mem_cons.mpr ⟨va_Nw.of rfl (htb _ q2203), (List.forall_mem_cons.mpr ⟨va_Nw.of rfl (htb _ q2204), (List.forall_mem_cons.mpr ⟨va_Nw.of rfl (htb _ q2205), (List.forall_mem_cons.mpr ⟨va_Nw.of rfl (htb _ q2206), (List.forall_mem_cons.mpr ⟨va_Nw.of rfl (htb _ q2207), (List.forall_mem_cons.mpr ⟨va_Nw.of rfl (htb _ q2208), (List.forall_mem_cons.mpr ⟨va_Nw.of rfl (htb _ q2209), (List.forall_mem_cons.mpr ⟨va_Nw.of rfl (htb _ q2210), (List.forall_mem_cons.mpr ⟨va_Nw.of rfl (htb _ q2211), (List.forall_mem_cons.mpr ⟨va_Nw.of rfl (htb _ q2212), (List.forall_mem_cons.mpr ⟨va_Nw.of rfl (htb _ q2213), (fun _ h => absurd h List.not_mem_nil)⟩)⟩)⟩)⟩)⟩)⟩)⟩)⟩)⟩)⟩)⟩)⟩)⟩)⟩)⟩)⟩)⟩)⟩)⟩)⟩)⟩)⟩)⟩)⟩)⟩)⟩)⟩)⟩)⟩)⟩)⟩)⟩)⟩)⟩)⟩)⟩)⟩)⟩)⟩)⟩)⟩)⟩)⟩)⟩)⟩),
  (List.forall_mem_cons.mpr ⟨va_Nw.of rfl (htb _ q1260), (List.forall_mem_cons.mpr ⟨va_Nw.of rfl (htb _ q1342), (fun _ h => absurd h List.not_mem_nil)⟩)⟩),
  (List.forall_mem_cons.mpr ⟨va_AO.of (htb _ q248), (List.forall_mem_cons.mpr ⟨va_AO.of (htb _ q364), (List.forall_mem_cons.mpr ⟨va_AO.of (htb _ q510), (List.forall_mem_cons.mpr ⟨va_AO.of (htb _ q512), (List.forall_mem_cons.mpr ⟨va_AO.of (htb _ q742), (List.forall_mem_cons.mpr ⟨va_AO.of (htb _ q1099), (fun _ h => absurd h List.not_mem_nil)⟩)⟩)⟩)⟩)⟩)⟩),
  htb _ q366, va_Nw.of rfl (htb _ q888)⟩
theorem lj_pick {α β : Type} {l : List α} {P : α → β → Prop} [Inhabited β] (h : ∀ q ∈ l, ∃ b, P q b) : ∃ f : Nat → β, ∀ (i : Nat) (q : α), l[i]? = some q → P q (f i) := by
  have h1 : ∀ i : Nat, ∃ b : β, ∀ q, l[i]? = some q → P q b := by
    intro i
    cases e : l[i]? with
    | none => exact ⟨default, fun q hq => nomatch hq⟩
    | some q =>
      obtain ⟨b, hb⟩ := h q (List.mem_of_getElem? e)
      exact ⟨b, fun q' hq => by cases hq; exact hb⟩
  exact Classical.axiomOfChoice h1
/-- the outside: strings of the class files -/
theorem lj_str (hnr : (Jvm.Cond.and given_1 narrow_1).before args s = true) : ∃ adK adV : Nat → Nat, vk_S 24 jSl jSb adK adV (fun a => s.heap.size ≤ a) s s.heap ∧ ∀ i : Nat, i < 24 → (lj_tm i).eval args s none [] s = some (.ref (adK i)) := by
  have hs := flat_of_before _ hnr
  refine vk_Sof (tm := lj_tm) (fun i hi => ?_) (fun i hi => hs _ (lx_ex i hi)) (fun i hi => hs _ (lx_co i hi)) (fun i hi => hs _ (lx_ar i hi)) (fun i hi => hs _ (lx_le i hi)) (fun i hi j hj => hs _ (lx_el i hi j hj)) (fun i j hi hj hne => ?_) (fun a h1 h2 => by omega)
  · exact (by decide +kernel : ∀ i, i < 24 → jSl.getD i 0 < 2 ^ 31) i hi
  · rcases Nat.lt_or_gt_of_ne hne with h | h
    · exact Or.inl (hs _ (lx_ne j hj i h))
    · exact Or.inr (hs _ (lx_ne i hi j h))
theorem lj_sr : ∀ q ∈ jSr, Cond.stringRef q.1 q.2.1 q.2.2 ∈ lw_tbl := (List.forall_mem_cons.mpr ⟨q209, (List.forall_mem_cons.mpr ⟨q249, (List.forall_mem_cons.mpr ⟨q250, (List.forall_mem_cons.mpr ⟨q251, (List.forall_mem_cons.mpr ⟨q252, (List.forall_mem_cons.mpr ⟨q253, (List.forall_mem_cons.mpr ⟨q254, (List.forall_mem_cons.mpr ⟨q255, (List.forall_mem_cons.mpr ⟨q256, (List.forall_mem_cons.mpr ⟨q257, (List.forall_mem_cons.mpr ⟨q258, (List.forall_mem_cons.mpr ⟨q259, (List.forall_mem_cons.mpr ⟨q260, (List.forall_mem_cons.mpr ⟨q261, (List.forall_mem_cons.mpr ⟨q262, (List.forall_mem_cons.mpr ⟨q263, (List.forall_mem_cons.mpr ⟨q264, (List.forall_mem_cons.mpr ⟨q265, (List.forall_mem_cons.mpr ⟨q266, (List.forall_mem_cons.mpr ⟨q267, (List.forall_mem_cons.mpr ⟨q268, (List.forall_mem_cons.mpr ⟨q269, (List.forall_mem_cons.mpr ⟨q270, (List.forall_mem_cons.mpr ⟨q271, (fun _ h => absurd h List.not_mem_nil)⟩)⟩)⟩)⟩)⟩)⟩)⟩)⟩)⟩)⟩)⟩)⟩)⟩)⟩)⟩)⟩)⟩)⟩)⟩)⟩)⟩)⟩)⟩)⟩)
theorem lj_static {C n d : String} (htb : ∀ w ∈ lw_tbl, w.before args s = true) (hl : Cond.laysStatic C n d ∈ lw_tbl) (hi : Cond.initialized C ∈ lw_all) (hr : (Cond.isRef (.static C n d)).before args s = true) : ∃ v : Value, va_Z C n d v (fun a => s.heap.size ≤ a) s s.heap ∧ (v = .null ∨ ∃ a, v = .ref a) := by
  rcases va_Zqof (A := fun a => s.heap.size ≤ a) (htb _ hl) (lj_all htb _ hi) hr (fun a h1 h2 => by omega) with h | ⟨t, h⟩
  · exact ⟨_, h, Or.inl rfl⟩
  · exact ⟨_, h, Or.inr ⟨t, rfl⟩⟩
theorem lj_G (l : Launch) (htb : ∀ w ∈ lw_tbl, w.before args s = true) (hnr : (Jvm.Cond.and given_1 narrow_1).before args s = true) {b L : Nat} {xs : Nat → Int32} (hX : va_X b L xs s s.heap) (hb : b < s.heap.size) : ∃ Γ : jG, gl Γ = l ∧ gH Γ = s.heap ∧ gN Γ = L ∧ gS Γ = xs ∧ gX Γ 1000201 = b ∧ jKK Γ s := by
  have hts := lj_all htb
  have hs := flat_of_before _ hnr
  obtain ⟨cI, hcI⟩ := lj_pick (P := fun (q : vw_C) (d : ClassId × (Nat → Nat)) => u_Kn s q.1 q.2.1 q.2.2 d.1 d.2) (fun q hq => by obtain ⟨c, i, h⟩ := lj_cls hts q hq; exact ⟨(c, i), h⟩)
  obtain ⟨gT0, hT0⟩ := lj_pick (lj_tys htb)
  obtain ⟨adK, adV, hS1, hS2⟩ := lj_str hnr
  obtain ⟨t0, ht0, hE⟩ := va_Tof (args := args) (s := s) (tm := .static "java/util/ArrayList" "DEFAULTCAPACITY_EMPTY_ELEMENTDATA" "[Ljava/lang/Object;") (ty := .object "java/lang/Object") (N := 0) (f := fun _ => .null) (A := fun a => s.heap.size ≤ a) (by decide) (hs _ (by decide +kernel)) (va_eqt (hs _ (by decide +kernel))) (fun j hj => absurd hj (Nat.not_lt_zero j)) (fun a h1 h2 => by omega)
  have z0 := va_Zof (A := fun a => s.heap.size ≤ a) (htb _ q656) (hts _ q140) (va_eqt (hs (.eq (.static "java/lang/String" "COMPACT_STRINGS" "Z") (.int 1)) (by decide +kernel))) (fun a h1 h2 => by omega)
  have z1 := va_Zof (A := fun a => s.heap.size ≤ a) (htb _ q350) (hts _ q131) ht0 (fun a h1 h2 => by omega)
  obtain ⟨v2, z2, r2⟩ := lj_static htb q194 q122 (hs _ (by decide +kernel))
  obtain ⟨v3, z3, r3⟩ := lj_static htb q196 q122 (hs _ (by decide +kernel))
  obtain ⟨v4, z4, r4⟩ := lj_static htb q672 q138 (hs _ (by decide +kernel))
  let fX : Nat → Nat := fun k => if k < 1000024 then adK (k - 1000000) else if k < 1000124 then adV (k - 1000100) else if k = 1000200 then t0 else b
  let fO : Nat → Value := fun k => if k = 2000000 then v2 else if k = 2000001 then v3 else v4
  have eK : ∀ i, i < 24 → fX (1000000 + i) = adK i := fun i hi => by
    show (if 1000000 + i < 1000024 then adK (1000000 + i - 1000000) else _) = _
    rw [if_pos (by omega), Nat.add_sub_cancel_left]
  have eV : ∀ i, i < 24 → fX (1000100 + i) = adV i := fun i hi => by
    show (if 1000100 + i < 1000024 then adK (1000100 + i - 1000000) else if 1000100 + i < 1000124 then adV (1000100 + i - 1000100) else _) = _
    rw [if_neg (by omega), if_pos (by omega), Nat.add_sub_cancel_left]
  have e0 : fX 1000200 = t0 := rfl
  have e1 : fX 1000201 = b := rfl
  refine ⟨(l, fun i => (cI i).1, fun i => (cI i).2, gT0, s.heap, fX, fO, L, xs), rfl, rfl, rfl, rfl, e1, ⟨fun c q hq => hcI c q hq, fun k q hq => ?_⟩, lj_nw htb, ?_, ?_, ?_, ?_, ?_, ?_, ?_, ?_⟩
  · unfold jTys at hq
    rw [List.getElem?_mapIdx] at hq
    cases e : jTy[k]? with
    | none => rw [e] at hq; cases hq
    | some ty =>
      rw [e] at hq
      cases hq
      exact hT0 k ty e
  · refine List.forall_mem_cons.mpr ⟨z0, List.forall_mem_cons.mpr ⟨?_, List.forall_mem_cons.mpr ⟨z2, List.forall_mem_cons.mpr ⟨z3, List.forall_mem_cons.mpr ⟨z4, fun _ h => absurd h List.not_mem_nil⟩⟩⟩⟩⟩
    exact z1
  · refine ⟨fun i hi => ?_, fun i j hi hj e => ?_⟩
    · have h := hS1.1 i hi
      show va_O _ (fX (1000000 + i)) _ _ _ ∧ va_OF _ _ _ _ (fX (1000000 + i)) _ _ _ ∧ va_OF _ _ _ (.ref (fX (1000100 + i))) (fX (1000000 + i)) _ _ _ ∧ va_T _ (fX (1000100 + i)) _ _ _ _ _
      rw [eK i hi, eV i hi]
      exact h
    · have e' : fX (1000000 + i) = fX (1000000 + j) := e
      rw [eK i hi, eK j hj] at e'
      exact hS1.2 i j hi hj e'
  · intro i hi q hq
    show vk_R q.1 q.2.1 q.2.2 (fX (1000000 + i)) s
    rw [eK i hi]
    have h := hS2 i hi
    have eq : lj_tm i = .string q.1 q.2.1 := by unfold lj_tm; rw [List.getD_eq_getElem?_getD, hq]; rfl
    rw [eq] at h
    exact vk_R.of (htb _ (lj_sr q (List.mem_of_getElem? hq))) h
  · exact hE
  · exact hX
  · exact hb
  · obtain ⟨cell, h1, -⟩ := hE
    exact (Array.getElem?_eq_some_iff.mp h1).1
  · intro k
    show (if k = 2000000 then v2 else if k = 2000001 then v3 else v4) = .null ∨ ∃ a, (if k = 2000000 then v2 else if k = 2000001 then v3 else v4) = .ref a
    by_cases h1 : k = 2000000
    · rw [if_pos h1]; exact r2
    · rw [if_neg h1]
      by_cases h2 : k = 2000001
      · rw [if_pos h2]; exact r3
      · rw [if_neg h2]; exact r4
end LJ
