set_option maxRecDepth 100000
section JN
variable {Γ : jG} {own : String} {cc : ByteArray} {L : Nat} {ret : Option FieldType} {nm : String} {hh : List (Nat × Nat × Nat × Nat)} {dd kc ks kc' ks' pc : Nat} {ls : List (Nat × Value)} {st : List Value} {σ : pS} {Q : jO → pS → Prop}
variable {n : Nat} {K : Nat → pKd} {A : pA} {Lg : pL} {G : pG}
/-- the store with one cell more -/
abbrev pnew (n : Nat) (K : Nat → pKd) (A : pA) (Lg : pL) (G : pG) (k : pKd) : pS := (n + 1, pkup K n k, prow A n (fun _ => 0), prow Lg n (fun _ => 0), prow G n (fun _ => .null))
theorem pVal_new {k : pKd} (t j : Nat) : pVal Γ (pnew n K A Lg G k) n t j = if t = 0 then .int 0 else if t = 1 then .long 0 else .null := by
  unfold pVal
  show (if t = 0 then Value.int (prow A n (fun _ => 0) n j) else if t = 1 then Value.long (prow Lg n (fun _ => 0) n j) else pv Γ (prow G n (fun _ => .null) n j)) = _
  rw [prow_self, prow_self, prow_self]
  rfl
theorem jHR_new {H H' : Heap} {k : pKd} (h : jHR Γ (n, K, A, Lg, G) H) (hz : H'.size = (gH Γ).size + n + 1) (oq : ∀ q, q < (gH Γ).size + n → H'[q]? = H[q]?) (he : pAt Γ (pnew n K A Lg G k) n H') : jHR Γ (pnew n K A Lg G k) H' := by
  refine ⟨by rw [hz]; show _ = (gH Γ).size + (n + 1); omega, fun b hb => ?_, fun q hq => (oq q (by omega)).trans (h.2.2 q hq)⟩
  have hb' : b < n + 1 := hb
  by_cases e : b = n
  · subst e; exact he
  · exact pAt_kept (h.2.1 b (show b < n by omega)) (pkup_ne e) (prow_ne e) (prow_ne e) (prow_ne e) (oq _ (by omega))
def jCn (own : String) (index ci N : Nat) : Prop := ∃ (C : String) (T : u_T) (ty : Nat → FieldType), jCk ci C T N ty ∧ Cond.classLink own index C ∈ lw_all ∧ Cond.instantiable C N ∈ lw_all ∧ Cond.initialized C ∈ lw_all
theorem j_new {index ci N : Nat} (f : jCn own index ci N) (h1 : kc' + 1 ≤ kc) (h2 : ks' + N ≤ ks) (d : decode cc pc = .ok (.new index, 3)) (k : J Γ own cc L ret nm hh dd kc' ks' (pc + 3) ls (.ref n :: st) (pnew n K A Lg G (.inl ci)) Q) : J Γ own cc L ret nm hh dd kc ks pc ls st (n, K, A, Lg, G) Q := by
  intro p e R s m args below meth c H locs cells slots mc ms lsA hS hD hl
  obtain ⟨C, T, ty, ⟨hc, hin, hty, hnm, hdf⟩, w1, w2, w3⟩ := f
  obtain ⟨hx, hb, -, -, -, -, hown, hts, -, hKK, -, -, -, hmc, hms⟩ := id hS
  obtain ⟨hHR, hlo, g1, g2, g3⟩ := hD
  have hKn := hKK.1.1 ci _ hc
  have hn6 : n < 1000000 := by dsimp only at g3; omega
  refine W.newcK hx hb hown (hts _ w1) (hts _ w2) (hts _ w3) rfl d (by omega) (by omega) hKn.2.1 rfl fun H1 kC hkC e1 z1 o1 => ?_
  have hsz : H.size = (gH Γ).size + n := hHR.1
  rw [hsz] at e1 z1 o1 ⊢
  have kk := k p e R s m args below meth c H1 locs (cells + 1) (slots + N) mc ms lsA hS ⟨jHR_new hHR z1 o1 ?_, hlo, by omega, by omega, by show n + 1 + kc' ≤ _; dsimp only at g3; omega⟩ hl
  · rw [List.map_cons, pv_lt hn6] at kk
    exact kk
  · unfold pAt
    rw [show (pnew n K A Lg G (.inl ci)).2.1 n = .inl ci from pkup_self]
    refine ⟨_, hc, (u_born ty hts hin hKn hkC e1 hty).to fun j hj => ?_⟩
    show _ = pVal Γ (pnew n K A Lg G (.inl ci)) n (jFk ci j) j
    rw [pVal_new]
    rcases hdf j hj with ⟨a1, a2⟩ | ⟨a1, a2⟩ | ⟨a1, a2⟩ <;> rw [a1, a2] <;> rfl
theorem j_newa {t N : Nat} {x : Int32} {atype : ArrayType} {ty : FieldType} (ht : jTy[t]? = some ty) (hty : newarray.typeOf atype = ty) (hp : va_RA = va_RA) (hw : Cond.arrayClass ty ∈ lw_all) (hra : ∀ (U : State) (q : ClassId), va_RA U q ty → U.vm.findClass ("[" ++ ty.toString) = some q) (hdf : defaultValue ty = if jTk t = 0 then .int 0 else if jTk t = 1 then .long 0 else .null) (hn0 : ¬ x < 0) (hN : x.toNatClampNeg = N) (hby : N * componentBytes ty ≤ 536870912) (h1 : kc' + 1 ≤ kc) (h2 : ks' + N ≤ ks) (d : decode cc pc = .ok (.newarray atype, 2)) (k : J Γ own cc L ret nm hh dd kc' ks' (pc + 2) ls (.ref n :: st) (pnew n K A Lg G (.inr (t, N))) Q) : J Γ own cc L ret nm hh dd kc ks pc ls (.int x :: st) (n, K, A, Lg, G) Q := by
  intro p e R s m args below meth c H locs cells slots mc ms lsA hS hD hl
  subst hty
  obtain ⟨hx, hb, -, -, -, -, hown, hts, -, hKK, -, -, -, hmc, hms⟩ := id hS
  obtain ⟨hHR, hlo, g1, g2, g3⟩ := hD
  have hn6 : n < 1000000 := by dsimp only at g3; omega
  refine va_newaK hx hb (hts _ hw) rfl d rfl hn0 hN hby (by omega) (by omega) rfl fun H1 q e1 z1 o1 hAr hNm => ?_
  have hsz : H.size = (gH Γ).size + n := hHR.1
  rw [hsz] at e1 z1 o1 ⊢
  have hq : q = gT Γ t := Option.some.inj (hNm.symm.trans (hra s _ (hKK.1.2 t _ (jTys_at ht)).2))
  subst hq
  have kk := k p e R s m args below meth c H1 locs (cells + 1) (slots + N) mc ms lsA hS ⟨jHR_new hHR z1 o1 ?_, hlo, by omega, by omega, by show n + 1 + kc' ≤ _; dsimp only at g3; omega⟩ hl
  · rw [List.map_cons, pv_lt hn6] at kk
    exact kk
  · unfold pAt
    rw [show (pnew n K A Lg G (.inr (t, N))).2.1 n = .inr (t, N) from pkup_self]
    refine ⟨(List.getElem?_eq_some_iff.mp ht).1, ?_⟩
    rw [e1]
    congr 2
    funext j
    rw [pVal_new]
    exact hdf
theorem j_anew {t N index : Nat} {x : Int32} {C : String} (ht : jTy[t]? = some (.object C)) (h2k : jTk t = 2) (hcl : Cond.classLink own index C ∈ lw_all) (hA : C ∈ jNwA) (hn0 : ¬ x < 0) (hN : x.toNatClampNeg = N) (hby : N * 4 ≤ 536870912) (h1 : kc' + 1 ≤ kc) (h2 : ks' + N ≤ ks) (d : decode cc pc = .ok (.anewarray index, 3)) (k : J Γ own cc L ret nm hh dd kc' ks' (pc + 3) ls (.ref n :: st) (pnew n K A Lg G (.inr (t, N))) Q) : J Γ own cc L ret nm hh dd kc ks pc ls (.int x :: st) (n, K, A, Lg, G) Q := by
  intro p e R s m args below meth c H locs cells slots mc ms lsA hS hD hl
  obtain ⟨hx, hb, -, -, -, -, hown, hts, -, hKK, -, -, -, hmc, hms⟩ := id hS
  obtain ⟨hHR, hlo, g1, g2, g3⟩ := hD
  have hn6 : n < 1000000 := by dsimp only at g3; omega
  subst hN
  refine W.anew hx hb hown (hts _ hcl) (va_AO.use (hKK.2.1.2.2.2.1 C hA)) rfl d rfl hn0 hby (by omega) (by omega) fun q kA comp f1 f2 f3 f4 => ?_
  have hsz : H.size = (gH Γ).size + n := hHR.1
  obtain ⟨kA', comp', -, -, -, hNm⟩ := (hKK.1.2 t _ (jTys_at ht)).2
  have hq : q = gT Γ t := Option.some.inj (f1.symm.trans hNm)
  subst hq
  generalize hH1 : H.push ({ cls := gT Γ t, slots := Array.replicate x.toNatClampNeg .null, vm := .none } : Cell) = H1
  have z1 : H1.size = (gH Γ).size + n + 1 := by rw [← hH1, Array.size_push, hsz]
  have e1 : H1[(gH Γ).size + n]? = some (arrV (gT Γ t) x.toNatClampNeg (fun _ => .null)) := by rw [← hH1, ← hsz, Array.getElem?_push_size, ← arrV_new]
  have o1 : ∀ q : Nat, q < (gH Γ).size + n → H1[q]? = H[q]? := fun q hq => by rw [← hH1, Array.getElem?_push, if_neg (by omega)]
  have kk := k p e R s m args below meth c H1 locs (cells + 1) (slots + x.toNatClampNeg) mc ms lsA hS ⟨jHR_new hHR z1 o1 ?_, hlo, by omega, by omega, by show n + 1 + kc' ≤ _; dsimp only at g3; omega⟩ hl
  · rw [List.map_cons, pv_lt hn6] at kk
    rw [hsz]
    exact kk
  · unfold pAt
    rw [show (pnew n K A Lg G (.inr (t, x.toNatClampNeg))).2.1 n = .inr (t, x.toNatClampNeg) from pkup_self]
    refine ⟨(List.getElem?_eq_some_iff.mp ht).1, ?_⟩
    rw [e1]
    congr 2
    funext j
    rw [pVal_new, h2k]
    rfl
/-! int[N][M] -/
abbrev pmulK (n : Nat) (K : Nat → pKd) (N M : Nat) : Nat → pKd := fun a => if a = n then .inr (11, N) else if n < a ∧ a ≤ n + N then .inr (0, M) else K a
abbrev pmulA {α : Type} (n : Nat) (B : Nat → Nat → α) (N : Nat) (z : α) : Nat → Nat → α := fun a => if n ≤ a ∧ a ≤ n + N then fun _ => z else B a
abbrev pmulG (n : Nat) (B : pG) (N : Nat) : pG := fun a => if a = n then fun j => if j < N then .ref (n + 1 + j) else .null else if n < a ∧ a ≤ n + N then fun _ => .null else B a
abbrev pmul (n : Nat) (K : Nat → pKd) (A : pA) (Lg : pL) (G : pG) (N M : Nat) : pS := (n + 1 + N, pmulK n K N M, pmulA n A N 0, pmulA n Lg N 0, pmulG n G N)
theorem outerC_eq (cA : ClassId) (N h0 : Nat) : ∀ i, i ≤ N → Jvm.Free.Multi.outerC cA N h0 i = arrV cA N (fun j => if j < i then .ref (h0 + 1 + j) else .null)
  | 0, _ => by
    show ({ cls := cA, slots := Array.replicate N .null, vm := .none } : Cell) = _
    rw [arrV_new]
    congr 1
  | i + 1, h => by
    show (Jvm.Free.Multi.outerC cA N h0 i).setSlot i _ = _
    rw [outerC_eq cA N h0 i (by omega), arrV_store]
    congr 1
    funext j
    show (if j = i then _ else _) = _
    by_cases e : j = i
    · subst e; rw [if_pos rfl, if_pos (by omega)]
    · rw [if_neg e]
      show (if j < i then Value.ref (h0 + 1 + j) else Value.null) = _
      by_cases e2 : j < i
      · rw [if_pos e2, if_pos (by omega)]
      · rw [if_neg e2, if_neg (by omega)]
theorem j_multi {index N M : Nat} {x y : Int32} (hcl : Cond.classLink own index "[[I" ∈ lw_all) (hw : Cond.arrayClass .int ∈ lw_all) (hx0 : ¬ x < 0) (hy0 : ¬ y < 0) (hN : x.toNatClampNeg = N) (hM : y.toNatClampNeg = M) (hb1 : N * 4 ≤ 536870912) (hb2 : M * 4 ≤ 536870912) (h1 : kc' + (1 + N) ≤ kc) (h2 : ks' + (N + N * M) ≤ ks) (d : decode cc pc = .ok (.multianewarray index 2, 4)) (k : J Γ own cc L ret nm hh dd kc' ks' (pc + 4) ls (.ref n :: st) (pmul n K A Lg G N M) Q) : J Γ own cc L ret nm hh dd kc ks pc ls (.int y :: .int x :: st) (n, K, A, Lg, G) Q := by
  intro p e R s m args below meth c H locs cells slots mc ms lsA hS hD hl
  obtain ⟨hx, hb, -, -, -, -, hown, hts, -, hKK, -, -, -, hmc, hms⟩ := id hS
  obtain ⟨hHR, hlo, g1, g2, g3⟩ := hD
  have hn6 : n < 1000000 := by dsimp only at g3; omega
  subst hN; subst hM
  intro T hT X
  obtain ⟨vm₁, cA, comp, hW, hfA, hfC, -, -, X1, step⟩ := X.multianewarray2F (ty := .int) hx hown (hts _ hcl) (hKK.2.1.2.2.2.2.1) (hts _ hw) (g := F0 m pc lsA ((Value.int y :: Value.int x :: st).map (pv Γ))) rfl (by rw [hb]; exact d) rfl hx0 hy0 hb1 hb2 (by omega) rfl rfl (by omega) (by omega)
  have hsz : T.heap.size = (gH Γ).size + n := by rw [hT]; exact hHR.1
  have hA11 : cA = gT Γ 11 := Option.some.inj (hfA.symm.trans (hKK.1.2 11 (gT Γ 11, .array .int) (jTys_at rfl)).2)
  have hA0 : comp = gT Γ 0 := Option.some.inj (hfC.symm.trans (hKK.1.2 0 (gT Γ 0, .int) (jTys_at rfl)).2)
  subst hA11; subst hA0
  generalize hF : Jvm.Free.Multi.fill (T.setVm vm₁) (gT Γ 11) (gT Γ 0) x.toNatClampNeg y.toNatClampNeg (defaultValue .int) x.toNatClampNeg = F at X1 step
  have f1 := Jvm.Free.Multi.fill_facts (T.setVm vm₁) (gT Γ 11) (gT Γ 0) x.toNatClampNeg y.toNatClampNeg (defaultValue .int) x.toNatClampNeg
  have f2 : ∀ q, q < T.heap.size → F.heap[q]? = T.heap[q]? := fun q hq => by rw [← hF]; exact Jvm.Free.Multi.fill_old (T.setVm vm₁) (gT Γ 11) (gT Γ 0) x.toNatClampNeg y.toNatClampNeg (defaultValue .int) hq x.toNatClampNeg
  have f3 : ∀ j, j < x.toNatClampNeg → F.heap[T.heap.size + 1 + j]? = some (Jvm.Free.Multi.innerC (gT Γ 0) y.toNatClampNeg (defaultValue .int)) := fun j hj => by rw [← hF]; exact Jvm.Free.Multi.fill_inner (T.setVm vm₁) (gT Γ 11) (gT Γ 0) x.toNatClampNeg y.toNatClampNeg (defaultValue .int) _ j hj
  rw [hF] at f1
  obtain ⟨f4, f5, -, -⟩ := f1
  have f4 : F.heap.size = T.heap.size + 1 + x.toNatClampNeg := f4
  have f5 : F.heap[T.heap.size]? = some (Jvm.Free.Multi.outerC (gT Γ 11) x.toNatClampNeg T.heap.size x.toNatClampNeg) := f5
  rw [hsz] at f2 f3 f4 f5 step
  rw [outerC_eq _ _ _ _ (Nat.le_refl _)] at f5
  rw [hT] at f2
  have hr : jHR Γ (pmul n K A Lg G x.toNatClampNeg y.toNatClampNeg) F.heap := by
    refine ⟨by rw [f4]; show _ = _ + (n + 1 + _); omega, fun b hb => ?_, fun q hq => (f2 q (by omega)).trans (hHR.2.2 q hq)⟩
    have hb' : b < n + 1 + x.toNatClampNeg := hb
    by_cases e1 : b = n
    · subst e1
      unfold pAt
      rw [show (pmul b K A Lg G x.toNatClampNeg y.toNatClampNeg).2.1 b = .inr (11, x.toNatClampNeg) from if_pos rfl]
      refine ⟨show 11 < jTy.length by decide, ?_⟩
      rw [f5]
      congr 2
      funext j
      show _ = pv Γ (pmulG b G x.toNatClampNeg b j)
      show _ = pv Γ ((if b = b then fun j => if j < x.toNatClampNeg then Value.ref (b + 1 + j) else .null else _) j)
      rw [if_pos rfl]
      by_cases hj : j < x.toNatClampNeg
      · rw [if_pos hj, if_pos hj, pv_lt (by dsimp only at g3; omega)]
        exact congrArg Value.ref (show ((gH Γ).size + b + 1 + j : Nat) = (gH Γ).size + (b + 1 + j) by omega)
      · rw [if_neg hj, if_neg hj]; rfl
    · by_cases e2 : n < b
      · have hc2 : n < b ∧ b ≤ n + x.toNatClampNeg := ⟨e2, by omega⟩
        unfold pAt
        rw [show (pmul n K A Lg G x.toNatClampNeg y.toNatClampNeg).2.1 b = .inr (0, y.toNatClampNeg) from (if_neg e1).trans (if_pos hc2)]
        refine ⟨show 0 < jTy.length by decide, ?_⟩
        have h3 := f3 (b - n - 1) (by omega)
        rw [show (gH Γ).size + n + 1 + (b - n - 1) = (gH Γ).size + b by omega] at h3
        rw [h3]
        show some ({ cls := gT Γ 0, slots := Array.replicate y.toNatClampNeg (defaultValue .int), vm := .none } : Cell) = _
        rw [arrV_new]
        congr 2
        funext j
        show _ = Value.int (pmulA n A x.toNatClampNeg 0 b j)
        show _ = Value.int ((if n ≤ b ∧ b ≤ n + x.toNatClampNeg then fun _ => 0 else A b) j)
        rw [if_pos ⟨by omega, hc2.2⟩]
        rfl
      · have hno : ¬ (n < b ∧ b ≤ n + x.toNatClampNeg) := fun h => e2 h.1
        have hno2 : ¬ (n ≤ b ∧ b ≤ n + x.toNatClampNeg) := fun h => by omega
        exact pAt_kept (hHR.2.1 b (show b < n by omega)) ((if_neg e1).trans (if_neg hno)) (if_neg hno2) (if_neg hno2) ((if_neg e1).trans (if_neg hno)) (f2 _ (by omega))
  have kk := k p e R s m args below meth c F.heap locs (cells + 1 + x.toNatClampNeg) (slots + x.toNatClampNeg + x.toNatClampNeg * y.toNatClampNeg) mc ms lsA hS ⟨hr, hlo, by omega, by omega, by show n + 1 + x.toNatClampNeg + kc' ≤ _; dsimp only at g3; omega⟩ hl
  rw [List.map_cons, pv_lt hn6] at kk
  obtain ⟨t, a1, b1⟩ := kk F rfl X1
  exact ⟨t, step t a1, b1⟩
/-! references stored in arrays -/
/-- the cell that v stands for is an object of the class C -/
def jIs (Γ : jG) (s : State) (H : Heap) (v : Nat) (C : String) : Prop := ∃ cell : Cell, H[gAd Γ v]? = some cell ∧ cell.vm.isStatics = false ∧ s.vm.findClass C = some cell.cls
theorem jIs_in {s : State} {H : Heap} {v ci : Nat} {C : String} {T : u_T} {N : Nat} (hKK : jKK Γ s) (hHR : jHR Γ σ H) (h6 : σ.1 ≤ 1000000) (hv : v < σ.1) (hk : σ.2.1 v = .inl ci) (hc : jCl[ci]? = some (C, T, N)) : jIs Γ s H v C := by
  obtain ⟨cell, q1, q2, q3, q4⟩ := pAt_o hk hc (hHR.2.1 v hv)
  exact ⟨cell, by rw [gAd_lt (by omega)]; exact q1, by rw [q3]; rfl, by rw [q2]; exact (hKK.1.1 ci _ hc).2.1⟩
theorem jIs_ext {s : State} {H : Heap} {i : Nat} (hKK : jKK Γ s) (hHR : jHR Γ σ H) (hi : i < 24) : jIs Γ s H (1000000 + i) "java/lang/String" := by
  obtain ⟨cell, h1, h2, h3, h4⟩ := (hKK.2.2.2.1.1 i hi).1
  refine ⟨cell, ?_, h2, h3⟩
  have e : gAd Γ (1000000 + i) = gX Γ (1000000 + i) := if_neg (by omega)
  rw [e, hHR.2.2 _ (Nat.not_le.mp h4)]
  exact h1
def jAs (C B : String) : Prop := C = B ∨ (C, B) ∈ jNwC
theorem j_asg {s : State} {C B : String} {c b : ClassId} (hKK : jKK Γ s) (h : jAs C B) (hc : s.vm.findClass C = some c) (hb : s.vm.findClass B = some b) : s.vm.assignable c b = true := by
  rcases h with h | h
  · subst h
    cases hc.symm.trans hb
    exact va_asg _ _
  · obtain ⟨c0, t0, f1, f2, f3⟩ := Cond.castable_spec (va_Nw.use (A := #[]) rfl (hKK.2.1.2.1 _ h))
    cases hc.symm.trans f1
    cases hb.symm.trans f2
    exact f3
theorem j_aast {a len t v : Nat} {B C : String} {i : Int32} (ht : jTy[t]? = some (.object B)) (h2 : jTk t = 2) (ha : a < n) (hk : K a = .inr (t, len)) (hin : vp_in i len) (hv6 : v < 2000000) (hIs : ∀ (s : State) (H : Heap), jKK Γ s → jHR Γ (n, K, A, Lg, G) H → n ≤ 1000000 → jIs Γ s H v C) (hAs : jAs C B) (d : decode cc pc = .ok (.aastore, 1)) (k : J Γ own cc L ret nm hh dd kc ks (pc + 1) ls st (n, K, A, Lg, pup G a i.toNatClampNeg (.ref v)) Q) : J Γ own cc L ret nm hh dd kc ks pc ls (.ref v :: .int i :: .ref a :: st) (n, K, A, Lg, G) Q := by
  intro p e R s m args below meth c H locs cells slots mc ms lsA hS hD hl
  have h1 := pAt_a hk (hD.1.2.1 a ha)
  have h9 : n + kc ≤ 1000000 := hD.2.2.2.2
  have h8 : a < n := ha
  obtain ⟨hx, hb, -, -, -, -, hown, hts, -, hKK, -⟩ := id hS
  obtain ⟨cv, r1, r2, r3⟩ := hIs s H hKK hD.1 (by omega)
  rw [List.map_cons, List.map_cons, List.map_cons, pv_lt (k := a) (by omega), pv_lt2 hv6]
  obtain ⟨kA, comp, k1, k2, k3, -⟩ := (hKK.1.2 t _ (jTys_at ht)).2
  obtain ⟨kcomp, hkc, -⟩ := Vm.findClass_spec k3
  obtain ⟨kv, hkv, -⟩ := Vm.findClass_spec r3
  refine W.aast hx hb h1 (fun q h => by cases h) (fun h => by cases h) k1 k2 rfl hkc ⟨fun q => hin (Or.inl q), by rw [arrV_size]; exact j_ix hin⟩ r1 (fun q h => by rw [h] at r2; cases r2) hkv (j_asg hKK hAs r3 k3) rfl rfl d fun H' e1 e2 e3 => ?_
  refine k p e R s m args below meth c H' _ cells slots mc ms lsA hS (j_stA (σ' := (n, K, A, Lg, pup G a i.toNatClampNeg (.ref v))) hD ha hk rfl rfl (fun b hb => ⟨rfl, rfl, pup_ne hb⟩) (fun j => ?_) e1 e2 e3) hl
  rw [h2]
  show pv Γ (pup G a i.toNatClampNeg (.ref v) a j) = if j = i.toNatClampNeg then .ref (gAd Γ v) else pv Γ (G a j)
  rw [pup_at]
  split
  · exact pv_lt2 hv6
  · rfl
/-! casts -/
theorem j_cast {index v : Nat} {B C : String} (hcl : Cond.classLink own index B ∈ lw_all) (hv6 : v < 2000000) (hIs : ∀ (s : State) (H : Heap), jKK Γ s → jHR Γ (n, K, A, Lg, G) H → n ≤ 1000000 → jIs Γ s H v C) (hAs : jAs C B) (d : decode cc pc = .ok (.checkcast index, 3)) (k : J Γ own cc L ret nm hh dd kc ks (pc + 3) ls (.ref v :: st) (n, K, A, Lg, G) Q) : J Γ own cc L ret nm hh dd kc ks pc ls (.ref v :: st) (n, K, A, Lg, G) Q := by
  intro p e R s m args below meth c H locs cells slots mc ms lsA hS hD hl
  have kk := k p e R s m args below meth c H locs cells slots mc ms lsA hS hD hl
  have h9 : n + kc ≤ 1000000 := hD.2.2.2.2
  obtain ⟨hx, hb, -, -, -, -, hown, hts, -, hKK, -⟩ := id hS
  obtain ⟨cell, r1, r2, r3⟩ := hIs s H hKK hD.1 (by omega)
  rw [List.map_cons, pv_lt2 hv6] at kk ⊢
  intro T hT X
  have hpl : e.platform.magicAccessors = ({} : Platform).magicAccessors := by rw [X.admits.platform]
  obtain ⟨c5, hc5, -⟩ := Cond.classLink_spec hown (hts _ hcl) e.platform hpl
  obtain ⟨vm', X', step⟩ := X.checkcastYes hx hown (hts _ hcl) (by rw [hT]; exact r1) r2 hc5 (j_asg hKK hAs r3 hc5) (g := F0 m pc lsA (Value.ref (gAd Γ v) :: st.map (pv Γ))) rfl rfl (by rw [hb]; exact d)
  obtain ⟨t, a1, b1⟩ := kk (T.setVm vm') hT X'
  exact ⟨t, step t a1, b1⟩
theorem j_inst {index v : Nat} {B C : String} (hcl : Cond.classLink own index B ∈ lw_all) (hv6 : v < 2000000) (hIs : ∀ (s : State) (H : Heap), jKK Γ s → jHR Γ (n, K, A, Lg, G) H → n ≤ 1000000 → jIs Γ s H v C) (hAs : jAs C B) (d : decode cc pc = .ok (.instanceof index, 3)) (k : J Γ own cc L ret nm hh dd kc ks (pc + 3) ls (.int 1 :: st) (n, K, A, Lg, G) Q) : J Γ own cc L ret nm hh dd kc ks pc ls (.ref v :: st) (n, K, A, Lg, G) Q := by
  intro p e R s m args below meth c H locs cells slots mc ms lsA hS hD hl
  have kk := k p e R s m args below meth c H locs cells slots mc ms lsA hS hD hl
  have h9 : n + kc ≤ 1000000 := hD.2.2.2.2
  obtain ⟨hx, hb, -, -, -, -, hown, hts, -, hKK, -⟩ := id hS
  obtain ⟨cell, r1, r2, r3⟩ := hIs s H hKK hD.1 (by omega)
  rw [List.map_cons, pv_lt2 hv6]
  intro T hT X
  have hpl : e.platform.magicAccessors = ({} : Platform).magicAccessors := by rw [X.admits.platform]
  obtain ⟨c5, hc5, -⟩ := Cond.classLink_spec hown (hts _ hcl) e.platform hpl
  obtain ⟨vm', X', step⟩ := X.instanceofYes hx hown (hts _ hcl) (by rw [hT]; exact r1) r2 hc5 (j_asg hKK hAs r3 hc5) (g := F0 m pc lsA (Value.ref (gAd Γ v) :: st.map (pv Γ))) rfl rfl (by rw [hb]; exact d)
  obtain ⟨t, a1, b1⟩ := kk (T.setVm vm') hT X'
  exact ⟨t, step t a1, b1⟩
/-! statics, strings of the class files, the script -/
theorem j_gets {index i : Nat} {q : String × String × String × Value} (hq : jZs[i]? = some q) (hl0 : Cond.fieldLink own index q.1 q.2.1 q.2.2.1 ∈ lw_all) (d : decode cc pc = .ok (.getstatic index, 3)) (k : J Γ own cc L ret nm hh dd kc ks (pc + 3) ls (q.2.2.2 :: st) σ Q) : J Γ own cc L ret nm hh dd kc ks pc ls st σ Q := by
  intro p e R s m args below meth c H locs cells slots mc ms lsA hS hD hl
  have kk := k p e R s m args below meth c H locs cells slots mc ms lsA hS hD hl
  obtain ⟨hx, hb, -, -, -, -, hown, hts, -, hKK, -⟩ := id hS
  obtain ⟨cf, kf, fi, f, a, cell, h1, h2, h3, h4, h5, h6, h7, h8⟩ := hKK.2.2.1 q (List.mem_of_getElem? hq)
  exact W.gets hx hb hown (hts _ hl0) h1 h2 h3 h4 (by rw [hD.1.2.2 a (Nat.not_le.mp h8)]; exact h5) (fun e => by rw [e] at h6; cases h6) h7 rfl d kk
theorem j_ldcS {index i : Nat} {tx : String} (hi : i < 24) (hq : jSr[i]? = some (own, index, tx)) (d : decode cc pc = .ok (.ldc index, 2)) (k : J Γ own cc L ret nm hh dd kc ks (pc + 2) ls (.ref (1000000 + i) :: st) σ Q) : J Γ own cc L ret nm hh dd kc ks pc ls st σ Q := by
  intro p e R s m args below meth c H locs cells slots mc ms lsA hS hD hl
  have kk := k p e R s m args below meth c H locs cells slots mc ms lsA hS hD hl
  obtain ⟨hx, hb, -, -, -, -, hown, hts, -, hKK, -⟩ := id hS
  rw [List.map_cons, pv_lt2 (by omega), show gAd Γ (1000000 + i) = gX Γ (1000000 + i) from if_neg (by omega)] at kk
  exact va_ldcS hx hb hown (hKK.2.2.2.2.1 i hi _ hq) d kk
theorem j_ext {s : State} {H : Heap} (hHR : jHR Γ σ H) {a : Nat} {cell : Cell} (h : (gH Γ)[a]? = some cell) : H[a]? = some cell := by
  rw [hHR.2.2 a (Array.getElem?_eq_some_iff.mp h).1]; exact h
/-- the fields value and coder of a class file's string -/
theorem j_xval {index i : Nat} (hi : i < 24) (hl0 : Cond.fieldLink own index "java/lang/String" "value" "[B" ∈ lw_all) (d : decode cc pc = .ok (.getfield index, 3)) (k : J Γ own cc L ret nm hh dd kc ks (pc + 3) ls (.ref (1000100 + i) :: st) σ Q) : J Γ own cc L ret nm hh dd kc ks pc ls (.ref (1000000 + i) :: st) σ Q := by
  intro p e R s m args below meth c H locs cells slots mc ms lsA hS hD hl
  have kk := k p e R s m args below meth c H locs cells slots mc ms lsA hS hD hl
  obtain ⟨hx, hb, -, -, -, -, hown, hts, -, hKK, -⟩ := id hS
  rw [List.map_cons, pv_lt2 (by omega), show gAd Γ (1000100 + i) = gX Γ (1000100 + i) from if_neg (by omega)] at kk
  rw [List.map_cons, pv_lt2 (by omega), show gAd Γ (1000000 + i) = gX Γ (1000000 + i) from if_neg (by omega)]
  obtain ⟨cf, kf, fi, f, cell, h1, h2, h3, h4, h5, h6⟩ := (hKK.2.2.2.1.1 i hi).2.2.1
  exact W.getf hx hb hown (hts _ hl0) h1 h2 (j_ext (s := s) hD.1 h3) h4 (v := .ref (gX Γ (1000100 + i))) h5 rfl rfl d kk
theorem j_xcod {index i : Nat} (hi : i < 24) (hl0 : Cond.fieldLink own index "java/lang/String" "coder" "B" ∈ lw_all) (d : decode cc pc = .ok (.getfield index, 3)) (k : J Γ own cc L ret nm hh dd kc ks (pc + 3) ls (.int 0 :: st) σ Q) : J Γ own cc L ret nm hh dd kc ks pc ls (.ref (1000000 + i) :: st) σ Q := by
  intro p e R s m args below meth c H locs cells slots mc ms lsA hS hD hl
  have kk := k p e R s m args below meth c H locs cells slots mc ms lsA hS hD hl
  obtain ⟨hx, hb, -, -, -, -, hown, hts, -, hKK, -⟩ := id hS
  rw [List.map_cons, pv_lt2 (by omega), show gAd Γ (1000000 + i) = gX Γ (1000000 + i) from if_neg (by omega)]
  obtain ⟨cf, kf, fi, f, cell, h1, h2, h3, h4, h5, h6⟩ := (hKK.2.2.2.1.1 i hi).2.1
  exact W.getf hx hb hown (hts _ hl0) h1 h2 (j_ext (s := s) hD.1 h3) h4 (v := .int 0) h5 rfl rfl d kk
theorem j_xlen {i : Nat} (hi : i < 24) (d : decode cc pc = .ok (.arraylength, 1)) (k : J Γ own cc L ret nm hh dd kc ks (pc + 1) ls (.int (Int32.ofNat (jSl.getD i 0)) :: st) σ Q) : J Γ own cc L ret nm hh dd kc ks pc ls (.ref (1000100 + i) :: st) σ Q := by
  intro p e R s m args below meth c H locs cells slots mc ms lsA hS hD hl
  have kk := k p e R s m args below meth c H locs cells slots mc ms lsA hS hD hl
  obtain ⟨hx, hb, -, -, -, -, hown, hts, -, hKK, -⟩ := id hS
  rw [List.map_cons, pv_lt2 (by omega), show gAd Γ (1000100 + i) = gX Γ (1000100 + i) from if_neg (by omega)]
  obtain ⟨cell, h1, h2, h3, h4, h5, h6, h7⟩ := (hKK.2.2.2.1.1 i hi).2.2.2
  exact W.alen hx hb (j_ext (s := s) hD.1 h1) h2 h5 rfl rfl d kk
theorem j_xbald {i : Nat} {x : Int32} (hi : i < 24) (hin : vp_in x (jSl.getD i 0)) (hsz : ∀ (U : State) (c : Cell), jSl.getD i 0 ≤ c.slots.size → True) (d : decode cc pc = .ok (.baload, 1)) (k : J Γ own cc L ret nm hh dd kc ks (pc + 1) ls (.int ((jSb.getD i []).getD x.toNatClampNeg 0) :: st) σ Q) : J Γ own cc L ret nm hh dd kc ks pc ls (.int x :: .ref (1000100 + i) :: st) σ Q := by
  intro p e R s m args below meth c H locs cells slots mc ms lsA hS hD hl
  have kk := k p e R s m args below meth c H locs cells slots mc ms lsA hS hD hl
  obtain ⟨hx, hb, -, -, -, -, hown, hts, -, hKK, -⟩ := id hS
  rw [List.map_cons, List.map_cons, pv_lt2 (by omega), show gAd Γ (1000100 + i) = gX Γ (1000100 + i) from if_neg (by omega)]
  obtain ⟨cell, h1, h2, h3, h4, h5, h6, h7⟩ := (hKK.2.2.2.1.1 i hi).2.2.2
  exact W.bald (v := .int ((jSb.getD i []).getD x.toNatClampNeg 0)) hx hb (j_ext (s := s) hD.1 h1) h2 h3 (fun h => h.elim (fun q => hin (Or.inl q)) fun q => hin (Or.inr (Nat.le_trans h4 q))) (h6 _ (j_ix hin)) rfl rfl d kk
theorem j_xlen0 (d : decode cc pc = .ok (.arraylength, 1)) (k : J Γ own cc L ret nm hh dd kc ks (pc + 1) ls (.int 0 :: st) σ Q) : J Γ own cc L ret nm hh dd kc ks pc ls (.ref 1000200 :: st) σ Q := by
  intro p e R s m args below meth c H locs cells slots mc ms lsA hS hD hl
  have kk := k p e R s m args below meth c H locs cells slots mc ms lsA hS hD hl
  obtain ⟨hx, hb, -, -, -, -, hown, hts, -, hKK, -⟩ := id hS
  rw [List.map_cons, pv_lt2 (by omega), show gAd Γ 1000200 = gX Γ 1000200 from if_neg (by omega)]
  obtain ⟨cell, h1, h2, h3, h4, h5, h6, h7⟩ := hKK.2.2.2.2.2.1
  exact W.alen (n := 0) hx hb (j_ext (s := s) hD.1 h1) h2 h5 rfl rfl d kk
theorem j_slen (d : decode cc pc = .ok (.arraylength, 1)) (k : J Γ own cc L ret nm hh dd kc ks (pc + 1) ls (.int (Int32.ofNat (gN Γ)) :: st) σ Q) : J Γ own cc L ret nm hh dd kc ks pc ls (.ref 1000201 :: st) σ Q := by
  intro p e R s m args below meth c H locs cells slots mc ms lsA hS hD hl
  have kk := k p e R s m args below meth c H locs cells slots mc ms lsA hS hD hl
  obtain ⟨hx, hb, -, -, -, -, hown, hts, -, hKK, -⟩ := id hS
  rw [List.map_cons, pv_lt2 (by omega), show gAd Γ 1000201 = gX Γ 1000201 from if_neg (by omega)]
  obtain ⟨scr, h1, h2, h3, h4, h5⟩ := hKK.2.2.2.2.2.2.1
  exact W.alen (n := Int32.ofNat (gN Γ)) hx hb (j_ext (s := s) hD.1 h1) h2 (by rw [h4] <;> rfl) rfl rfl d kk
theorem j_sald2 {x : Int32} (hin : vp_in x (gN Γ)) (d : decode cc pc = .ok (.iaload, 1)) (k : J Γ own cc L ret nm hh dd kc ks (pc + 1) ls (.int (gS Γ x.toNatClampNeg) :: st) σ Q) : J Γ own cc L ret nm hh dd kc ks pc ls (.int x :: .ref 1000201 :: st) σ Q := by
  intro p e R s m args below meth c H locs cells slots mc ms lsA hS hD hl
  have kk := k p e R s m args below meth c H locs cells slots mc ms lsA hS hD hl
  obtain ⟨hx, hb, -, -, -, -, hown, hts, -, hKK, -⟩ := id hS
  rw [List.map_cons, List.map_cons, pv_lt2 (by omega), show gAd Γ 1000201 = gX Γ 1000201 from if_neg (by omega)]
  obtain ⟨scr, h1, h2, h3, h4, h5⟩ := hKK.2.2.2.2.2.2.1
  exact W.iald (v := .int (gS Γ x.toNatClampNeg)) hx hb (j_ext (s := s) hD.1 h1) h2 h3 (by rw [h4]; exact hin) (h5 _ (j_ix hin)) rfl rfl d kk
/-! comparing references -/
theorem j_acmpS {x : Nat} {off : Int} {tgt : Nat} (b : Bool) (d : decode cc pc = .ok (.if_acmp (if b then .eq else .ne) off, 3)) (ht : (pc : Int) + off = (tgt : Int)) (hx : x < 2000000) (k : J Γ own cc L ret nm hh dd kc ks (if b then tgt else pc + 3) ls st σ Q) : J Γ own cc L ret nm hh dd kc ks pc ls (.ref x :: .ref x :: st) σ Q := by
  intro p e R s m args below meth c H locs cells slots mc ms lsA hS hD hl
  have kk := k p e R s m args below meth c H locs cells slots mc ms lsA hS hD hl
  rw [List.map_cons, List.map_cons, pv_lt2 hx]
  cases b
  · exact lv_acmp_ne (rx := some (gAd Γ x)) (ry := some (gAd Γ x)) hS.1 hS.2.1 d ht (fun h => absurd rfl h) (fun _ => kk)
  · exact lv_acmp_eq (rx := some (gAd Γ x)) (ry := some (gAd Γ x)) hS.1 hS.2.1 d ht (fun _ => kk) (fun h => absurd rfl h)
theorem j_acmpD {x y : Nat} {off : Int} {tgt : Nat} (b : Bool) (d : decode cc pc = .ok (.if_acmp (if b then .eq else .ne) off, 3)) (ht : (pc : Int) + off = (tgt : Int)) (hx : x < 2000000) (hy : y < 2000000) (hne : (x < 1000000 ∧ y < 1000000 ∧ x ≠ y) ∨ (x < 1000000 ∧ y = 1000200) ∨ (y < 1000000 ∧ x = 1000200)) (k : J Γ own cc L ret nm hh dd kc ks (if b then pc + 3 else tgt) ls st σ Q) : J Γ own cc L ret nm hh dd kc ks pc ls (.ref y :: .ref x :: st) σ Q := by
  intro p e R s m args below meth c H locs cells slots mc ms lsA hS hD hl
  have kk := k p e R s m args below meth c H locs cells slots mc ms lsA hS hD hl
  obtain ⟨-, -, -, -, -, -, hown, hts, -, hKK, -⟩ := id hS
  rw [List.map_cons, List.map_cons, pv_lt2 hx, pv_lt2 hy]
  have e0 : gAd Γ 1000200 = gX Γ 1000200 := if_neg (by omega)
  have hlt := hKK.2.2.2.2.2.2.2.2.1
  have hd : gAd Γ x ≠ gAd Γ y := by
    rcases hne with ⟨h1, h2, h3⟩ | ⟨h1, h2⟩ | ⟨h1, h2⟩
    · rw [gAd_lt h1, gAd_lt h2]; omega
    · subst h2; rw [gAd_lt h1, e0]; omega
    · subst h2; rw [gAd_lt h1, e0]; omega
  cases b
  · exact lv_acmp_ne (rx := some (gAd Γ x)) (ry := some (gAd Γ y)) hS.1 hS.2.1 d ht (fun _ => kk) (fun h => absurd (Option.some.inj h) hd)
  · exact lv_acmp_eq (rx := some (gAd Γ x)) (ry := some (gAd Γ y)) hS.1 hS.2.1 d ht (fun h => absurd (Option.some.inj h) hd) (fun _ => kk)
end JN
