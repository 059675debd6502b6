set_option maxRecDepth 100000
/-! ===== THE PURE STORE: cells by numbers in the order of their making; kinds, ints, longs, references ===== -/
abbrev pKd : Type := Nat ⊕ (Nat × Nat)
abbrev pA : Type := Nat → Nat → Int32
abbrev pL : Type := Nat → Nat → Int64
abbrev pG : Type := Nat → Nat → Value
abbrev pS : Type := Nat × (Nat → pKd) × pA × pL × pG
def pup {α : Type} (A : Nat → Nat → α) (a j : Nat) (v : α) : Nat → Nat → α := fun a' => if a' = a then fun j' => if j' = j then v else A a j' else A a'
def prow {α : Type} (A : Nat → Nat → α) (a : Nat) (f : Nat → α) : Nat → Nat → α := fun a' => if a' = a then f else A a'
def pkup (K : Nat → pKd) (a : Nat) (k : pKd) : Nat → pKd := fun a' => if a' = a then k else K a'
theorem pup_ne {α : Type} {A : Nat → Nat → α} {a j : Nat} {v : α} {b : Nat} (h : b ≠ a) : pup A a j v b = A b := if_neg h
theorem pup_self {α : Type} {A : Nat → Nat → α} {a j : Nat} {v : α} : pup A a j v a = fun j' => if j' = j then v else A a j' := if_pos rfl
theorem prow_ne {α : Type} {A : Nat → Nat → α} {a : Nat} {f : Nat → α} {b : Nat} (h : b ≠ a) : prow A a f b = A b := if_neg h
theorem prow_self {α : Type} {A : Nat → Nat → α} {a : Nat} {f : Nat → α} : prow A a f a = f := if_pos rfl
theorem pkup_ne {K : Nat → pKd} {a : Nat} {k : pKd} {b : Nat} (h : b ≠ a) : pkup K a k b = K b := if_neg h
theorem pkup_self {K : Nat → pKd} {a : Nat} {k : pKd} : pkup K a k a = k := if_pos rfl
/-! the machine's side: launch, classes, slots, array classes, the first heap, external addresses, opaque values -/
abbrev jG : Type := Launch × (Nat → ClassId) × (Nat → Nat → Nat) × (Nat → ClassId) × Heap × (Nat → Nat) × (Nat → Value) × Nat × (Nat → Int32)
abbrev gl (Γ : jG) : Launch := Γ.1
abbrev gC (Γ : jG) : Nat → ClassId := Γ.2.1
abbrev gI (Γ : jG) : Nat → Nat → Nat := Γ.2.2.1
abbrev gT (Γ : jG) : Nat → ClassId := Γ.2.2.2.1
abbrev gH (Γ : jG) : Heap := Γ.2.2.2.2.1
abbrev gX (Γ : jG) : Nat → Nat := Γ.2.2.2.2.2.1
abbrev gO (Γ : jG) : Nat → Value := Γ.2.2.2.2.2.2.1
abbrev gN (Γ : jG) : Nat := Γ.2.2.2.2.2.2.2.1
abbrev gS (Γ : jG) : Nat → Int32 := Γ.2.2.2.2.2.2.2.2
def gAd (Γ : jG) (k : Nat) : Nat := if k < 1000000 then (gH Γ).size + k else gX Γ k
def pv (Γ : jG) (v : Value) : Value := match v with
  | .ref k => if k < 2000000 then .ref (gAd Γ k) else gO Γ k
  | w => w
theorem gAd_lt {Γ : jG} {k : Nat} (h : k < 1000000) : gAd Γ k = (gH Γ).size + k := if_pos h
theorem pv_lt {Γ : jG} {k : Nat} (h : k < 1000000) : pv Γ (.ref k) = .ref ((gH Γ).size + k) := by
  show (if k < 2000000 then Value.ref (gAd Γ k) else gO Γ k) = _
  rw [if_pos (by omega), gAd_lt h]
theorem pv_lt2 {Γ : jG} {k : Nat} (h : k < 2000000) : pv Γ (.ref k) = .ref (gAd Γ k) := if_pos h
def jlv (Γ : jG) (q : Nat × Value) : Nat × Value := (q.1, pv Γ q.2)
/-- what a cell of kind t holds at place j -/
def pVal (Γ : jG) (σ : pS) (k t j : Nat) : Value := if t = 0 then .int (σ.2.2.1 k j) else if t = 1 then .long (σ.2.2.2.1 k j) else pv Γ (σ.2.2.2.2 k j)
def pAt (Γ : jG) (σ : pS) (k : Nat) (H : Heap) : Prop := match σ.2.1 k with
  | .inl ci => ∃ r : vw_C, jCl[ci]? = some r ∧ t_OB ((gH Γ).size + k) (gC Γ ci) r.2.2 (gI Γ ci) H (fun j => pVal Γ σ k (jFk ci j) j)
  | .inr q => q.1 < jTy.length ∧ H[(gH Γ).size + k]? = some (arrV (gT Γ q.1) q.2 (fun j => pVal Γ σ k (jTk q.1) j))
def jHR (Γ : jG) (σ : pS) (H : Heap) : Prop := H.size = (gH Γ).size + σ.1 ∧ (∀ k, k < σ.1 → pAt Γ σ k H) ∧ (∀ q, q < (gH Γ).size → H[q]? = (gH Γ)[q]?)
def jTys (Γ : jG) : List (ClassId × FieldType) := jTy.mapIdx (fun i ty => (gT Γ i, ty))
theorem jTys_at {Γ : jG} {t : Nat} {ty : FieldType} (h : jTy[t]? = some ty) : (jTys Γ)[t]? = some (gT Γ t, ty) := by
  unfold jTys
  rw [List.getElem?_mapIdx, h]
  rfl
theorem pAt_o {Γ : jG} {σ : pS} {k ci : Nat} {H : Heap} {C : String} {T : u_T} {N : Nat} (hk : σ.2.1 k = .inl ci) (hc : jCl[ci]? = some (C, T, N)) (h : pAt Γ σ k H) : t_OB ((gH Γ).size + k) (gC Γ ci) N (gI Γ ci) H (fun j => pVal Γ σ k (jFk ci j) j) := by
  unfold pAt at h
  rw [hk] at h
  obtain ⟨r, h1, h2⟩ := h
  cases Option.some.inj (h1.symm.trans hc)
  exact h2
theorem pAt_a {Γ : jG} {σ : pS} {k t n : Nat} {H : Heap} (hk : σ.2.1 k = .inr (t, n)) (h : pAt Γ σ k H) : H[(gH Γ).size + k]? = some (arrV (gT Γ t) n (fun j => pVal Γ σ k (jTk t) j)) := by
  unfold pAt at h
  rw [hk] at h
  exact h.2
/-- a cell whose row, kind and heap cell stay -/
theorem pAt_kept {Γ : jG} {σ σ' : pS} {k : Nat} {H H' : Heap} (h : pAt Γ σ k H) (hK : σ'.2.1 k = σ.2.1 k) (hA : σ'.2.2.1 k = σ.2.2.1 k) (hL : σ'.2.2.2.1 k = σ.2.2.2.1 k) (hG : σ'.2.2.2.2 k = σ.2.2.2.2 k) (hH : H'[(gH Γ).size + k]? = H[(gH Γ).size + k]?) : pAt Γ σ' k H' := by
  have hv : ∀ t j, pVal Γ σ' k t j = pVal Γ σ k t j := by
    intro t j
    unfold pVal
    rw [hA, hL, hG]
  unfold pAt at h ⊢
  rw [hK]
  cases hq : σ.2.1 k with
  | inl ci =>
    rw [hq] at h
    obtain ⟨r, h1, h2⟩ := h
    refine ⟨r, h1, ?_⟩
    simp only [hv]
    exact h2.kept hH
  | inr q =>
    rw [hq] at h
    refine ⟨h.1, ?_⟩
    simp only [hv]
    rw [hH]
    exact h.2
/-! words of the tables that don't ride in the lists -/
def jPm : MethodName := ⟨"java/lang/AbstractStringBuilder", "ensureCapacityInternal", "(I)V"⟩
theorem jPm_warm {x : MethodName} {s U : State} (hW : s.WarmedH U.vm) (hZ : va_Nw (.privateMethod x) s) : va_Nw (.privateMethod x) U := va_tabs (A := #[]) rfl (rfl : (s.setVm U.vm).vm = U.vm) (by
  have h : (Cond.privateMethod x).before #[] s = true := hZ
  simp only [Cond.before, Cond.holds, Cond.value, State.vm_setVm, arm_named_setVm hW.alike] at h ⊢
  exact h)
def jNw (U : State) : Prop := (∀ q ∈ jNwM, va_Nw (.methodLinkNest q.1 q.2.1 q.2.2.1 q.2.2.2) U) ∧ (∀ q ∈ jNwC, va_Nw (.castable q.1 q.2) U) ∧ (∀ q ∈ jNwD, va_Nw (.declares q) U) ∧ (∀ q ∈ jNwA, va_AO q U) ∧ (Cond.arrayOver (.array .int)).before #[] U = true ∧ va_Nw (.privateMethod jPm) U
theorem jAO_moved {u U : State} (hvm : u.vm.Alike U.vm) (h : (Cond.arrayOver (.array .int)).before #[] u = true) : (Cond.arrayOver (.array .int)).before #[] U = true := by
  simp only [Cond.before, Cond.holds, Cond.value, beq_iff_eq] at h ⊢
  cases hc : u.vm.findClass (FieldType.array .int).toString with
  | none => simp [hc] at h
  | some comp =>
    have f1 : U.vm.findClass (FieldType.array .int).toString = some comp := by rw [hvm.findClass]; exact hc
    simp only [hc, Option.bind_some, Option.bind_eq_some_iff, Option.map_eq_some_iff] at h
    obtain ⟨c, hi, k, hk, hb⟩ := h
    obtain ⟨k', hk', he⟩ := hvm.2.2 _ _ hk
    have hi' : (U.vm.classes.findIdx? fun (x : Class) => match x.kind with | .array component _ => component == comp | _ => false) = some c := by
      have e1 := va_idx_bare U.vm comp
      have e2 := va_idx_bare u.vm comp
      first | rw [hvm.bare_eq] at e1 | rw [← hvm.bare_eq] at e1
      exact e1.symm.trans (e2.trans hi)
    have hkind : k'.kind = k.kind := by rw [he]
    have f2 : ∀ n, U.vm.findClass n = u.vm.findClass n := fun n => hvm.findClass n _
    simp only [f1, Option.bind_some, Option.bind_eq_some_iff, Option.map_eq_some_iff]
    exact ⟨c, hi', k', hk', by rw [hkind]; simp only [f2]; exact hb⟩
theorem jNw.warm {s U : State} (hW : s.WarmedH U.vm) (h : jNw s) : jNw U := ⟨fun q hq => va_Nw.warmM hW (h.1 q hq), fun q hq => va_Nw.warmC hW (h.2.1 q hq), fun q hq => va_Nw.warmD hW (h.2.2.1 q hq), fun q hq => va_AO.moved hW.alike (h.2.2.2.1 q hq), jAO_moved hW.alike h.2.2.2.2.1, jPm_warm hW h.2.2.2.2.2⟩
theorem jNw.blind {s U : State} (hv : s.vm = U.vm) (h : jNw s) : jNw U := by
  have ha : s.vm.Alike U.vm := by rw [hv]; exact Vm.Alike.refl _
  exact ⟨fun q hq => va_Nw.same rfl hv (h.1 q hq), fun q hq => va_Nw.same rfl hv (h.2.1 q hq), fun q hq => va_Nw.same rfl hv (h.2.2.1 q hq), fun q hq => va_AO.moved ha (h.2.2.2.1 q hq), jAO_moved ha h.2.2.2.2.1, va_Nw.same rfl hv h.2.2.2.2.2⟩
/-! what the outside holds: statics, the class files' strings, opaque references, the script -/
def jXX (Γ : jG) (U : State) : Prop :=
  (∀ q ∈ jZs, va_Z q.1 q.2.1 q.2.2.1 (pv Γ q.2.2.2) (fun a => (gH Γ).size ≤ a) U (gH Γ)) ∧
  vk_S 24 jSl jSb (fun i => gX Γ (1000000 + i)) (fun i => gX Γ (1000100 + i)) (fun a => (gH Γ).size ≤ a) U (gH Γ) ∧
  (∀ i, i < 24 → ∀ q, jSr[i]? = some q → vk_R q.1 q.2.1 q.2.2 (gX Γ (1000000 + i)) U) ∧
  va_T (.object "java/lang/Object") (gX Γ 1000200) 0 (fun _ => .null) (fun a => (gH Γ).size ≤ a) U (gH Γ) ∧
  va_X (gX Γ 1000201) (gN Γ) (gS Γ) U (gH Γ) ∧ gX Γ 1000201 < (gH Γ).size ∧ gX Γ 1000200 < (gH Γ).size ∧
  (∀ k, gO Γ k = .null ∨ ∃ a, gO Γ k = .ref a)
theorem jXX.moved {Γ : jG} {u U : State} (hW : u.WarmedH U.vm) (h : jXX Γ u) : jXX Γ U := by
  obtain ⟨h1, h2, h3, h4, h5, h6, h7, h8⟩ := h
  exact ⟨fun q hq => (h1 q hq).moved hW.alike, h2.moved hW.alike, fun i hi q hq => vk_R.warm hW (h3 i hi q hq), h4.moved hW.alike, h5.moved hW.alike, h6, h7, h8⟩
theorem jXX.blind {Γ : jG} {u U : State} (hv : u.vm = U.vm) (h : jXX Γ u) : jXX Γ U := by
  obtain ⟨h1, h2, h3, h4, h5, h6, h7, h8⟩ := h
  have ha : u.vm.Alike U.vm := by rw [hv]; exact Vm.Alike.refl _
  exact ⟨fun q hq => (h1 q hq).moved ha, h2.moved ha, fun i hi q hq => vk_R.same hv.symm (h3 i hi q hq), h4.moved ha, h5.moved ha, h6, h7, h8⟩
def jKK (Γ : jG) (U : State) : Prop := va_K (gC Γ, gI Γ) jCl (jTys Γ) U ∧ jNw U ∧ jXX Γ U
theorem jKK.warm {Γ : jG} {s U : State} (hW : s.WarmedH U.vm) (h : jKK Γ s) : jKK Γ U := ⟨va_K.moved hW.alike h.1, h.2.1.warm hW, h.2.2.moved hW⟩
theorem jKK.blind {Γ : jG} {s U : State} (hv : s.vm = U.vm) (h : jKK Γ s) : jKK Γ U := ⟨va_K.moved (by rw [hv]; exact Vm.Alike.refl _) h.1, h.2.1.blind hv, h.2.2.blind hv⟩
/-! ===== ENDS AND CONTRACTS: an outcome is a value (or none) returned, or a cell thrown ===== -/
abbrev jO : Type := Option Value ⊕ Nat
def jQo (Γ : jG) (Q : jO → pS → Prop) (o : Outcome) (t : State) : Prop :=
  (∃ (v : Option Value) (σ : pS), o = .returned (v.map (pv Γ)) ∧ Q (.inl v) σ ∧ jHR Γ σ t.heap) ∨
  (∃ (k : Nat) (σ : pS), o = .threw ((gH Γ).size + k) ∧ Q (.inr k) σ ∧ jHR Γ σ t.heap ∧ k < σ.1 ∧ σ.2.1 k = .inl 1)
def jFin (Γ : jG) (Q : jO → pS → Prop) (mc ms : Nat) (st : State) (o : Outcome) (t : State) : Prop :=
  jQo Γ Q o t ∧ st.WarmedH t.vm ∧ ∃ L : List Loc, st.sameButNew ({ t with vm := st.vm } : State) L mc ms ∧ ∀ z ∈ L, (gH Γ).size ≤ z.base
def jMQ (Γ : jG) (Q : jO → pS → Prop) (mc ms : Nat) (below : List Frame) (s : State) : State → Prop := fun t => ∃ o, t.status = .running ∧ Ended t below o ∧ jFin Γ Q mc ms s o t
def jPc (Γ : jG) (kc : Nat) (vs : List Value) (σ : pS) : Array Value → State → Prop := fun a U => a = (vs.map (pv Γ)).toArray ∧ jHR Γ σ U.heap ∧ jKK Γ U ∧ σ.1 + kc ≤ 1000000
theorem jPc_blind {Γ : jG} {kc : Nat} {vs : List Value} {σ : pS} : FrameBlind (jPc Γ kc vs σ) := by
  intro a U g mk h
  obtain ⟨h1, h2, h3, h4⟩ := h
  exact ⟨h1, h2, h3.blind rfl, h4⟩
abbrev jRm (dd kc ks : Nat) : Room := { frames := dd, cells := kc, slots := ks, locals := 64 * dd }
def jMetW (Γ : jG) (y : MethodName) (ws : List Cond) (dd kc ks : Nat) (vs : List Value) (σ : pS) (Q : jO → pS → Prop) : Prop :=
  MetFree (gl Γ) y (headSpec ws (jRm dd kc ks)) (jPc Γ kc vs σ) (fun _ _ _ _ _ => True) (fun _ st o t => jFin Γ Q kc ks st o t)
/-- the contract of y at the store σ -/
def jMet (Γ : jG) (y : MethodName) (cc : ByteArray) (L : Nat) (ret : Option FieldType) (hh : List (Nat × Nat × Nat × Nat)) (dd kc ks : Nat) (vs : List Value) (σ : pS) (Q : jO → pS → Prop) : Prop :=
  jMetW Γ y (if hh = [] then ws_ y cc L ret else wsW_ y cc L ret hh) dd kc ks vs σ Q
/-! ===== THE JUDGEMENT ===== -/
def jSt (Γ : jG) (own : String) (cc : ByteArray) (L : Nat) (ret : Option FieldType) (nm : String) (hh : List (Nat × Nat × Nat × Nat)) (dd : Nat) (p : Program) (R : Room) (s : State) (m : MethodId) (args : Array Value) (meth : Method) (c : Code) (mc ms : Nat) : Prop :=
  p.tables.exec = Jvm.exec ∧ c.code = cc ∧ meth.sig.returnType = ret ∧ meth.locks = false ∧ c.maxLocals = L ∧ meth.name = nm ∧ s.vm.findClass own = some m.cls ∧ (∀ w ∈ lw_all, w.before args s = true) ∧
  c.exceptionTable.toList = tableOf hh ∧ jKK Γ s ∧ (gH Γ).size ≤ s.heap.size ∧ dd ≤ R.frames ∧ 64 * dd ≤ R.locals ∧ mc ≤ R.cells ∧ ms ≤ R.slots
def jDy (Γ : jG) (kc ks : Nat) (σ : pS) (H : Heap) (locs : List Loc) (cells slots mc ms : Nat) : Prop :=
  jHR Γ σ H ∧ (∀ z ∈ locs, (gH Γ).size ≤ z.base) ∧ cells + kc ≤ mc ∧ slots + ks ≤ ms ∧ σ.1 + kc ≤ 1000000
def J (Γ : jG) (own : String) (cc : ByteArray) (L : Nat) (ret : Option FieldType) (nm : String) (hh : List (Nat × Nat × Nat × Nat)) (dd kc ks : Nat) (pc : Nat) (ls : List (Nat × Value)) (st : List Value) (σ : pS) (Q : jO → pS → Prop) : Prop :=
  ∀ (p : Program) (e : Env) (R : Room) (s : State) (m : MethodId) (args : Array Value) (below : List Frame) (meth : Method) (c : Code) (H : Heap) (locs : List Loc) (cells slots mc ms : Nat) (lsA : Array Slot),
    jSt Γ own cc L ret nm hh dd p R s m args meth c mc ms → jDy Γ kc ks σ H locs cells slots mc ms → lv_has lsA L (ls.map (jlv Γ)) →
    W p (gl Γ) e R s m args below meth c H locs cells slots (jMQ Γ Q mc ms below s) (F0 m pc lsA (st.map (pv Γ)))
section JR
variable {Γ : jG} {own : String} {cc : ByteArray} {L : Nat} {ret : Option FieldType} {nm : String} {hh : List (Nat × Nat × Nat × Nat)} {dd kc ks pc : Nat} {ls : List (Nat × Value)} {st : List Value} {σ : pS} {Q : jO → pS → Prop}
theorem j_lv {lsA : Array Slot} {i n : Nat} {v : Value} (hl : lv_has lsA L (ls.map (jlv Γ))) (h : ls[i]? = some (n, v)) : lsA[n]? = some (.val (pv Γ v)) := by
  refine lv_at hl i ?_
  rw [List.getElem?_map, h]
  rfl
theorem j_iconst {n : Int} {v : Int32} (d : decode cc pc = .ok (.iconst n, 1)) (hv : Int32.ofInt n = v) (k : J Γ own cc L ret nm hh dd kc ks (pc + 1) ls (.int v :: st) σ Q) : J Γ own cc L ret nm hh dd kc ks pc ls st σ Q := by
  intro p e R s m args below meth c H locs cells slots mc ms lsA hS hD hl
  exact lv_iconst hS.1 hS.2.1 d hv (k p e R s m args below meth c H locs cells slots mc ms lsA hS hD hl)
theorem j_bipush {n : Int} {v : Int32} (d : decode cc pc = .ok (.bipush n, 2)) (hv : (Int8.ofInt n).toInt32 = v) (k : J Γ own cc L ret nm hh dd kc ks (pc + 2) ls (.int v :: st) σ Q) : J Γ own cc L ret nm hh dd kc ks pc ls st σ Q := by
  intro p e R s m args below meth c H locs cells slots mc ms lsA hS hD hl
  exact lv_bipush hS.1 hS.2.1 d hv (k p e R s m args below meth c H locs cells slots mc ms lsA hS hD hl)
theorem j_sipush {n : Int} {v : Int32} (d : decode cc pc = .ok (.sipush n, 3)) (hv : (Int16.ofInt n).toInt32 = v) (k : J Γ own cc L ret nm hh dd kc ks (pc + 3) ls (.int v :: st) σ Q) : J Γ own cc L ret nm hh dd kc ks pc ls st σ Q := by
  intro p e R s m args below meth c H locs cells slots mc ms lsA hS hD hl
  exact lv_sipush hS.1 hS.2.1 d hv (k p e R s m args below meth c H locs cells slots mc ms lsA hS hD hl)
theorem j_lconst {n : Fin 2} {v : Int64} (d : decode cc pc = .ok (.lconst n, 1)) (hv : Int64.ofNat (n : Nat) = v) (k : J Γ own cc L ret nm hh dd kc ks (pc + 1) ls (.long v :: st) σ Q) : J Γ own cc L ret nm hh dd kc ks pc ls st σ Q := by
  intro p e R s m args below meth c H locs cells slots mc ms lsA hS hD hl
  exact lv_lconst hS.1 hS.2.1 d hv (k p e R s m args below meth c H locs cells slots mc ms lsA hS hD hl)
theorem j_null (d : decode cc pc = .ok (.aconst_null, 1)) (k : J Γ own cc L ret nm hh dd kc ks (pc + 1) ls (.null :: st) σ Q) : J Γ own cc L ret nm hh dd kc ks pc ls st σ Q := by
  intro p e R s m args below meth c H locs cells slots mc ms lsA hS hD hl
  exact lv_null hS.1 hS.2.1 d (k p e R s m args below meth c H locs cells slots mc ms lsA hS hD hl)
theorem j_ldc {i : Nat} {v : Int32} (hc : Cond.constant own i v ∈ lw_all) (d : decode cc pc = .ok (.ldc i, 2)) (k : J Γ own cc L ret nm hh dd kc ks (pc + 2) ls (.int v :: st) σ Q) : J Γ own cc L ret nm hh dd kc ks pc ls st σ Q := by
  intro p e R s m args below meth c H locs cells slots mc ms lsA hS hD hl
  exact lv_ldc hS.1 hS.2.1 hS.2.2.2.2.2.2.1 (hS.2.2.2.2.2.2.2.1 _ hc) d (k p e R s m args below meth c H locs cells slots mc ms lsA hS hD hl)
theorem j_ldc2 {i : Nat} {v : Int64} (hc : Cond.constantLong own i v ∈ lw_all) (d : decode cc pc = .ok (.ldc2_w i, 3)) (k : J Γ own cc L ret nm hh dd kc ks (pc + 3) ls (.long v :: st) σ Q) : J Γ own cc L ret nm hh dd kc ks pc ls st σ Q := by
  intro p e R s m args below meth c H locs cells slots mc ms lsA hS hD hl
  exact lv_ldc2 hS.1 hS.2.1 hS.2.2.2.2.2.2.1 (hS.2.2.2.2.2.2.2.1 _ hc) d (k p e R s m args below meth c H locs cells slots mc ms lsA hS hD hl)
theorem j_iload_n {n : Fin 4} {x : Int32} (i : Nat) (h : ls[i]? = some ((n : Nat), .int x)) (d : decode cc pc = .ok (.iload_n n, 1)) (k : J Γ own cc L ret nm hh dd kc ks (pc + 1) ls (.int x :: st) σ Q) : J Γ own cc L ret nm hh dd kc ks pc ls st σ Q := by
  intro p e R s m args below meth c H locs cells slots mc ms lsA hS hD hl
  exact lv_iload_n hS.1 hS.2.1 d rfl (j_lv hl h) (k p e R s m args below meth c H locs cells slots mc ms lsA hS hD hl)
theorem j_iload {n : Nat} {x : Int32} (i : Nat) (h : ls[i]? = some (n, .int x)) (d : decode cc pc = .ok (.iload n, 2)) (k : J Γ own cc L ret nm hh dd kc ks (pc + 2) ls (.int x :: st) σ Q) : J Γ own cc L ret nm hh dd kc ks pc ls st σ Q := by
  intro p e R s m args below meth c H locs cells slots mc ms lsA hS hD hl
  exact lv_iload hS.1 hS.2.1 d (j_lv hl h) (k p e R s m args below meth c H locs cells slots mc ms lsA hS hD hl)
theorem j_lload_n {n : Fin 4} {x : Int64} (i : Nat) (h : ls[i]? = some ((n : Nat), .long x)) (d : decode cc pc = .ok (.lload_n n, 1)) (k : J Γ own cc L ret nm hh dd kc ks (pc + 1) ls (.long x :: st) σ Q) : J Γ own cc L ret nm hh dd kc ks pc ls st σ Q := by
  intro p e R s m args below meth c H locs cells slots mc ms lsA hS hD hl
  exact lv_lload_n hS.1 hS.2.1 d rfl (j_lv hl h) (k p e R s m args below meth c H locs cells slots mc ms lsA hS hD hl)
theorem j_lload {n : Nat} {x : Int64} (i : Nat) (h : ls[i]? = some (n, .long x)) (d : decode cc pc = .ok (.lload n, 2)) (k : J Γ own cc L ret nm hh dd kc ks (pc + 2) ls (.long x :: st) σ Q) : J Γ own cc L ret nm hh dd kc ks pc ls st σ Q := by
  intro p e R s m args below meth c H locs cells slots mc ms lsA hS hD hl
  exact lv_lload hS.1 hS.2.1 d (j_lv hl h) (k p e R s m args below meth c H locs cells slots mc ms lsA hS hD hl)
theorem j_rf {p : Program} {R : Room} {s : State} {m : MethodId} {args : Array Value} {meth : Method} {c : Code} {mc ms : Nat} (hS : jSt Γ own cc L ret nm hh dd p R s m args meth c mc ms) (x : Nat) : pv Γ (.ref x) = .null ∨ ∃ a, pv Γ (.ref x) = .ref a := by
  show (if x < 2000000 then Value.ref (gAd Γ x) else gO Γ x) = .null ∨ ∃ a, (if x < 2000000 then Value.ref (gAd Γ x) else gO Γ x) = .ref a
  by_cases h : x < 2000000
  · rw [if_pos h]; exact Or.inr ⟨_, rfl⟩
  · rw [if_neg h]; exact hS.2.2.2.2.2.2.2.2.2.1.2.2.2.2.2.2.2.2.2 x
theorem j_aload_n {n : Fin 4} {x : Nat} (i : Nat) (h : ls[i]? = some ((n : Nat), .ref x)) (d : decode cc pc = .ok (.aload_n n, 1)) (k : J Γ own cc L ret nm hh dd kc ks (pc + 1) ls (.ref x :: st) σ Q) : J Γ own cc L ret nm hh dd kc ks pc ls st σ Q := by
  intro p e R s m args below meth c H locs cells slots mc ms lsA hS hD hl
  have kk := k p e R s m args below meth c H locs cells slots mc ms lsA hS hD hl
  have h1 := j_lv hl h
  rw [List.map_cons] at kk
  rcases j_rf hS x with h2 | ⟨a, h2⟩
  · rw [h2] at h1 kk; exact lv_aload_nN hS.1 hS.2.1 d rfl h1 kk
  · rw [h2] at h1 kk; exact lv_aload_n hS.1 hS.2.1 d rfl h1 kk
theorem j_aload_nN {n : Fin 4} (i : Nat) (h : ls[i]? = some ((n : Nat), .null)) (d : decode cc pc = .ok (.aload_n n, 1)) (k : J Γ own cc L ret nm hh dd kc ks (pc + 1) ls (.null :: st) σ Q) : J Γ own cc L ret nm hh dd kc ks pc ls st σ Q := by
  intro p e R s m args below meth c H locs cells slots mc ms lsA hS hD hl
  exact lv_aload_nN hS.1 hS.2.1 d rfl (j_lv hl h) (k p e R s m args below meth c H locs cells slots mc ms lsA hS hD hl)
theorem j_aload {n : Nat} {x : Nat} (i : Nat) (h : ls[i]? = some (n, .ref x)) (d : decode cc pc = .ok (.aload n, 2)) (k : J Γ own cc L ret nm hh dd kc ks (pc + 2) ls (.ref x :: st) σ Q) : J Γ own cc L ret nm hh dd kc ks pc ls st σ Q := by
  intro p e R s m args below meth c H locs cells slots mc ms lsA hS hD hl
  have kk := k p e R s m args below meth c H locs cells slots mc ms lsA hS hD hl
  have h1 := j_lv hl h
  rw [List.map_cons] at kk
  rcases j_rf hS x with h2 | ⟨a, h2⟩
  · rw [h2] at h1 kk; exact lv_aloadN hS.1 hS.2.1 d h1 kk
  · rw [h2] at h1 kk; exact lv_aload hS.1 hS.2.1 d h1 kk
theorem j_aloadN {n : Nat} (i : Nat) (h : ls[i]? = some (n, .null)) (d : decode cc pc = .ok (.aload n, 2)) (k : J Γ own cc L ret nm hh dd kc ks (pc + 2) ls (.null :: st) σ Q) : J Γ own cc L ret nm hh dd kc ks pc ls st σ Q := by
  intro p e R s m args below meth c H locs cells slots mc ms lsA hS hD hl
  exact lv_aloadN hS.1 hS.2.1 d (j_lv hl h) (k p e R s m args below meth c H locs cells slots mc ms lsA hS hD hl)
def jst1 (i : Nat) (v : Value) (ls : List (Nat × Value)) : List (Nat × Value) := (i, v) :: ls.filter (fun q => !(q.1 == i) && !(q.1 + 1 == i && q.2.category == 2))
def jst2 (i : Nat) (v : Value) (ls : List (Nat × Value)) : List (Nat × Value) := (i, v) :: ls.filter (fun q => !(q.1 == i) && (!(q.1 == i + 1) && !(q.1 + 1 == i && q.2.category == 2)))
theorem j_cat {p : Program} {R : Room} {s : State} {m : MethodId} {args : Array Value} {meth : Method} {c : Code} {mc ms : Nat} (hS : jSt Γ own cc L ret nm hh dd p R s m args meth c mc ms) (v : Value) : (pv Γ v).category = v.category := by
  cases v with
  | ref x => rcases j_rf hS x with h | ⟨a, h⟩ <;> rw [h] <;> rfl
  | _ => rfl
theorem j_cats {p : Program} {R : Room} {s : State} {m : MethodId} {args : Array Value} {meth : Method} {c : Code} {mc ms : Nat} (hS : jSt Γ own cc L ret nm hh dd p R s m args meth c mc ms) (st : List Value) : ((st.map (pv Γ)).map fun v => v.category) = st.map fun v => v.category := by
  rw [List.map_map]
  exact List.map_congr_left fun v _ => j_cat hS v
theorem j_st1 {p : Program} {R : Room} {s : State} {m : MethodId} {args : Array Value} {meth : Method} {c : Code} {mc ms : Nat} (hS : jSt Γ own cc L ret nm hh dd p R s m args meth c mc ms) (i : Nat) (v : Value) (ls : List (Nat × Value)) : (i, pv Γ v) :: (ls.map (jlv Γ)).filter (fun q => !(q.1 == i) && !(q.1 + 1 == i && q.2.category == 2)) = (jst1 i v ls).map (jlv Γ) := by
  unfold jst1
  rw [List.map_cons, List.filter_map]
  show _ :: _ = _ :: _
  congr 2
  apply List.filter_congr
  intro q _
  show (!(q.1 == i) && !(q.1 + 1 == i && (pv Γ q.2).category == 2)) = _
  rw [j_cat hS]
theorem j_st2 {p : Program} {R : Room} {s : State} {m : MethodId} {args : Array Value} {meth : Method} {c : Code} {mc ms : Nat} (hS : jSt Γ own cc L ret nm hh dd p R s m args meth c mc ms) (i : Nat) (v : Value) (ls : List (Nat × Value)) : (i, pv Γ v) :: (ls.map (jlv Γ)).filter (fun q => !(q.1 == i) && (!(q.1 == i + 1) && !(q.1 + 1 == i && q.2.category == 2))) = (jst2 i v ls).map (jlv Γ) := by
  unfold jst2
  rw [List.map_cons, List.filter_map]
  show _ :: _ = _ :: _
  congr 2
  apply List.filter_congr
  intro q _
  show (!(q.1 == i) && (!(q.1 == i + 1) && !(q.1 + 1 == i && (pv Γ q.2).category == 2))) = _
  rw [j_cat hS]
theorem j_istore_n {n : Fin 4} {x : Int32} {ls1 : List (Nat × Value)} (hn : (n : Nat) < L) (h : jst1 (n : Nat) (.int x) ls = ls1) (d : decode cc pc = .ok (.istore_n n, 1)) (k : J Γ own cc L ret nm hh dd kc ks (pc + 1) ls1 st σ Q) : J Γ own cc L ret nm hh dd kc ks pc ls (.int x :: st) σ Q := by
  intro p e R s m args below meth c H locs cells slots mc ms lsA hS hD hl
  subst h
  exact lv_istore_n hS.1 hS.2.1 d rfl hl hn (j_st1 hS (n : Nat) (.int x) ls) fun ls' h' => k p e R s m args below meth c H locs cells slots mc ms ls' hS hD h'
theorem j_lstore_n {n : Fin 4} {x : Int64} {ls1 : List (Nat × Value)} (hn : (n : Nat) + 1 < L) (h : jst2 (n : Nat) (.long x) ls = ls1) (d : decode cc pc = .ok (.lstore_n n, 1)) (k : J Γ own cc L ret nm hh dd kc ks (pc + 1) ls1 st σ Q) : J Γ own cc L ret nm hh dd kc ks pc ls (.long x :: st) σ Q := by
  intro p e R s m args below meth c H locs cells slots mc ms lsA hS hD hl
  subst h
  exact lv_lstore_n hS.1 hS.2.1 d rfl hl hn (j_st2 hS (n : Nat) (.long x) ls) fun ls' h' => k p e R s m args below meth c H locs cells slots mc ms ls' hS hD h'
theorem j_astore_n {n : Fin 4} {x : Nat} {ls1 : List (Nat × Value)} (hn : (n : Nat) < L) (h : jst1 (n : Nat) (.ref x) ls = ls1) (d : decode cc pc = .ok (.astore_n n, 1)) (k : J Γ own cc L ret nm hh dd kc ks (pc + 1) ls1 st σ Q) : J Γ own cc L ret nm hh dd kc ks pc ls (.ref x :: st) σ Q := by
  intro p e R s m args below meth c H locs cells slots mc ms lsA hS hD hl
  subst h
  have e1 := j_st1 hS (n : Nat) (.ref x) ls
  rw [List.map_cons]
  rcases j_rf hS x with h2 | ⟨a, h2⟩
  · rw [h2] at e1 ⊢; exact lv_astore_nN hS.1 hS.2.1 d rfl hl hn e1 fun ls' h' => k p e R s m args below meth c H locs cells slots mc ms ls' hS hD h'
  · rw [h2] at e1 ⊢; exact lv_astore_n hS.1 hS.2.1 d rfl hl hn e1 fun ls' h' => k p e R s m args below meth c H locs cells slots mc ms ls' hS hD h'
theorem j_istore {n : Nat} {x : Int32} {ls1 : List (Nat × Value)} (hn : n < L) (h : jst1 n (.int x) ls = ls1) (d : decode cc pc = .ok (.istore n, 2)) (k : J Γ own cc L ret nm hh dd kc ks (pc + 2) ls1 st σ Q) : J Γ own cc L ret nm hh dd kc ks pc ls (.int x :: st) σ Q := by
  intro p e R s m args below meth c H locs cells slots mc ms lsA hS hD hl
  subst h
  exact lv_istore hS.1 hS.2.1 d hl hn (j_st1 hS n (.int x) ls) fun ls' h' => k p e R s m args below meth c H locs cells slots mc ms ls' hS hD h'
theorem j_lstore {n : Nat} {x : Int64} {ls1 : List (Nat × Value)} (hn : n + 1 < L) (h : jst2 n (.long x) ls = ls1) (d : decode cc pc = .ok (.lstore n, 2)) (k : J Γ own cc L ret nm hh dd kc ks (pc + 2) ls1 st σ Q) : J Γ own cc L ret nm hh dd kc ks pc ls (.long x :: st) σ Q := by
  intro p e R s m args below meth c H locs cells slots mc ms lsA hS hD hl
  subst h
  exact lv_lstore hS.1 hS.2.1 d hl hn (j_st2 hS n (.long x) ls) fun ls' h' => k p e R s m args below meth c H locs cells slots mc ms ls' hS hD h'
theorem j_astore {n : Nat} {x : Nat} {ls1 : List (Nat × Value)} (hn : n < L) (h : jst1 n (.ref x) ls = ls1) (d : decode cc pc = .ok (.astore n, 2)) (k : J Γ own cc L ret nm hh dd kc ks (pc + 2) ls1 st σ Q) : J Γ own cc L ret nm hh dd kc ks pc ls (.ref x :: st) σ Q := by
  intro p e R s m args below meth c H locs cells slots mc ms lsA hS hD hl
  subst h
  have e1 := j_st1 hS n (.ref x) ls
  rw [List.map_cons]
  rcases j_rf hS x with h2 | ⟨a, h2⟩
  · rw [h2] at e1 ⊢; exact lv_astoreN hS.1 hS.2.1 d hl hn e1 fun ls' h' => k p e R s m args below meth c H locs cells slots mc ms ls' hS hD h'
  · rw [h2] at e1 ⊢; exact lv_astore hS.1 hS.2.1 d hl hn e1 fun ls' h' => k p e R s m args below meth c H locs cells slots mc ms ls' hS hD h'
theorem j_iinc {n : Nat} {w : Int} {x v : Int32} {ls1 : List (Nat × Value)} (i : Nat) (hi : ls[i]? = some (n, .int x)) (hv : x + Int32.ofInt w = v) (hn : n < L) (h : jst1 n (.int v) ls = ls1) (d : decode cc pc = .ok (.iinc n w, 3)) (k : J Γ own cc L ret nm hh dd kc ks (pc + 3) ls1 st σ Q) : J Γ own cc L ret nm hh dd kc ks pc ls st σ Q := by
  intro p e R s m args below meth c H locs cells slots mc ms lsA hS hD hl
  subst h
  exact lv_iinc hS.1 hS.2.1 d hl (k := i) (by rw [List.getElem?_map, hi]; rfl) hv hn (j_st1 hS n (.int v) ls) fun ls' h' => k p e R s m args below meth c H locs cells slots mc ms ls' hS hD h'
theorem j_iadd {x y : Int32}  (d : decode cc pc = .ok (.iadd, 1)) (k : J Γ own cc L ret nm hh dd kc ks (pc + 1) ls (.int (x + y) :: st) σ Q) : J Γ own cc L ret nm hh dd kc ks pc ls (.int y :: .int x :: st) σ Q := by
  intro p e R s m args below meth c H locs cells slots mc ms lsA hS hD hl
  exact lv_iadd hS.1 hS.2.1 d  (k p e R s m args below meth c H locs cells slots mc ms lsA hS hD hl)
theorem j_isub {x y : Int32}  (d : decode cc pc = .ok (.isub, 1)) (k : J Γ own cc L ret nm hh dd kc ks (pc + 1) ls (.int (x - y) :: st) σ Q) : J Γ own cc L ret nm hh dd kc ks pc ls (.int y :: .int x :: st) σ Q := by
  intro p e R s m args below meth c H locs cells slots mc ms lsA hS hD hl
  exact lv_isub hS.1 hS.2.1 d  (k p e R s m args below meth c H locs cells slots mc ms lsA hS hD hl)
theorem j_imul {x y : Int32}  (d : decode cc pc = .ok (.imul, 1)) (k : J Γ own cc L ret nm hh dd kc ks (pc + 1) ls (.int (x * y) :: st) σ Q) : J Γ own cc L ret nm hh dd kc ks pc ls (.int y :: .int x :: st) σ Q := by
  intro p e R s m args below meth c H locs cells slots mc ms lsA hS hD hl
  exact lv_imul hS.1 hS.2.1 d  (k p e R s m args below meth c H locs cells slots mc ms lsA hS hD hl)
theorem j_iand {x y : Int32}  (d : decode cc pc = .ok (.iand, 1)) (k : J Γ own cc L ret nm hh dd kc ks (pc + 1) ls (.int (x &&& y) :: st) σ Q) : J Γ own cc L ret nm hh dd kc ks pc ls (.int y :: .int x :: st) σ Q := by
  intro p e R s m args below meth c H locs cells slots mc ms lsA hS hD hl
  exact lv_iand hS.1 hS.2.1 d  (k p e R s m args below meth c H locs cells slots mc ms lsA hS hD hl)
theorem j_ior {x y : Int32}  (d : decode cc pc = .ok (.ior, 1)) (k : J Γ own cc L ret nm hh dd kc ks (pc + 1) ls (.int (x ||| y) :: st) σ Q) : J Γ own cc L ret nm hh dd kc ks pc ls (.int y :: .int x :: st) σ Q := by
  intro p e R s m args below meth c H locs cells slots mc ms lsA hS hD hl
  exact lv_ior hS.1 hS.2.1 d  (k p e R s m args below meth c H locs cells slots mc ms lsA hS hD hl)
theorem j_ixor {x y : Int32}  (d : decode cc pc = .ok (.ixor, 1)) (k : J Γ own cc L ret nm hh dd kc ks (pc + 1) ls (.int (x ^^^ y) :: st) σ Q) : J Γ own cc L ret nm hh dd kc ks pc ls (.int y :: .int x :: st) σ Q := by
  intro p e R s m args below meth c H locs cells slots mc ms lsA hS hD hl
  exact lv_ixor hS.1 hS.2.1 d  (k p e R s m args below meth c H locs cells slots mc ms lsA hS hD hl)
theorem j_ishl {x y : Int32}  (d : decode cc pc = .ok (.ishl, 1)) (k : J Γ own cc L ret nm hh dd kc ks (pc + 1) ls (.int (x <<< (y &&& 31)) :: st) σ Q) : J Γ own cc L ret nm hh dd kc ks pc ls (.int y :: .int x :: st) σ Q := by
  intro p e R s m args below meth c H locs cells slots mc ms lsA hS hD hl
  exact lv_ishl hS.1 hS.2.1 d  (k p e R s m args below meth c H locs cells slots mc ms lsA hS hD hl)
theorem j_ishr {x y : Int32}  (d : decode cc pc = .ok (.ishr, 1)) (k : J Γ own cc L ret nm hh dd kc ks (pc + 1) ls (.int (x >>> (y &&& 31)) :: st) σ Q) : J Γ own cc L ret nm hh dd kc ks pc ls (.int y :: .int x :: st) σ Q := by
  intro p e R s m args below meth c H locs cells slots mc ms lsA hS hD hl
  exact lv_ishr hS.1 hS.2.1 d  (k p e R s m args below meth c H locs cells slots mc ms lsA hS hD hl)
theorem j_ladd {x y : Int64}  (d : decode cc pc = .ok (.ladd, 1)) (k : J Γ own cc L ret nm hh dd kc ks (pc + 1) ls (.long (x + y) :: st) σ Q) : J Γ own cc L ret nm hh dd kc ks pc ls (.long y :: .long x :: st) σ Q := by
  intro p e R s m args below meth c H locs cells slots mc ms lsA hS hD hl
  exact lv_ladd hS.1 hS.2.1 d  (k p e R s m args below meth c H locs cells slots mc ms lsA hS hD hl)
theorem j_lmul {x y : Int64}  (d : decode cc pc = .ok (.lmul, 1)) (k : J Γ own cc L ret nm hh dd kc ks (pc + 1) ls (.long (x * y) :: st) σ Q) : J Γ own cc L ret nm hh dd kc ks pc ls (.long y :: .long x :: st) σ Q := by
  intro p e R s m args below meth c H locs cells slots mc ms lsA hS hD hl
  exact lv_lmul hS.1 hS.2.1 d  (k p e R s m args below meth c H locs cells slots mc ms lsA hS hD hl)
theorem j_ineg {x : Int32}  (d : decode cc pc = .ok (.ineg, 1)) (k : J Γ own cc L ret nm hh dd kc ks (pc + 1) ls (.int (-x) :: st) σ Q) : J Γ own cc L ret nm hh dd kc ks pc ls (.int x :: st) σ Q := by
  intro p e R s m args below meth c H locs cells slots mc ms lsA hS hD hl
  exact lv_ineg hS.1 hS.2.1 d  (k p e R s m args below meth c H locs cells slots mc ms lsA hS hD hl)
theorem j_idiv {x y : Int32} (hne : ¬ y = 0) (d : decode cc pc = .ok (.idiv, 1)) (k : J Γ own cc L ret nm hh dd kc ks (pc + 1) ls (.int (x / y) :: st) σ Q) : J Γ own cc L ret nm hh dd kc ks pc ls (.int y :: .int x :: st) σ Q := by
  intro p e R s m args below meth c H locs cells slots mc ms lsA hS hD hl
  exact lv_idiv hS.1 hS.2.1 d hne (k p e R s m args below meth c H locs cells slots mc ms lsA hS hD hl)
theorem j_irem {x y : Int32} (hne : ¬ y = 0) (d : decode cc pc = .ok (.irem, 1)) (k : J Γ own cc L ret nm hh dd kc ks (pc + 1) ls (.int (x - x / y * y) :: st) σ Q) : J Γ own cc L ret nm hh dd kc ks pc ls (.int y :: .int x :: st) σ Q := by
  intro p e R s m args below meth c H locs cells slots mc ms lsA hS hD hl
  exact lv_irem hS.1 hS.2.1 d hne (k p e R s m args below meth c H locs cells slots mc ms lsA hS hD hl)
theorem j_iushr {x y : Int32}  (d : decode cc pc = .ok (.iushr, 1)) (k : J Γ own cc L ret nm hh dd kc ks (pc + 1) ls (.int (x.toUInt32 >>> (y.toUInt32 &&& Int32.toUInt32 31)).toInt32 :: st) σ Q) : J Γ own cc L ret nm hh dd kc ks pc ls (.int y :: .int x :: st) σ Q := by
  intro p e R s m args below meth c H locs cells slots mc ms lsA hS hD hl
  exact lv_iushr hS.1 hS.2.1 d rfl (k p e R s m args below meth c H locs cells slots mc ms lsA hS hD hl)
theorem j_i2l {x : Int32}  (d : decode cc pc = .ok (.i2l, 1)) (k : J Γ own cc L ret nm hh dd kc ks (pc + 1) ls (.long x.toInt64 :: st) σ Q) : J Γ own cc L ret nm hh dd kc ks pc ls (.int x :: st) σ Q := by
  intro p e R s m args below meth c H locs cells slots mc ms lsA hS hD hl
  exact lv_i2l hS.1 hS.2.1 d rfl (k p e R s m args below meth c H locs cells slots mc ms lsA hS hD hl)
theorem j_i2b {x : Int32}  (d : decode cc pc = .ok (.i2b, 1)) (k : J Γ own cc L ret nm hh dd kc ks (pc + 1) ls (.int x.toInt8.toInt32 :: st) σ Q) : J Γ own cc L ret nm hh dd kc ks pc ls (.int x :: st) σ Q := by
  intro p e R s m args below meth c H locs cells slots mc ms lsA hS hD hl
  exact lv_i2b hS.1 hS.2.1 d rfl (k p e R s m args below meth c H locs cells slots mc ms lsA hS hD hl)
theorem j_i2s {x : Int32}  (d : decode cc pc = .ok (.i2s, 1)) (k : J Γ own cc L ret nm hh dd kc ks (pc + 1) ls (.int x.toInt16.toInt32 :: st) σ Q) : J Γ own cc L ret nm hh dd kc ks pc ls (.int x :: st) σ Q := by
  intro p e R s m args below meth c H locs cells slots mc ms lsA hS hD hl
  exact lv_i2s hS.1 hS.2.1 d rfl (k p e R s m args below meth c H locs cells slots mc ms lsA hS hD hl)
theorem j_i2c {x : Int32}  (d : decode cc pc = .ok (.i2c, 1)) (k : J Γ own cc L ret nm hh dd kc ks (pc + 1) ls (.int (x.toUInt32 % 65536).toInt32 :: st) σ Q) : J Γ own cc L ret nm hh dd kc ks pc ls (.int x :: st) σ Q := by
  intro p e R s m args below meth c H locs cells slots mc ms lsA hS hD hl
  exact lv_i2c hS.1 hS.2.1 d rfl (k p e R s m args below meth c H locs cells slots mc ms lsA hS hD hl)
theorem j_dup {va : Value} (hva : va.category = 1) (d : decode cc pc = .ok (.dup, 1)) (k : J Γ own cc L ret nm hh dd kc ks (pc + 1) ls (va :: va :: st) σ Q) : J Γ own cc L ret nm hh dd kc ks pc ls (va :: st) σ Q := by
  intro p e R s m args below meth c H locs cells slots mc ms lsA hS hD hl
  exact lv_dup hS.1 hS.2.1 d ((j_cat hS va).trans hva) (k p e R s m args below meth c H locs cells slots mc ms lsA hS hD hl)
theorem j_pop {va : Value} (hva : va.category = 1) (d : decode cc pc = .ok (.pop, 1)) (k : J Γ own cc L ret nm hh dd kc ks (pc + 1) ls (st) σ Q) : J Γ own cc L ret nm hh dd kc ks pc ls (va :: st) σ Q := by
  intro p e R s m args below meth c H locs cells slots mc ms lsA hS hD hl
  exact lv_pop hS.1 hS.2.1 d ((j_cat hS va).trans hva) (k p e R s m args below meth c H locs cells slots mc ms lsA hS hD hl)
theorem j_dup_x1 {va vb : Value} (hva : va.category = 1) (hvb : vb.category = 1) (d : decode cc pc = .ok (.dup_x1, 1)) (k : J Γ own cc L ret nm hh dd kc ks (pc + 1) ls (va :: vb :: va :: st) σ Q) : J Γ own cc L ret nm hh dd kc ks pc ls (va :: vb :: st) σ Q := by
  intro p e R s m args below meth c H locs cells slots mc ms lsA hS hD hl
  exact lv_dup_x1 hS.1 hS.2.1 d ((j_cat hS va).trans hva) ((j_cat hS vb).trans hvb) (k p e R s m args below meth c H locs cells slots mc ms lsA hS hD hl)
theorem j_dup2 {va vb : Value} (hva : va.category = 1) (hvb : vb.category = 1) (d : decode cc pc = .ok (.dup2, 1)) (k : J Γ own cc L ret nm hh dd kc ks (pc + 1) ls (va :: vb :: va :: vb :: st) σ Q) : J Γ own cc L ret nm hh dd kc ks pc ls (va :: vb :: st) σ Q := by
  intro p e R s m args below meth c H locs cells slots mc ms lsA hS hD hl
  exact lv_dup2_11 hS.1 hS.2.1 d ((j_cat hS va).trans hva) ((j_cat hS vb).trans hvb) (k p e R s m args below meth c H locs cells slots mc ms lsA hS hD hl)
theorem j_if_eq {x : Int32} {off : Int} {tgt : Nat} (d : decode cc pc = .ok (.ifCond .eq off, 3)) (ht : (pc : Int) + off = (tgt : Int)) (kt : x = 0 → J Γ own cc L ret nm hh dd kc ks tgt ls st σ Q) (kf : ¬ x = 0 → J Γ own cc L ret nm hh dd kc ks (pc + 3) ls st σ Q) : J Γ own cc L ret nm hh dd kc ks pc ls (.int x :: st) σ Q := by
  intro p e R s m args below meth c H locs cells slots mc ms lsA hS hD hl
  exact lv_if_eq hS.1 hS.2.1 d ht (fun h => kt h p e R s m args below meth c H locs cells slots mc ms lsA hS hD hl) (fun h => kf h p e R s m args below meth c H locs cells slots mc ms lsA hS hD hl)
theorem j_icmp_eq {x y : Int32} {off : Int} {tgt : Nat} (d : decode cc pc = .ok (.if_icmp .eq off, 3)) (ht : (pc : Int) + off = (tgt : Int)) (kt : x = y → J Γ own cc L ret nm hh dd kc ks tgt ls st σ Q) (kf : ¬ x = y → J Γ own cc L ret nm hh dd kc ks (pc + 3) ls st σ Q) : J Γ own cc L ret nm hh dd kc ks pc ls (.int y :: .int x :: st) σ Q := by
  intro p e R s m args below meth c H locs cells slots mc ms lsA hS hD hl
  exact lv_icmp_eq hS.1 hS.2.1 d ht (fun h => kt h p e R s m args below meth c H locs cells slots mc ms lsA hS hD hl) (fun h => kf h p e R s m args below meth c H locs cells slots mc ms lsA hS hD hl)
theorem j_if_ne {x : Int32} {off : Int} {tgt : Nat} (d : decode cc pc = .ok (.ifCond .ne off, 3)) (ht : (pc : Int) + off = (tgt : Int)) (kt : ¬ x = 0 → J Γ own cc L ret nm hh dd kc ks tgt ls st σ Q) (kf : x = 0 → J Γ own cc L ret nm hh dd kc ks (pc + 3) ls st σ Q) : J Γ own cc L ret nm hh dd kc ks pc ls (.int x :: st) σ Q := by
  intro p e R s m args below meth c H locs cells slots mc ms lsA hS hD hl
  exact lv_if_ne hS.1 hS.2.1 d ht (fun h => kt h p e R s m args below meth c H locs cells slots mc ms lsA hS hD hl) (fun h => kf h p e R s m args below meth c H locs cells slots mc ms lsA hS hD hl)
theorem j_icmp_ne {x y : Int32} {off : Int} {tgt : Nat} (d : decode cc pc = .ok (.if_icmp .ne off, 3)) (ht : (pc : Int) + off = (tgt : Int)) (kt : ¬ x = y → J Γ own cc L ret nm hh dd kc ks tgt ls st σ Q) (kf : x = y → J Γ own cc L ret nm hh dd kc ks (pc + 3) ls st σ Q) : J Γ own cc L ret nm hh dd kc ks pc ls (.int y :: .int x :: st) σ Q := by
  intro p e R s m args below meth c H locs cells slots mc ms lsA hS hD hl
  exact lv_icmp_ne hS.1 hS.2.1 d ht (fun h => kt h p e R s m args below meth c H locs cells slots mc ms lsA hS hD hl) (fun h => kf h p e R s m args below meth c H locs cells slots mc ms lsA hS hD hl)
theorem j_if_lt {x : Int32} {off : Int} {tgt : Nat} (d : decode cc pc = .ok (.ifCond .lt off, 3)) (ht : (pc : Int) + off = (tgt : Int)) (kt : x < 0 → J Γ own cc L ret nm hh dd kc ks tgt ls st σ Q) (kf : ¬ x < 0 → J Γ own cc L ret nm hh dd kc ks (pc + 3) ls st σ Q) : J Γ own cc L ret nm hh dd kc ks pc ls (.int x :: st) σ Q := by
  intro p e R s m args below meth c H locs cells slots mc ms lsA hS hD hl
  exact lv_if_lt hS.1 hS.2.1 d ht (fun h => kt h p e R s m args below meth c H locs cells slots mc ms lsA hS hD hl) (fun h => kf h p e R s m args below meth c H locs cells slots mc ms lsA hS hD hl)
theorem j_icmp_lt {x y : Int32} {off : Int} {tgt : Nat} (d : decode cc pc = .ok (.if_icmp .lt off, 3)) (ht : (pc : Int) + off = (tgt : Int)) (kt : x < y → J Γ own cc L ret nm hh dd kc ks tgt ls st σ Q) (kf : ¬ x < y → J Γ own cc L ret nm hh dd kc ks (pc + 3) ls st σ Q) : J Γ own cc L ret nm hh dd kc ks pc ls (.int y :: .int x :: st) σ Q := by
  intro p e R s m args below meth c H locs cells slots mc ms lsA hS hD hl
  exact lv_icmp_lt hS.1 hS.2.1 d ht (fun h => kt h p e R s m args below meth c H locs cells slots mc ms lsA hS hD hl) (fun h => kf h p e R s m args below meth c H locs cells slots mc ms lsA hS hD hl)
theorem j_if_ge {x : Int32} {off : Int} {tgt : Nat} (d : decode cc pc = .ok (.ifCond .ge off, 3)) (ht : (pc : Int) + off = (tgt : Int)) (kt : 0 ≤ x → J Γ own cc L ret nm hh dd kc ks tgt ls st σ Q) (kf : ¬ 0 ≤ x → J Γ own cc L ret nm hh dd kc ks (pc + 3) ls st σ Q) : J Γ own cc L ret nm hh dd kc ks pc ls (.int x :: st) σ Q := by
  intro p e R s m args below meth c H locs cells slots mc ms lsA hS hD hl
  exact lv_if_ge hS.1 hS.2.1 d ht (fun h => kt h p e R s m args below meth c H locs cells slots mc ms lsA hS hD hl) (fun h => kf h p e R s m args below meth c H locs cells slots mc ms lsA hS hD hl)
theorem j_icmp_ge {x y : Int32} {off : Int} {tgt : Nat} (d : decode cc pc = .ok (.if_icmp .ge off, 3)) (ht : (pc : Int) + off = (tgt : Int)) (kt : y ≤ x → J Γ own cc L ret nm hh dd kc ks tgt ls st σ Q) (kf : ¬ y ≤ x → J Γ own cc L ret nm hh dd kc ks (pc + 3) ls st σ Q) : J Γ own cc L ret nm hh dd kc ks pc ls (.int y :: .int x :: st) σ Q := by
  intro p e R s m args below meth c H locs cells slots mc ms lsA hS hD hl
  exact lv_icmp_ge hS.1 hS.2.1 d ht (fun h => kt h p e R s m args below meth c H locs cells slots mc ms lsA hS hD hl) (fun h => kf h p e R s m args below meth c H locs cells slots mc ms lsA hS hD hl)
theorem j_if_gt {x : Int32} {off : Int} {tgt : Nat} (d : decode cc pc = .ok (.ifCond .gt off, 3)) (ht : (pc : Int) + off = (tgt : Int)) (kt : 0 < x → J Γ own cc L ret nm hh dd kc ks tgt ls st σ Q) (kf : ¬ 0 < x → J Γ own cc L ret nm hh dd kc ks (pc + 3) ls st σ Q) : J Γ own cc L ret nm hh dd kc ks pc ls (.int x :: st) σ Q := by
  intro p e R s m args below meth c H locs cells slots mc ms lsA hS hD hl
  exact lv_if_gt hS.1 hS.2.1 d ht (fun h => kt h p e R s m args below meth c H locs cells slots mc ms lsA hS hD hl) (fun h => kf h p e R s m args below meth c H locs cells slots mc ms lsA hS hD hl)
theorem j_icmp_gt {x y : Int32} {off : Int} {tgt : Nat} (d : decode cc pc = .ok (.if_icmp .gt off, 3)) (ht : (pc : Int) + off = (tgt : Int)) (kt : y < x → J Γ own cc L ret nm hh dd kc ks tgt ls st σ Q) (kf : ¬ y < x → J Γ own cc L ret nm hh dd kc ks (pc + 3) ls st σ Q) : J Γ own cc L ret nm hh dd kc ks pc ls (.int y :: .int x :: st) σ Q := by
  intro p e R s m args below meth c H locs cells slots mc ms lsA hS hD hl
  exact lv_icmp_gt hS.1 hS.2.1 d ht (fun h => kt h p e R s m args below meth c H locs cells slots mc ms lsA hS hD hl) (fun h => kf h p e R s m args below meth c H locs cells slots mc ms lsA hS hD hl)
theorem j_if_le {x : Int32} {off : Int} {tgt : Nat} (d : decode cc pc = .ok (.ifCond .le off, 3)) (ht : (pc : Int) + off = (tgt : Int)) (kt : x ≤ 0 → J Γ own cc L ret nm hh dd kc ks tgt ls st σ Q) (kf : ¬ x ≤ 0 → J Γ own cc L ret nm hh dd kc ks (pc + 3) ls st σ Q) : J Γ own cc L ret nm hh dd kc ks pc ls (.int x :: st) σ Q := by
  intro p e R s m args below meth c H locs cells slots mc ms lsA hS hD hl
  exact lv_if_le hS.1 hS.2.1 d ht (fun h => kt h p e R s m args below meth c H locs cells slots mc ms lsA hS hD hl) (fun h => kf h p e R s m args below meth c H locs cells slots mc ms lsA hS hD hl)
theorem j_icmp_le {x y : Int32} {off : Int} {tgt : Nat} (d : decode cc pc = .ok (.if_icmp .le off, 3)) (ht : (pc : Int) + off = (tgt : Int)) (kt : x ≤ y → J Γ own cc L ret nm hh dd kc ks tgt ls st σ Q) (kf : ¬ x ≤ y → J Γ own cc L ret nm hh dd kc ks (pc + 3) ls st σ Q) : J Γ own cc L ret nm hh dd kc ks pc ls (.int y :: .int x :: st) σ Q := by
  intro p e R s m args below meth c H locs cells slots mc ms lsA hS hD hl
  exact lv_icmp_le hS.1 hS.2.1 d ht (fun h => kt h p e R s m args below meth c H locs cells slots mc ms lsA hS hD hl) (fun h => kf h p e R s m args below meth c H locs cells slots mc ms lsA hS hD hl)
theorem j_goto {off : Int} {tgt : Nat} (d : decode cc pc = .ok (.goto off, 3)) (ht : (pc : Int) + off = (tgt : Int)) (k : J Γ own cc L ret nm hh dd kc ks tgt ls st σ Q) : J Γ own cc L ret nm hh dd kc ks pc ls st σ Q := by
  intro p e R s m args below meth c H locs cells slots mc ms lsA hS hD hl
  exact lv_goto hS.1 hS.2.1 d ht (k p e R s m args below meth c H locs cells slots mc ms lsA hS hD hl)
theorem j_ifnonnull {x : Nat} {off : Int} {tgt : Nat} (hx : x < 2000000) (d : decode cc pc = .ok (.ifnonnull off, 3)) (ht : (pc : Int) + off = (tgt : Int)) (k : J Γ own cc L ret nm hh dd kc ks tgt ls st σ Q) : J Γ own cc L ret nm hh dd kc ks pc ls (.ref x :: st) σ Q := by
  intro p e R s m args below meth c H locs cells slots mc ms lsA hS hD hl
  rw [List.map_cons, pv_lt2 hx]
  exact lv_ifnonnull hS.1 hS.2.1 d ht (k p e R s m args below meth c H locs cells slots mc ms lsA hS hD hl)
theorem j_ifnonnullN {off : Int} (d : decode cc pc = .ok (.ifnonnull off, 3)) (k : J Γ own cc L ret nm hh dd kc ks (pc + 3) ls st σ Q) : J Γ own cc L ret nm hh dd kc ks pc ls (.null :: st) σ Q := by
  intro p e R s m args below meth c H locs cells slots mc ms lsA hS hD hl
  exact lv_ifnonnullN hS.1 hS.2.1 d (k p e R s m args below meth c H locs cells slots mc ms lsA hS hD hl)
theorem j_ifnull {x : Nat} {off : Int} (hx : x < 2000000) (d : decode cc pc = .ok (.ifnull off, 3)) (k : J Γ own cc L ret nm hh dd kc ks (pc + 3) ls st σ Q) : J Γ own cc L ret nm hh dd kc ks pc ls (.ref x :: st) σ Q := by
  intro p e R s m args below meth c H locs cells slots mc ms lsA hS hD hl
  rw [List.map_cons, pv_lt2 hx]
  exact lv_ifnull hS.1 hS.2.1 d (k p e R s m args below meth c H locs cells slots mc ms lsA hS hD hl)
theorem j_tableOut {dflt lo hi : Int} {offs : Array Int} {len : Nat} {x : Int32} {tgt : Nat} (h : x.toInt < lo ∨ hi < x.toInt) (d : decode cc pc = .ok (.tableswitch dflt lo hi offs, len)) (ht : (pc : Int) + dflt = (tgt : Int)) (k : J Γ own cc L ret nm hh dd kc ks tgt ls st σ Q) : J Γ own cc L ret nm hh dd kc ks pc ls (.int x :: st) σ Q := by
  intro p e R s m args below meth c H locs cells slots mc ms lsA hS hD hl
  exact lv_tableOut hS.1 hS.2.1 d h ht (k p e R s m args below meth c H locs cells slots mc ms lsA hS hD hl)
theorem j_tableIn {dflt lo hi off : Int} {offs : Array Int} {len : Nat} {x : Int32} {tgt : Nat} (h1 : ¬ x.toInt < lo) (h2 : ¬ hi < x.toInt) (ho : offs[(x.toInt - lo).toNat]? = some off) (d : decode cc pc = .ok (.tableswitch dflt lo hi offs, len)) (ht : (pc : Int) + off = (tgt : Int)) (k : J Γ own cc L ret nm hh dd kc ks tgt ls st σ Q) : J Γ own cc L ret nm hh dd kc ks pc ls (.int x :: st) σ Q := by
  intro p e R s m args below meth c H locs cells slots mc ms lsA hS hD hl
  exact lv_tableIn hS.1 hS.2.1 d h1 h2 ho ht (k p e R s m args below meth c H locs cells slots mc ms lsA hS hD hl)
theorem j_lookup {dflt off : Int} {ps : Array (Int × Int)} {len : Nat} {x : Int32} {tgt : Nat} (hp : (ps.toList.zip (ps.toList.drop 1)).all (fun (a, next) => a.1 < next.1) = true) (ho : Op.lookupswitch.offset ps.toList dflt x.toInt = off) (d : decode cc pc = .ok (.lookupswitch dflt ps, len)) (ht : (pc : Int) + off = (tgt : Int)) (k : J Γ own cc L ret nm hh dd kc ks tgt ls st σ Q) : J Γ own cc L ret nm hh dd kc ks pc ls (.int x :: st) σ Q := by
  intro p e R s m args below meth c H locs cells slots mc ms lsA hS hD hl
  exact lv_lookup hS.1 hS.2.1 d hp ho ht (k p e R s m args below meth c H locs cells slots mc ms lsA hS hD hl)
theorem j_ls (ks9 : List Nat) {ls1 : List (Nat × Value)} (h : lv_pick ls ks9 = ls1) (k : J Γ own cc L ret nm hh dd kc ks pc ls1 st σ Q) : J Γ own cc L ret nm hh dd kc ks pc ls st σ Q := by
  intro p e R s m args below meth c H locs cells slots mc ms lsA hS hD hl
  refine k p e R s m args below meth c H locs cells slots mc ms lsA hS hD (lv_sub hl ks9 ?_)
  subst h
  unfold lv_pick
  rw [List.map_filterMap]
  congr 1
  funext i
  rw [List.getElem?_map]
theorem j_post {Q' : jO → pS → Prop} (hq : ∀ o u, Q' o u → Q o u) (k : J Γ own cc L ret nm hh dd kc ks pc ls st σ Q') : J Γ own cc L ret nm hh dd kc ks pc ls st σ Q := by
  intro p e R s m args below meth c H locs cells slots mc ms lsA hS hD hl
  intro T hT X
  obtain ⟨t, a, o, b1, b2, ⟨b3, b4⟩⟩ := k p e R s m args below meth c H locs cells slots mc ms lsA hS hD hl T hT X
  refine ⟨t, a, o, b1, b2, ⟨?_, b4⟩⟩
  rcases b3 with ⟨v, u, c1, c2, c3⟩ | ⟨v, u, c1, c2, c3⟩
  · exact Or.inl ⟨v, u, c1, hq _ _ c2, c3⟩
  · exact Or.inr ⟨v, u, c1, hq _ _ c2, c3⟩
end JR
