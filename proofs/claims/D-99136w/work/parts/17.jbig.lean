set_option maxRecDepth 100000
/-! ===== ROWS FOR METHODS THAT MAKE CELLS: the new store by names; private methods on a subclass's object ===== -/
section JBG0
variable {p : Program} {l : Launch} {e : Env} {R : Room} {s : State} {m : MethodId} {args : Array Value} {below : List Frame} {meth : Method} {c : Code}
theorem vx_callVP {T : State} {locs : List Loc} {cells slots : Nat} (X : Stand p l e R s m args below meth c T locs cells slots) (hexec : p.tables.exec = Jvm.exec) {own C' : String} {index : Nat} {x' y' y : MethodName} {bytes : ByteArray} {maxL : Nat} {ret : Option FieldType}
    (hown : s.vm.findClass own = some m.cls) (hlink : (Cond.methodLink own index y).before args s = true) (hinst : (Cond.instanceMethod y).before args s = true) (hsel : (Cond.selects C' x' y').before args s = true) (hyc : y'.cls = y.cls) (hpriv : (Cond.privateMethod y).before args s = true)
    (hcode : (Cond.code y bytes maxL ret).before args s = true) (hy : y.cls ≠ "java/lang/invoke/MethodHandle" ∧ y.cls ≠ "java/lang/invoke/VarHandle")
    {W9 : Nat} {Pre : Pt → Array Value → Prop} {Post : Pt → Array Value → Option Value → Pt → Prop} {PostX : Pt → Array Value → Addr → Pt → Prop} (hK : vx_Back l R p e below s args y 3 W9 Pre Post PostX)
    {b : Addr} {cellB : Cell} (hcell : T.heap[b]? = some cellB) (hobj : cellB.vm.isStatics = false)
    {g : JFrame} (hg : g.method = m) (hsize : g.locals.size = c.maxLocals) {argsL rest : List Value} (hlen : ∀ sig, parseMethodDescriptor y.desc = some sig → argsL.length = sig.parameters.length)
    (hstack : g.stack = argsL.reverse ++ .ref b :: rest) (hW : 2 * g.monitorRoom + (rest.map fun v => v.category).sum ≤ W9) (hdg : decode c.code g.pc = .ok (.invokevirtual index, 3))
    (hpre : ∀ vm₁, s.WarmedH vm₁ → Pre ⟨T.setVm vm₁, locs, cells, slots⟩ (Value.ref b :: argsL).toArray) :
    (∃ (v : Option Value) (vm₁ : Vm) (B : Pt), s.WarmedH vm₁ ∧ Stand p l e R s m args below meth c B.U B.locs B.cells B.slots ∧ Post ⟨T.setVm vm₁, locs, cells, slots⟩ (Value.ref b :: argsL).toArray v B ∧
      ∀ target, Steps p.tables e below (B.U.setTop { g with pc := g.pc + 3, stack := v.toList ++ rest }) target → Steps p.tables e below (T.setTop g) target) ∨
    (∃ (q : Addr) (vm₁ : Vm) (B : Pt), s.WarmedH vm₁ ∧ Stand p l e R s m args below meth c B.U B.locs B.cells B.slots ∧ PostX ⟨T.setVm vm₁, locs, cells, slots⟩ (Value.ref b :: argsL).toArray q B ∧
      Steps p.tables e below (T.setTop g) ((B.U.setTop { g with stack := rest }).pushFrame (.throwing q))) := by
  obtain ⟨mk, methM, hnamed, hmethM, hstM, habM⟩ := Cond.instanceMethod_spec hinst
  obtain ⟨methM', cM, hmethM', -, -, -, -, -, -, hsigM⟩ := Cond.code_spec hnamed hcode
  cases hmethM.symm.trans hmethM'
  obtain ⟨c2, r2, m2, q1, q2, q3, q4, kP, hkP, hkPi⟩ := Cond.selects_spec hsel
  have hcl : m2.cls = mk.cls := by
    have e1 := findClass_of_methodNamed q3
    have e2 := findClass_of_methodNamed hnamed
    rw [hyc] at e1
    exact Option.some.inj (e1.symm.trans e2)
  rw [hcl] at hkP
  have hpr : methM.isPrivate = true := by
    simp only [Cond.before, Cond.holds, Cond.value, hnamed, Option.bind_some, hmethM, Option.map_some, beq_iff_eq] at hpriv
    simpa using hpriv
  have hselP : selectMethod e.platform s.vm cellB.cls mk = .method mk := selectMethod_private hmethM hpr
  obtain ⟨vm₁, X₁, hstep₁⟩ := X.invokevirtual hexec hown hlink hnamed hmethM hstM hkP hkPi hy (a := b) (cell := cellB) hcell
    (fun z h => by rw [h] at hobj; cases hobj) hselP hmethM habM hkP hkPi (g := g) hg (argsL := argsL) (rest := rest) (hlen _ hsigM) hstack hdg
  rcases hK m meth c ⟨T.setVm vm₁, locs, cells, slots⟩ { g with stack := rest } (.invokevirtual index) mk (Value.ref b :: argsL).toArray X₁ hg hsize hdg hW (X₁.named hnamed) (hpre vm₁ X₁.warmed) with ⟨v, B, X', hpost, hsteps⟩ | ⟨q, B, X', hpost, hsteps⟩
  · exact Or.inl ⟨v, vm₁, B, X₁.warmed, X', hpost, fun target h => hstep₁ _ fun acts => by rw [doInvoke_state]; exact hsteps.trans h⟩
  · exact Or.inr ⟨q, vm₁, B, X₁.warmed, X', hpost, hstep₁ _ fun acts => by rw [doInvoke_state]; exact hsteps⟩
end JBG0
section JBG
variable {Γ : jG} {own : String} {cc : ByteArray} {L : Nat} {ret : Option FieldType} {nm : String} {hh : List (Nat × Nat × Nat × Nat)} {dd kc ks kc' ks' pc : Nat} {ls : List (Nat × Value)} {st : List Value} {σ : pS} {Q Q' : jO → pS → Prop}
variable {n : Nat} {K : Nat → pKd} {A : pA} {Lg : pL} {G : pG}
theorem j_newE {index ci N : Nat} (f : jCn own index ci N) (h1 : 1 ≤ kc) (h2 : N ≤ ks) (d : decode cc pc = .ok (.new index, 3)) (k : ∀ (K1 : Nat → pKd) (A1 : pA) (L1 : pL) (G1 : pG), K1 = pkup K n (.inl ci) → A1 = prow A n (fun _ => 0) → L1 = prow Lg n (fun _ => 0) → G1 = prow G n (fun _ => .null) → J Γ own cc L ret nm hh dd (kc - 1) (ks - N) (pc + 3) ls (.ref n :: st) (n + 1, K1, A1, L1, G1) Q) : J Γ own cc L ret nm hh dd kc ks pc ls st (n, K, A, Lg, G) Q := j_new f (by omega) (by omega) d (k _ _ _ _ rfl rfl rfl rfl)
theorem j_newaE {t N : Nat} {x : Int32} {atype : ArrayType} {ty : FieldType} (ht : jTy[t]? = some ty) (hty : newarray.typeOf atype = ty) (hw : Cond.arrayClass ty ∈ lw_all) (hra : ∀ (U : State) (q : ClassId), va_RA U q ty → U.vm.findClass ("[" ++ ty.toString) = some q) (hdf : defaultValue ty = if jTk t = 0 then .int 0 else if jTk t = 1 then .long 0 else .null) (hn0 : ¬ x < 0) (hN : x.toNatClampNeg = N) (hby : N * componentBytes ty ≤ 536870912) (h1 : 1 ≤ kc) (h2 : N ≤ ks) (d : decode cc pc = .ok (.newarray atype, 2)) (k : ∀ (K1 : Nat → pKd) (A1 : pA) (L1 : pL) (G1 : pG), K1 = pkup K n (.inr (t, N)) → A1 = prow A n (fun _ => 0) → L1 = prow Lg n (fun _ => 0) → G1 = prow G n (fun _ => .null) → J Γ own cc L ret nm hh dd (kc - 1) (ks - N) (pc + 2) ls (.ref n :: st) (n + 1, K1, A1, L1, G1) Q) : J Γ own cc L ret nm hh dd kc ks pc ls (.int x :: st) (n, K, A, Lg, G) Q := j_newa ht hty rfl hw hra hdf hn0 hN hby (by omega) (by omega) d (k _ _ _ _ rfl rfl rfl rfl)
theorem j_anewE {t N index : Nat} {x : Int32} {C : String} (ht : jTy[t]? = some (.object C)) (h2k : jTk t = 2) (hcl : Cond.classLink own index C ∈ lw_all) (hA : C ∈ jNwA) (hn0 : ¬ x < 0) (hN : x.toNatClampNeg = N) (hby : N * 4 ≤ 536870912) (h1 : 1 ≤ kc) (h2 : N ≤ ks) (d : decode cc pc = .ok (.anewarray index, 3)) (k : ∀ (K1 : Nat → pKd) (A1 : pA) (L1 : pL) (G1 : pG), K1 = pkup K n (.inr (t, N)) → A1 = prow A n (fun _ => 0) → L1 = prow Lg n (fun _ => 0) → G1 = prow G n (fun _ => .null) → J Γ own cc L ret nm hh dd (kc - 1) (ks - N) (pc + 3) ls (.ref n :: st) (n + 1, K1, A1, L1, G1) Q) : J Γ own cc L ret nm hh dd kc ks pc ls (.int x :: st) (n, K, A, Lg, G) Q := j_anew ht h2k hcl hA hn0 hN hby (by omega) (by omega) d (k _ _ _ _ rfl rfl rfl rfl)
theorem j_multiE {index N M : Nat} {x y : Int32} (hcl : Cond.classLink own index "[[I" ∈ lw_all) (hw : Cond.arrayClass .int ∈ lw_all) (hx0 : ¬ x < 0) (hy0 : ¬ y < 0) (hN : x.toNatClampNeg = N) (hM : y.toNatClampNeg = M) (hb1 : N * 4 ≤ 536870912) (hb2 : M * 4 ≤ 536870912) (h1 : 1 + N ≤ kc) (h2 : N + N * M ≤ ks) (d : decode cc pc = .ok (.multianewarray index 2, 4)) (k : ∀ (K1 : Nat → pKd) (A1 : pA) (L1 : pL) (G1 : pG), K1 = pmulK n K N M → A1 = pmulA n A N 0 → L1 = pmulA n Lg N 0 → G1 = pmulG n G N → J Γ own cc L ret nm hh dd (kc - (1 + N)) (ks - (N + N * M)) (pc + 4) ls (.ref n :: st) (n + 1 + N, K1, A1, L1, G1) Q) : J Γ own cc L ret nm hh dd kc ks pc ls (.int y :: .int x :: st) (n, K, A, Lg, G) Q := j_multi hcl hw hx0 hy0 hN hM hb1 hb2 (by omega) (by omega) d (k _ _ _ _ rfl rfl rfl rfl)
theorem j_aastE {a len t v j : Nat} {B C : String} {i : Int32} (ht : jTy[t]? = some (.object B)) (h2 : jTk t = 2) (ha : a < n) (hk : K a = .inr (t, len)) (hin : vp_in i len) (hj : i.toNatClampNeg = j) (hv6 : v < 2000000) (hIs : ∀ (s : State) (H : Heap), jKK Γ s → jHR Γ (n, K, A, Lg, G) H → n ≤ 1000000 → jIs Γ s H v C) (hAs : jAs C B) (d : decode cc pc = .ok (.aastore, 1)) (k : ∀ G1 : pG, G1 = pup G a j (.ref v) → J Γ own cc L ret nm hh dd kc ks (pc + 1) ls st (n, K, A, Lg, G1) Q) : J Γ own cc L ret nm hh dd kc ks pc ls (.ref v :: .int i :: .ref a :: st) (n, K, A, Lg, G) Q := by subst hj; exact j_aast ht h2 ha hk hin hv6 hIs hAs d (k _ rfl)
/-- a sum into an array of sums -/
theorem j_aastS {a len v j : Nat} {i : Int32} (ha : a < n) (hk : K a = .inr (8, len)) (hin : vp_in i len) (hj : i.toNatClampNeg = j) (h6 : n ≤ 1000000) (hv : v < n) (hc : K v = .inl 11 ∨ K v = .inl 12 ∨ K v = .inl 13) (d : decode cc pc = .ok (.aastore, 1)) (k : ∀ G1 : pG, G1 = pup G a j (.ref v) → J Γ own cc L ret nm hh dd kc ks (pc + 1) ls st (n, K, A, Lg, G1) Q) : J Γ own cc L ret nm hh dd kc ks pc ls (.ref v :: .int i :: .ref a :: st) (n, K, A, Lg, G) Q := by
  rcases hc with hc | hc | hc
  · exact j_aastE (t := 8) (C := RX13) rfl rfl ha hk hin hj (by omega) (fun s9 H9 hK9 hR9 h69 => jIs_in hK9 hR9 h69 hv hc rfl) (Or.inr (by decide)) d k
  · exact j_aastE (t := 8) (C := RX14) rfl rfl ha hk hin hj (by omega) (fun s9 H9 hK9 hR9 h69 => jIs_in hK9 hR9 h69 hv hc rfl) (Or.inr (by decide)) d k
  · exact j_aastE (t := 8) (C := RX15) rfl rfl ha hk hin hj (by omega) (fun s9 H9 hK9 hR9 h69 => jIs_in hK9 hR9 h69 hv hc rfl) (Or.inr (by decide)) d k
theorem j_callVP {C C' : String} {x' y' y : MethodName} {cY : ByteArray} {LY nY dY kY sY : Nat} {rY : Option FieldType} {index : Nat} {As stk : List Value} {b : Nat} (hM : jMet Γ y cY LY rY [] dY kY sY (.ref b :: As) σ Q') (f : jY y cY LY rY nY) (w1 : Cond.methodLink own index y ∈ lw_all) (w2 : Cond.instanceMethod y ∈ lw_all) (w3 : Cond.selects C' x' y' ∈ lw_all) (hyc : y'.cls = y.cls) (w4 : y = jPm) (hb6 : b < 2000000) (hIs : ∀ (s : State) (H : Heap), jKK Γ s → jHR Γ σ H → σ.1 ≤ 1000000 → jIs Γ s H b C) (hn : As.length = nY) (hst : (st.map fun v => v.category).sum ≤ 8) (hk : As.reverse ++ .ref b :: st = stk) (hd : dY + 1 ≤ dd) (h1 : kc' + kY ≤ kc) (h2 : ks' + sY ≤ ks) (d : decode cc pc = .ok (.invokevirtual index, 3))
    (kn : ∀ (v : Option Value) (u : pS), Q' (.inl v) u → J Γ own cc L ret nm [] dd kc' ks' (pc + 3) ls (v.toList ++ st) u Q) (kx : ∀ (k : Nat) (u : pS), Q' (.inr k) u → Q (.inr k) u) : J Γ own cc L ret nm [] dd kc ks pc ls stk σ Q := by
  intro p e R s m args below meth c H locs cells slots mc ms lsA hS hD hl
  subst hk
  have hK := jY_back (e := e) (below := below) (len := 3) f hM hS hd
  obtain ⟨hx, hb, -, -, hml, -, hown, hts, -, hKK, -, -, -, hmc, hms⟩ := id hS
  obtain ⟨hHR, hlo, g1, g2, g3⟩ := id hD
  obtain ⟨cell, r1, r2, r3⟩ := hIs s H hKK hHR (by omega)
  intro T hT X
  rw [j_stk, pv_lt2 hb6]
  rcases vx_callVP X hx (bytes := cY) (maxL := LY) (ret := rY) hown (hts _ w1) (hts _ w2) (hts _ w3) hyc (by rw [w4]; exact va_Nw.use rfl hKK.2.1.2.2.2.2.2) (hts _ f.1) f.2.2.1 hK (by rw [hT]; exact r1) r2 (g := F0 m pc lsA _) rfl (by rw [hml]; exact hl.1) (argsL := As.map (pv Γ)) (rest := st.map (pv Γ)) (jY_len f (by rw [List.length_map]; exact hn)) rfl (lv_room (by rw [j_cats hS]; exact hst)) (by rw [hb]; exact d)
    (fun vm₁ hW₁ => ⟨show cells + kY ≤ R.cells by omega, show slots + sY ≤ R.slots by omega, by rw [List.map_cons, pv_lt2 hb6], by show jHR Γ σ T.heap; rw [hT]; exact hHR, hKK.warm hW₁, by omega⟩) with ⟨v, vm₁, B, hW₁, X', hpost, stp⟩ | ⟨q, vm₁, B, hW₁, X', hpost, stp⟩
  · exact j_behind hS hD hl h1 h2 rfl kn kx (Or.inl ⟨v, B, X', hpost, stp⟩)
  · exact j_behind hS hD hl h1 h2 rfl kn kx (Or.inr ⟨q, B, X', hpost, stp⟩)
end JBG
