set_option maxRecDepth 100000
/-! ===== A METHOD WITH ONE HANDLER FOR FAULTS ===== -/
section JHD
variable {Γ : jG} {own : String} {cc : ByteArray} {L : Nat} {ret : Option FieldType} {nm : String} {hh : List (Nat × Nat × Nat × Nat)} {dd kc ks kc' ks' pc : Nat} {ls : List (Nat × Value)} {st : List Value} {σ : pS} {Q Q' : jO → pS → Prop}
theorem jMet_ofH {y : MethodName} {vs : List Value} (hne : hh ≠ []) (hy : plainName y.cls = true) (hown : y.cls = own) (hnm : y.name = nm) (hlen : (lg_sl vs).length ≤ L) (k : J Γ own cc L ret nm hh dd kc ks 0 (lv_args 0 vs) [] σ Q) : jMet Γ y cc L ret hh dd kc ks vs σ Q := by
  show jMetW Γ y (if hh = [] then ws_ y cc L ret else wsW_ y cc L ret hh) dd kc ks vs σ Q
  rw [if_neg hne]
  refine MetFree.of_bodyS (code := cc) (maxLocals := L) (ret := ret) hy ?_ ?_
  · intro args s m h hn
    obtain ⟨m9, meth, c, hn9, h1, h2, h3, h4, -, h5, h6, -⟩ := Cond.codeWith_spec (atoms_spec (ws := wsW_ y cc L ret hh) h _ List.mem_cons_self)
    cases hn.symm.trans hn9
    exact ⟨meth, c, h1, h2, h3, h4, h5, h6⟩
  · intro p e s m args below meth c s₁ B hml hP _
    have hh0 : s₁.heap = s.heap := by rw [B.state]; rfl
    have ht : c.exceptionTable.toList = tableOf hh := by
      obtain ⟨m9, meth9, c9, hn9, h1, h2, -, -, h7, -⟩ := Cond.codeWith_spec (atoms_spec (ws := wsW_ y cc L ret hh) B.pre _ List.mem_cons_self)
      cases Option.some.inj (hn9.symm.trans B.named)
      cases Option.some.inj (h1.symm.trans B.method)
      cases Option.some.inj (h2.symm.trans (Stand.of_body B).code)
      rw [← h7, table_eq]
    obtain ⟨rfl, hHR, hKK, hn⟩ := hP
    have hts := atoms_spec (ws := wsW_ y cc L ret hh) B.pre
    have hS : jSt Γ own cc L ret nm hh dd p (headSpec (wsW_ y cc L ret hh) (jRm dd kc ks)).room s m (vs.map (pv Γ)).toArray meth c kc ks := by
      refine ⟨B.exec, B.bytes, B.returns, B.notSynchronized, hml, ?_, ?_, fun w h => hts w (List.mem_cons_of_mem _ h), ht, hKK, by rw [hHR.1]; exact Nat.le_add_right _ _, Nat.le_refl _, Nat.le_refl _, Nat.le_refl _, Nat.le_refl _⟩
      · rw [← hnm]; exact (name_of_methodNamed B.named B.method).1
      · rw [← hown]; exact findClass_of_methodNamed B.named
    have hcat := j_cat hS
    have hl := lv_entry (vs.map (pv Γ)) (n := L) (by rw [j_sll hcat]; exact hlen)
    rw [j_args hcat] at hl
    obtain ⟨t, a1, o, b1, b2, b3⟩ := k p e _ s m _ below meth c s.heap [] 0 0 kc ks _ hS ⟨hHR, (fun z hz => nomatch hz), by omega, by omega, hn⟩ hl s₁ hh0 (Stand.of_body B)
    refine ⟨t, o, ?_, b1, b2, b3⟩
    rw [lg_entry_eq]
    exact a1
/-- behind a call, a fault caught here -/
theorem j_behindH {lo hi hp ct : Nat} {p : Program} {e : Env} {R : Room} {s : State} {m : MethodId} {args : Array Value} {below : List Frame} {meth : Method} {c : Code} {H : Heap} {locs : List Loc} {cells slots mc ms kY sY : Nat} {lsA : Array Slot} {T : State} {g0 : JFrame} {a : Array Value} {vm₁ : Vm} (hS : jSt Γ own cc L ret nm [(lo, hi, hp, ct)] dd p R s m args meth c mc ms) (hD : jDy Γ kc ks σ H locs cells slots mc ms) (hl : lv_has lsA L (ls.map (jlv Γ))) (h1 : kc' + kY ≤ kc) (h2 : ks' + sY ≤ ks)
    (hct : ct ≠ 0) (hlink : Cond.classLink own ct "DogsHour$Fault" ∈ lw_all) (hlo2 : lo ≤ pc) (hhi : pc < hi)
    (hg : { g0 with stack := st.map (pv Γ) } = F0 m pc lsA (st.map (pv Γ)))
    (kn : ∀ (v : Option Value) (u : pS), Q' (.inl v) u → J Γ own cc L ret nm [(lo, hi, hp, ct)] dd kc' ks' (pc + 3) ls (v.toList ++ st) u Q) (kx : ∀ (k : Nat) (u : pS), Q' (.inr k) u → J Γ own cc L ret nm [(lo, hi, hp, ct)] dd kc' ks' hp ls [.ref k] u Q)
    (hres : (∃ (v : Option Value) (B : Pt), Stand p (gl Γ) e R s m args below meth c B.U B.locs B.cells B.slots ∧ jPost Γ Q' (σ.1 + kY) kY sY ⟨T.setVm vm₁, locs, cells, slots⟩ a v B ∧ ∀ target, Steps p.tables e below (B.U.setTop { g0 with pc := g0.pc + 3, stack := v.toList ++ st.map (pv Γ) }) target → Steps p.tables e below (T.setTop g0) target) ∨
      (∃ (q : Addr) (B : Pt), Stand p (gl Γ) e R s m args below meth c B.U B.locs B.cells B.slots ∧ jPostX Γ Q' (σ.1 + kY) kY sY ⟨T.setVm vm₁, locs, cells, slots⟩ a q B ∧ Steps p.tables e below (T.setTop g0) ((B.U.setTop { g0 with stack := st.map (pv Γ) }).pushFrame (.throwing q)))) :
    ∃ t, Steps p.tables e below (T.setTop g0) t ∧ jMQ Γ Q mc ms below s t := by
  obtain ⟨hHR, hlo, g1, g2, g3⟩ := hD
  rcases hres with ⟨v, ⟨U', l2, c2, s2⟩, X', ⟨w, u, Ln, e1, hq, hr, hn, e2, hL, e3, e4⟩, stp⟩ | ⟨q, ⟨U', l2, c2, s2⟩, X', ⟨k, u, Ln, e1, hq, hr, hn, hk1, hk2, e2, hL, e3, e4⟩, stp⟩
  · dsimp only [Pt.U, Pt.locs, Pt.cells, Pt.slots] at X' hr e2 e3 e4 stp
    subst e1; subst e2; subst e3; subst e4
    have hlo' : ∀ z ∈ locs ++ Ln, (gH Γ).size ≤ z.base := fun z hz => (List.mem_append.mp hz).elim (hlo z) (hL z)
    obtain ⟨t, a1, b1⟩ := kn w u hq p e R s m args below meth c U'.heap (locs ++ Ln) (cells + kY) (slots + sY) mc ms lsA hS ⟨hr, hlo', by omega, by omega, by omega⟩ hl U' rfl X'
    refine ⟨t, stp t ?_, b1⟩
    have e5 : ({ g0 with pc := g0.pc + 3, stack := (w.map (pv Γ)).toList ++ st.map (pv Γ) } : JFrame) = F0 m (pc + 3) lsA ((w.toList ++ st).map (pv Γ)) := by
      have h6 : (w.map (pv Γ)).toList ++ st.map (pv Γ) = (w.toList ++ st).map (pv Γ) := by cases w <;> simp
      rw [h6]
      injection hg with i1 i2 i3 i4 i5 i6 i7
      obtain ⟨a1, a2, a3, a4, a5, a6, a7⟩ := g0
      dsimp only at i1 i2 i3 i5 i6 i7 ⊢
      subst i1 i2 i3 i5 i6 i7
      rfl
    rw [e5]
    exact a1
  · dsimp only [Pt.U, Pt.locs, Pt.cells, Pt.slots] at X' hr e2 e3 e4 stp
    subst e1; subst e2; subst e3; subst e4
    have hlo' : ∀ z ∈ locs ++ Ln, (gH Γ).size ≤ z.base := fun z hz => (List.mem_append.mp hz).elim (hlo z) (hL z)
    rw [hg] at stp
    obtain ⟨hx, hb, -, -, hml, -, hown, hts, htab, hKK, -⟩ := id hS
    have hpl : e.platform.magicAccessors = ({} : Platform).magicAccessors := by rw [X'.admits.platform]
    have hk6 : k < 1000000 := by omega
    obtain ⟨ce, r1, r2, r3, r4⟩ := pAt_o hk2 (show jCl[1]? = some (RX1, TX1, 8) from rfl) (hr.2.1 k hk1)
    have hcl : s.vm.findClass "DogsHour$Fault" = some ce.cls := by rw [r2]; exact (hKK.1.1 1 _ (show jCl[1]? = some (RX1, TX1, 8) from rfl)).2.1
    obtain ⟨c5, hc5, hcl5⟩ := Cond.classLink_spec hown (hts _ hlink) e.platform hpl
    have hc5' : c5 = ce.cls := Option.some.inj (hc5.symm.trans hcl)
    obtain ⟨vm', X9, st9⟩ := X'.thenCaughtThrough ((gH Γ).size + k) (g := F0 m pc lsA (st.map (pv Γ))) rfl (Steps.refl _) r1 (by rw [r3]; rfl) (by obtain ⟨k9, h9, -⟩ := Vm.findClass_spec hcl; exact ⟨k9, h9⟩) [] ⟨lo, hi, hp, ct⟩ [] (by rw [htab]; rfl)
      (fun z hz => nomatch hz) (by simp [covers]; omega) (Or.inr ⟨hct, c5, hcl5, by rw [hc5']; exact va_asg _ _⟩)
    obtain ⟨t, a1, b1⟩ := kx k u hq p e R s m args below meth c U'.heap (locs ++ Ln) (cells + kY) (slots + sY) mc ms lsA hS ⟨hr, hlo', by omega, by omega, by omega⟩ hl (U'.setVm vm') rfl X9
    rw [List.map_cons, pv_lt hk6] at a1
    exact ⟨t, stp.trans (st9.trans a1), b1⟩
variable {y : MethodName} {cY : ByteArray} {LY nY dY kY sY : Nat} {rY : Option FieldType} {index : Nat} {As stk : List Value} {b : Nat}
theorem j_callVH {lo hi hp ct : Nat} {C : String} (hct : ct ≠ 0) (hlink : Cond.classLink own ct "DogsHour$Fault" ∈ lw_all) (hlo2 : lo ≤ pc) (hhi : pc < hi) (hM : jMet Γ y cY LY rY [] dY kY sY (.ref b :: As) σ Q') (f : jY y cY LY rY nY) (hC : y.cls = C) (w1 : Cond.methodLink own index y ∈ lw_all) (w2 : Cond.instanceMethod y ∈ lw_all) (w3 : Cond.selects C y y ∈ lw_all) (hb6 : b < 2000000) (hIs : ∀ (s : State) (H : Heap), jKK Γ s → jHR Γ σ H → σ.1 ≤ 1000000 → jIs Γ s H b C) (hn : As.length = nY) (hst : (st.map fun v => v.category).sum ≤ 8) (hk : As.reverse ++ .ref b :: st = stk) (hd : dY + 1 ≤ dd) (h1 : kc' + kY ≤ kc) (h2 : ks' + sY ≤ ks) (d : decode cc pc = .ok (.invokevirtual index, 3))
    (kn : ∀ (v : Option Value) (u : pS), Q' (.inl v) u → J Γ own cc L ret nm [(lo, hi, hp, ct)] dd kc' ks' (pc + 3) ls (v.toList ++ st) u Q) (kx : ∀ (k : Nat) (u : pS), Q' (.inr k) u → J Γ own cc L ret nm [(lo, hi, hp, ct)] dd kc' ks' hp ls [.ref k] u Q) : J Γ own cc L ret nm [(lo, hi, hp, ct)] dd kc ks pc ls stk σ Q := by
  intro p e R s m args below meth c H locs cells slots mc ms lsA hS hD hl
  subst hk
  have hK := jY_back (e := e) (below := below) (len := 3) f hM hS hd
  obtain ⟨hx, hb, -, -, hml, -, hown, hts, -, hKK, -, -, -, hmc, hms⟩ := id hS
  obtain ⟨hHR, hlo, g1, g2, g3⟩ := id hD
  obtain ⟨cell, r1, r2, r3⟩ := hIs s H hKK hHR (by omega)
  intro T hT X
  rw [j_stk, pv_lt2 hb6]
  rcases vx_callV X hx (C := C) (bytes := cY) (maxL := LY) (ret := rY) hown (hts _ w1) (hts _ w2) (hts _ w3) (hts _ f.1) f.2.2.1 hK (by rw [hT]; exact r1) r2 r3 (g := F0 m pc lsA _) rfl (by rw [hml]; exact hl.1) (argsL := As.map (pv Γ)) (rest := st.map (pv Γ)) (jY_len f (by rw [List.length_map]; exact hn)) rfl (lv_room (by rw [j_cats hS]; exact hst)) (by rw [hb]; exact d)
    (fun vm₁ hW₁ => ⟨show cells + kY ≤ R.cells by omega, show slots + sY ≤ R.slots by omega, by rw [List.map_cons, pv_lt2 hb6], by show jHR Γ σ T.heap; rw [hT]; exact hHR, hKK.warm hW₁, by omega⟩) with ⟨v, vm₁, B, hW₁, X', hpost, stp⟩ | ⟨q, vm₁, B, hW₁, X', hpost, stp⟩
  · exact j_behindH hS hD hl h1 h2 hct hlink hlo2 hhi rfl kn kx (Or.inl ⟨v, B, X', hpost, stp⟩)
  · exact j_behindH hS hD hl h1 h2 hct hlink hlo2 hhi rfl kn kx (Or.inr ⟨q, B, X', hpost, stp⟩)
/-- a call of a method that has handlers -/
def jYW (y : MethodName) (cY : ByteArray) (LY : Nat) (rY : Option FieldType) (hh : List (Nat × Nat × Nat × Nat)) (nY : Nat) : Prop := Cond.codeWith y cY LY rY hh ∈ lw_all ∧ Cond.initialized y.cls ∈ lw_all ∧ (y.cls ≠ "java/lang/invoke/MethodHandle" ∧ y.cls ≠ "java/lang/invoke/VarHandle") ∧ (parseMethodDescriptor y.desc).map (fun d => d.parameters.length) = some nY ∧ LY ≤ 45 ∧ hh ≠ []
theorem j_callVW {C : String} {hY : List (Nat × Nat × Nat × Nat)} (hM : jMet Γ y cY LY rY hY dY kY sY (.ref b :: As) σ Q') (f : jYW y cY LY rY hY nY) (hC : y.cls = C) (w1 : Cond.methodLink own index y ∈ lw_all) (w2 : Cond.instanceMethod y ∈ lw_all) (w3 : Cond.selects C y y ∈ lw_all) (hb6 : b < 2000000) (hIs : ∀ (s : State) (H : Heap), jKK Γ s → jHR Γ σ H → σ.1 ≤ 1000000 → jIs Γ s H b C) (hn : As.length = nY) (hst : (st.map fun v => v.category).sum ≤ 8) (hk : As.reverse ++ .ref b :: st = stk) (hd : dY + 1 ≤ dd) (h1 : kc' + kY ≤ kc) (h2 : ks' + sY ≤ ks) (d : decode cc pc = .ok (.invokevirtual index, 3))
    (kn : ∀ (v : Option Value) (u : pS), Q' (.inl v) u → J Γ own cc L ret nm [] dd kc' ks' (pc + 3) ls (v.toList ++ st) u Q) (kx : ∀ (k : Nat) (u : pS), Q' (.inr k) u → Q (.inr k) u) : J Γ own cc L ret nm [] dd kc ks pc ls stk σ Q := by
  intro p e R s m args below meth c H locs cells slots mc ms lsA hS hD hl
  subst hk
  obtain ⟨hx, hb, -, -, hml, -, hown, hts, -, hKK, -, hfr, hlc, hmc, hms⟩ := id hS
  have hM' : jMetW Γ y (wsW_ y cY LY rY hY) dY kY sY (.ref b :: As) σ Q' := by
    have h9 := hM
    unfold jMet at h9
    rw [if_neg f.2.2.2.2.2] at h9
    exact h9
  have hws : ∀ w ∈ wsW_ y cY LY rY hY, ∀ (a' : Array Value) (U : State), s.WarmedH U.vm → w.before a' U = true := pay_in hts (lw_methW f.1)
  have hK : vx_Back (gl Γ) R p e below s args y 3 8 (PreOf R kY sY (jPc Γ kY (.ref b :: As) σ)) (jPost Γ Q' (σ.1 + kY) kY sY) (jPostX Γ Q' (σ.1 + kY) kY sY) := j_back (maxL := LY) hM' (by omega) (by have := f.2.2.2.2.1; omega) hws (fun U mk hW hn => by
    obtain ⟨m9, meth9, c9, hn9, a1, a2, -, a4, -⟩ := Cond.codeWith_spec (hws _ List.mem_cons_self #[] U hW)
    cases Option.some.inj (hn9.symm.trans hn)
    exact ⟨meth9, c9, a1, a2, a4⟩) (fun a' U hW => word_at hW (Or.inl (by first | rfl | simp [Cond.onTables, Cond.keeps, Cond.steady])) (hts _ f.2.1))
  have hlenY : ∀ sig, parseMethodDescriptor y.desc = some sig → (As.map (pv Γ)).length = sig.parameters.length := by
    intro sig h9
    have h8 := f.2.2.2.1
    rw [h9] at h8
    rw [List.length_map, hn]
    exact (Option.some.inj h8).symm
  obtain ⟨hHR, hlo, g1, g2, g3⟩ := id hD
  obtain ⟨cell, r1, r2, r3⟩ := hIs s H hKK hHR (by omega)
  intro T hT X
  rw [j_stk, pv_lt2 hb6]
  rcases vx_callVX X hx (C := C) (hh := hY) (bytes := cY) (maxL := LY) (ret := rY) hown (hts _ w1) (hts _ w2) (hts _ w3) (hts _ f.1) f.2.2.1 hK (by rw [hT]; exact r1) r2 r3 (g := F0 m pc lsA _) rfl (by rw [hml]; exact hl.1) (argsL := As.map (pv Γ)) (rest := st.map (pv Γ)) hlenY rfl (lv_room (by rw [j_cats hS]; exact hst)) (by rw [hb]; exact d)
    (fun vm₁ hW₁ => ⟨show cells + kY ≤ R.cells by omega, show slots + sY ≤ R.slots by omega, by rw [List.map_cons, pv_lt2 hb6], by show jHR Γ σ T.heap; rw [hT]; exact hHR, hKK.warm hW₁, by omega⟩) with ⟨v, vm₁, B, hW₁, X', hpost, stp⟩ | ⟨q, vm₁, B, hW₁, X', hpost, stp⟩
  · exact j_behind hS hD hl h1 h2 rfl kn kx (Or.inl ⟨v, B, X', hpost, stp⟩)
  · exact j_behind hS hD hl h1 h2 rfl kn kx (Or.inr ⟨q, B, X', hpost, stp⟩)
end JHD
