set_option maxRecDepth 100000
section JAC
variable {Γ : jG} {own : String} {cc : ByteArray} {L : Nat} {ret : Option FieldType} {nm : String} {hh : List (Nat × Nat × Nat × Nat)} {dd kc ks pc : Nat} {ls : List (Nat × Value)} {st : List Value} {σ : pS} {Q : jO → pS → Prop}
theorem j_acmpE {x y : Nat} {off : Int} {tgt : Nat} (b : Bool) (d : decode cc pc = .ok (.if_acmp (if b then .eq else .ne) off, 3)) (ht : (pc : Int) + off = (tgt : Int)) (hx : x < 2000000) (c : x = y) (k : J Γ own cc L ret nm hh dd kc ks (if b then tgt else pc + 3) ls st σ Q) : J Γ own cc L ret nm hh dd kc ks pc ls (.ref y :: .ref x :: st) σ Q := by
  subst c
  exact j_acmpS b d ht hx k
end JAC
