set_option maxRecDepth 100000
/-! where the words on the strings stand -/
def lj_tm (i : Nat) : Term := .string (jSr.getD i ("", 0, "")).1 (jSr.getD i ("", 0, "")).2.1
theorem lx_ex : ∀ i : Nat, i < 24 → Cond.exactly (lj_tm i) "java/lang/String" ∈ flatC (.and given_1 narrow_1)
  | 0, _ => List.mem_of_getElem? (i := 151) rfl
  | 1, _ => List.mem_of_getElem? (i := 155) rfl
  | 2, _ => List.mem_of_getElem? (i := 165) rfl
  | 3, _ => List.mem_of_getElem? (i := 175) rfl
  | 4, _ => List.mem_of_getElem? (i := 185) rfl
  | 5, _ => List.mem_of_getElem? (i := 199) rfl
  | 6, _ => List.mem_of_getElem? (i := 214) rfl
  | 7, _ => List.mem_of_getElem? (i := 229) rfl
  | 8, _ => List.mem_of_getElem? (i := 245) rfl
  | 9, _ => List.mem_of_getElem? (i := 262) rfl
  | 10, _ => List.mem_of_getElem? (i := 279) rfl
  | 11, _ => List.mem_of_getElem? (i := 297) rfl
  | 12, _ => List.mem_of_getElem? (i := 318) rfl
  | 13, _ => List.mem_of_getElem? (i := 336) rfl
  | 14, _ => List.mem_of_getElem? (i := 357) rfl
  | 15, _ => List.mem_of_getElem? (i := 379) rfl
  | 16, _ => List.mem_of_getElem? (i := 401) rfl
  | 17, _ => List.mem_of_getElem? (i := 427) rfl
  | 18, _ => List.mem_of_getElem? (i := 451) rfl
  | 19, _ => List.mem_of_getElem? (i := 479) rfl
  | 20, _ => List.mem_of_getElem? (i := 506) rfl
  | 21, _ => List.mem_of_getElem? (i := 536) rfl
  | 22, _ => List.mem_of_getElem? (i := 567) rfl
  | 23, _ => List.mem_of_getElem? (i := 598) rfl
  | n + 24, h => absurd h (by omega)
theorem lx_co : ∀ i : Nat, i < 24 → Cond.eq (.field (lj_tm i) "java/lang/String" "coder" "B") (.int 0) ∈ flatC (.and given_1 narrow_1)
  | 0, _ => List.mem_of_getElem? (i := 152) rfl
  | 1, _ => List.mem_of_getElem? (i := 156) rfl
  | 2, _ => List.mem_of_getElem? (i := 166) rfl
  | 3, _ => List.mem_of_getElem? (i := 176) rfl
  | 4, _ => List.mem_of_getElem? (i := 186) rfl
  | 5, _ => List.mem_of_getElem? (i := 200) rfl
  | 6, _ => List.mem_of_getElem? (i := 215) rfl
  | 7, _ => List.mem_of_getElem? (i := 230) rfl
  | 8, _ => List.mem_of_getElem? (i := 246) rfl
  | 9, _ => List.mem_of_getElem? (i := 263) rfl
  | 10, _ => List.mem_of_getElem? (i := 280) rfl
  | 11, _ => List.mem_of_getElem? (i := 298) rfl
  | 12, _ => List.mem_of_getElem? (i := 319) rfl
  | 13, _ => List.mem_of_getElem? (i := 337) rfl
  | 14, _ => List.mem_of_getElem? (i := 358) rfl
  | 15, _ => List.mem_of_getElem? (i := 380) rfl
  | 16, _ => List.mem_of_getElem? (i := 402) rfl
  | 17, _ => List.mem_of_getElem? (i := 428) rfl
  | 18, _ => List.mem_of_getElem? (i := 452) rfl
  | 19, _ => List.mem_of_getElem? (i := 480) rfl
  | 20, _ => List.mem_of_getElem? (i := 507) rfl
  | 21, _ => List.mem_of_getElem? (i := 537) rfl
  | 22, _ => List.mem_of_getElem? (i := 568) rfl
  | 23, _ => List.mem_of_getElem? (i := 599) rfl
  | n + 24, h => absurd h (by omega)
theorem lx_ar : ∀ i : Nat, i < 24 → Cond.arrayOf (.field (lj_tm i) "java/lang/String" "value" "[B") .byte ∈ flatC (.and given_1 narrow_1)
  | 0, _ => List.mem_of_getElem? (i := 153) rfl
  | 1, _ => List.mem_of_getElem? (i := 157) rfl
  | 2, _ => List.mem_of_getElem? (i := 167) rfl
  | 3, _ => List.mem_of_getElem? (i := 177) rfl
  | 4, _ => List.mem_of_getElem? (i := 187) rfl
  | 5, _ => List.mem_of_getElem? (i := 201) rfl
  | 6, _ => List.mem_of_getElem? (i := 216) rfl
  | 7, _ => List.mem_of_getElem? (i := 231) rfl
  | 8, _ => List.mem_of_getElem? (i := 247) rfl
  | 9, _ => List.mem_of_getElem? (i := 264) rfl
  | 10, _ => List.mem_of_getElem? (i := 281) rfl
  | 11, _ => List.mem_of_getElem? (i := 299) rfl
  | 12, _ => List.mem_of_getElem? (i := 320) rfl
  | 13, _ => List.mem_of_getElem? (i := 338) rfl
  | 14, _ => List.mem_of_getElem? (i := 359) rfl
  | 15, _ => List.mem_of_getElem? (i := 381) rfl
  | 16, _ => List.mem_of_getElem? (i := 403) rfl
  | 17, _ => List.mem_of_getElem? (i := 429) rfl
  | 18, _ => List.mem_of_getElem? (i := 453) rfl
  | 19, _ => List.mem_of_getElem? (i := 481) rfl
  | 20, _ => List.mem_of_getElem? (i := 508) rfl
  | 21, _ => List.mem_of_getElem? (i := 538) rfl
  | 22, _ => List.mem_of_getElem? (i := 569) rfl
  | 23, _ => List.mem_of_getElem? (i := 600) rfl
  | n + 24, h => absurd h (by omega)
theorem lx_le : ∀ i : Nat, i < 24 → Cond.eq (.length (.field (lj_tm i) "java/lang/String" "value" "[B")) (.int (Int32.ofNat (jSl.getD i 0))) ∈ flatC (.and given_1 narrow_1)
  | 0, _ => List.mem_of_getElem? (i := 154) rfl
  | 1, _ => List.mem_of_getElem? (i := 158) rfl
  | 2, _ => List.mem_of_getElem? (i := 168) rfl
  | 3, _ => List.mem_of_getElem? (i := 178) rfl
  | 4, _ => List.mem_of_getElem? (i := 188) rfl
  | 5, _ => List.mem_of_getElem? (i := 202) rfl
  | 6, _ => List.mem_of_getElem? (i := 217) rfl
  | 7, _ => List.mem_of_getElem? (i := 232) rfl
  | 8, _ => List.mem_of_getElem? (i := 248) rfl
  | 9, _ => List.mem_of_getElem? (i := 265) rfl
  | 10, _ => List.mem_of_getElem? (i := 282) rfl
  | 11, _ => List.mem_of_getElem? (i := 300) rfl
  | 12, _ => List.mem_of_getElem? (i := 321) rfl
  | 13, _ => List.mem_of_getElem? (i := 339) rfl
  | 14, _ => List.mem_of_getElem? (i := 360) rfl
  | 15, _ => List.mem_of_getElem? (i := 382) rfl
  | 16, _ => List.mem_of_getElem? (i := 404) rfl
  | 17, _ => List.mem_of_getElem? (i := 430) rfl
  | 18, _ => List.mem_of_getElem? (i := 454) rfl
  | 19, _ => List.mem_of_getElem? (i := 482) rfl
  | 20, _ => List.mem_of_getElem? (i := 509) rfl
  | 21, _ => List.mem_of_getElem? (i := 539) rfl
  | 22, _ => List.mem_of_getElem? (i := 570) rfl
  | 23, _ => List.mem_of_getElem? (i := 601) rfl
  | n + 24, h => absurd h (by omega)
theorem lx_el0 : ∀ j : Nat, j < 0 → Cond.eq (.elem (.field (lj_tm 0) "java/lang/String" "value" "[B") (.int (Int32.ofNat j))) (.int ((jSb.getD 0 []).getD j 0)) ∈ flatC (.and given_1 narrow_1)
  | n, h => absurd h (by omega)
theorem lx_el1 : ∀ j : Nat, j < 5 → Cond.eq (.elem (.field (lj_tm 1) "java/lang/String" "value" "[B") (.int (Int32.ofNat j))) (.int ((jSb.getD 1 []).getD j 0)) ∈ flatC (.and given_1 narrow_1)
  | 0, _ => List.mem_of_getElem? (i := 159) rfl
  | 1, _ => List.mem_of_getElem? (i := 160) rfl
  | 2, _ => List.mem_of_getElem? (i := 161) rfl
  | 3, _ => List.mem_of_getElem? (i := 162) rfl
  | 4, _ => List.mem_of_getElem? (i := 163) rfl
  | n + 5, h => absurd h (by omega)
theorem lx_el2 : ∀ j : Nat, j < 4 → Cond.eq (.elem (.field (lj_tm 2) "java/lang/String" "value" "[B") (.int (Int32.ofNat j))) (.int ((jSb.getD 2 []).getD j 0)) ∈ flatC (.and given_1 narrow_1)
  | 0, _ => List.mem_of_getElem? (i := 169) rfl
  | 1, _ => List.mem_of_getElem? (i := 170) rfl
  | 2, _ => List.mem_of_getElem? (i := 171) rfl
  | 3, _ => List.mem_of_getElem? (i := 172) rfl
  | n + 4, h => absurd h (by omega)
theorem lx_el3 : ∀ j : Nat, j < 3 → Cond.eq (.elem (.field (lj_tm 3) "java/lang/String" "value" "[B") (.int (Int32.ofNat j))) (.int ((jSb.getD 3 []).getD j 0)) ∈ flatC (.and given_1 narrow_1)
  | 0, _ => List.mem_of_getElem? (i := 179) rfl
  | 1, _ => List.mem_of_getElem? (i := 180) rfl
  | 2, _ => List.mem_of_getElem? (i := 181) rfl
  | n + 3, h => absurd h (by omega)
theorem lx_el4 : ∀ j : Nat, j < 6 → Cond.eq (.elem (.field (lj_tm 4) "java/lang/String" "value" "[B") (.int (Int32.ofNat j))) (.int ((jSb.getD 4 []).getD j 0)) ∈ flatC (.and given_1 narrow_1)
  | 0, _ => List.mem_of_getElem? (i := 189) rfl
  | 1, _ => List.mem_of_getElem? (i := 190) rfl
  | 2, _ => List.mem_of_getElem? (i := 191) rfl
  | 3, _ => List.mem_of_getElem? (i := 192) rfl
  | 4, _ => List.mem_of_getElem? (i := 193) rfl
  | 5, _ => List.mem_of_getElem? (i := 194) rfl
  | n + 6, h => absurd h (by omega)
theorem lx_el5 : ∀ j : Nat, j < 6 → Cond.eq (.elem (.field (lj_tm 5) "java/lang/String" "value" "[B") (.int (Int32.ofNat j))) (.int ((jSb.getD 5 []).getD j 0)) ∈ flatC (.and given_1 narrow_1)
  | 0, _ => List.mem_of_getElem? (i := 203) rfl
  | 1, _ => List.mem_of_getElem? (i := 204) rfl
  | 2, _ => List.mem_of_getElem? (i := 205) rfl
  | 3, _ => List.mem_of_getElem? (i := 206) rfl
  | 4, _ => List.mem_of_getElem? (i := 207) rfl
  | 5, _ => List.mem_of_getElem? (i := 208) rfl
  | n + 6, h => absurd h (by omega)
theorem lx_el6 : ∀ j : Nat, j < 5 → Cond.eq (.elem (.field (lj_tm 6) "java/lang/String" "value" "[B") (.int (Int32.ofNat j))) (.int ((jSb.getD 6 []).getD j 0)) ∈ flatC (.and given_1 narrow_1)
  | 0, _ => List.mem_of_getElem? (i := 218) rfl
  | 1, _ => List.mem_of_getElem? (i := 219) rfl
  | 2, _ => List.mem_of_getElem? (i := 220) rfl
  | 3, _ => List.mem_of_getElem? (i := 221) rfl
  | 4, _ => List.mem_of_getElem? (i := 222) rfl
  | n + 5, h => absurd h (by omega)
theorem lx_el7 : ∀ j : Nat, j < 5 → Cond.eq (.elem (.field (lj_tm 7) "java/lang/String" "value" "[B") (.int (Int32.ofNat j))) (.int ((jSb.getD 7 []).getD j 0)) ∈ flatC (.and given_1 narrow_1)
  | 0, _ => List.mem_of_getElem? (i := 233) rfl
  | 1, _ => List.mem_of_getElem? (i := 234) rfl
  | 2, _ => List.mem_of_getElem? (i := 235) rfl
  | 3, _ => List.mem_of_getElem? (i := 236) rfl
  | 4, _ => List.mem_of_getElem? (i := 237) rfl
  | n + 5, h => absurd h (by omega)
theorem lx_el8 : ∀ j : Nat, j < 5 → Cond.eq (.elem (.field (lj_tm 8) "java/lang/String" "value" "[B") (.int (Int32.ofNat j))) (.int ((jSb.getD 8 []).getD j 0)) ∈ flatC (.and given_1 narrow_1)
  | 0, _ => List.mem_of_getElem? (i := 249) rfl
  | 1, _ => List.mem_of_getElem? (i := 250) rfl
  | 2, _ => List.mem_of_getElem? (i := 251) rfl
  | 3, _ => List.mem_of_getElem? (i := 252) rfl
  | 4, _ => List.mem_of_getElem? (i := 253) rfl
  | n + 5, h => absurd h (by omega)
theorem lx_el9 : ∀ j : Nat, j < 4 → Cond.eq (.elem (.field (lj_tm 9) "java/lang/String" "value" "[B") (.int (Int32.ofNat j))) (.int ((jSb.getD 9 []).getD j 0)) ∈ flatC (.and given_1 narrow_1)
  | 0, _ => List.mem_of_getElem? (i := 266) rfl
  | 1, _ => List.mem_of_getElem? (i := 267) rfl
  | 2, _ => List.mem_of_getElem? (i := 268) rfl
  | 3, _ => List.mem_of_getElem? (i := 269) rfl
  | n + 4, h => absurd h (by omega)
theorem lx_el10 : ∀ j : Nat, j < 4 → Cond.eq (.elem (.field (lj_tm 10) "java/lang/String" "value" "[B") (.int (Int32.ofNat j))) (.int ((jSb.getD 10 []).getD j 0)) ∈ flatC (.and given_1 narrow_1)
  | 0, _ => List.mem_of_getElem? (i := 283) rfl
  | 1, _ => List.mem_of_getElem? (i := 284) rfl
  | 2, _ => List.mem_of_getElem? (i := 285) rfl
  | 3, _ => List.mem_of_getElem? (i := 286) rfl
  | n + 4, h => absurd h (by omega)
theorem lx_el11 : ∀ j : Nat, j < 6 → Cond.eq (.elem (.field (lj_tm 11) "java/lang/String" "value" "[B") (.int (Int32.ofNat j))) (.int ((jSb.getD 11 []).getD j 0)) ∈ flatC (.and given_1 narrow_1)
  | 0, _ => List.mem_of_getElem? (i := 301) rfl
  | 1, _ => List.mem_of_getElem? (i := 302) rfl
  | 2, _ => List.mem_of_getElem? (i := 303) rfl
  | 3, _ => List.mem_of_getElem? (i := 304) rfl
  | 4, _ => List.mem_of_getElem? (i := 305) rfl
  | 5, _ => List.mem_of_getElem? (i := 306) rfl
  | n + 6, h => absurd h (by omega)
theorem lx_el12 : ∀ j : Nat, j < 2 → Cond.eq (.elem (.field (lj_tm 12) "java/lang/String" "value" "[B") (.int (Int32.ofNat j))) (.int ((jSb.getD 12 []).getD j 0)) ∈ flatC (.and given_1 narrow_1)
  | 0, _ => List.mem_of_getElem? (i := 322) rfl
  | 1, _ => List.mem_of_getElem? (i := 323) rfl
  | n + 2, h => absurd h (by omega)
theorem lx_el13 : ∀ j : Nat, j < 4 → Cond.eq (.elem (.field (lj_tm 13) "java/lang/String" "value" "[B") (.int (Int32.ofNat j))) (.int ((jSb.getD 13 []).getD j 0)) ∈ flatC (.and given_1 narrow_1)
  | 0, _ => List.mem_of_getElem? (i := 340) rfl
  | 1, _ => List.mem_of_getElem? (i := 341) rfl
  | 2, _ => List.mem_of_getElem? (i := 342) rfl
  | 3, _ => List.mem_of_getElem? (i := 343) rfl
  | n + 4, h => absurd h (by omega)
theorem lx_el14 : ∀ j : Nat, j < 4 → Cond.eq (.elem (.field (lj_tm 14) "java/lang/String" "value" "[B") (.int (Int32.ofNat j))) (.int ((jSb.getD 14 []).getD j 0)) ∈ flatC (.and given_1 narrow_1)
  | 0, _ => List.mem_of_getElem? (i := 361) rfl
  | 1, _ => List.mem_of_getElem? (i := 362) rfl
  | 2, _ => List.mem_of_getElem? (i := 363) rfl
  | 3, _ => List.mem_of_getElem? (i := 364) rfl
  | n + 4, h => absurd h (by omega)
theorem lx_el15 : ∀ j : Nat, j < 3 → Cond.eq (.elem (.field (lj_tm 15) "java/lang/String" "value" "[B") (.int (Int32.ofNat j))) (.int ((jSb.getD 15 []).getD j 0)) ∈ flatC (.and given_1 narrow_1)
  | 0, _ => List.mem_of_getElem? (i := 383) rfl
  | 1, _ => List.mem_of_getElem? (i := 384) rfl
  | 2, _ => List.mem_of_getElem? (i := 385) rfl
  | n + 3, h => absurd h (by omega)
theorem lx_el16 : ∀ j : Nat, j < 6 → Cond.eq (.elem (.field (lj_tm 16) "java/lang/String" "value" "[B") (.int (Int32.ofNat j))) (.int ((jSb.getD 16 []).getD j 0)) ∈ flatC (.and given_1 narrow_1)
  | 0, _ => List.mem_of_getElem? (i := 405) rfl
  | 1, _ => List.mem_of_getElem? (i := 406) rfl
  | 2, _ => List.mem_of_getElem? (i := 407) rfl
  | 3, _ => List.mem_of_getElem? (i := 408) rfl
  | 4, _ => List.mem_of_getElem? (i := 409) rfl
  | 5, _ => List.mem_of_getElem? (i := 410) rfl
  | n + 6, h => absurd h (by omega)
theorem lx_el17 : ∀ j : Nat, j < 3 → Cond.eq (.elem (.field (lj_tm 17) "java/lang/String" "value" "[B") (.int (Int32.ofNat j))) (.int ((jSb.getD 17 []).getD j 0)) ∈ flatC (.and given_1 narrow_1)
  | 0, _ => List.mem_of_getElem? (i := 431) rfl
  | 1, _ => List.mem_of_getElem? (i := 432) rfl
  | 2, _ => List.mem_of_getElem? (i := 433) rfl
  | n + 3, h => absurd h (by omega)
theorem lx_el18 : ∀ j : Nat, j < 6 → Cond.eq (.elem (.field (lj_tm 18) "java/lang/String" "value" "[B") (.int (Int32.ofNat j))) (.int ((jSb.getD 18 []).getD j 0)) ∈ flatC (.and given_1 narrow_1)
  | 0, _ => List.mem_of_getElem? (i := 455) rfl
  | 1, _ => List.mem_of_getElem? (i := 456) rfl
  | 2, _ => List.mem_of_getElem? (i := 457) rfl
  | 3, _ => List.mem_of_getElem? (i := 458) rfl
  | 4, _ => List.mem_of_getElem? (i := 459) rfl
  | 5, _ => List.mem_of_getElem? (i := 460) rfl
  | n + 6, h => absurd h (by omega)
theorem lx_el19 : ∀ j : Nat, j < 4 → Cond.eq (.elem (.field (lj_tm 19) "java/lang/String" "value" "[B") (.int (Int32.ofNat j))) (.int ((jSb.getD 19 []).getD j 0)) ∈ flatC (.and given_1 narrow_1)
  | 0, _ => List.mem_of_getElem? (i := 483) rfl
  | 1, _ => List.mem_of_getElem? (i := 484) rfl
  | 2, _ => List.mem_of_getElem? (i := 485) rfl
  | 3, _ => List.mem_of_getElem? (i := 486) rfl
  | n + 4, h => absurd h (by omega)
theorem lx_el20 : ∀ j : Nat, j < 6 → Cond.eq (.elem (.field (lj_tm 20) "java/lang/String" "value" "[B") (.int (Int32.ofNat j))) (.int ((jSb.getD 20 []).getD j 0)) ∈ flatC (.and given_1 narrow_1)
  | 0, _ => List.mem_of_getElem? (i := 510) rfl
  | 1, _ => List.mem_of_getElem? (i := 511) rfl
  | 2, _ => List.mem_of_getElem? (i := 512) rfl
  | 3, _ => List.mem_of_getElem? (i := 513) rfl
  | 4, _ => List.mem_of_getElem? (i := 514) rfl
  | 5, _ => List.mem_of_getElem? (i := 515) rfl
  | n + 6, h => absurd h (by omega)
theorem lx_el21 : ∀ j : Nat, j < 6 → Cond.eq (.elem (.field (lj_tm 21) "java/lang/String" "value" "[B") (.int (Int32.ofNat j))) (.int ((jSb.getD 21 []).getD j 0)) ∈ flatC (.and given_1 narrow_1)
  | 0, _ => List.mem_of_getElem? (i := 540) rfl
  | 1, _ => List.mem_of_getElem? (i := 541) rfl
  | 2, _ => List.mem_of_getElem? (i := 542) rfl
  | 3, _ => List.mem_of_getElem? (i := 543) rfl
  | 4, _ => List.mem_of_getElem? (i := 544) rfl
  | 5, _ => List.mem_of_getElem? (i := 545) rfl
  | n + 6, h => absurd h (by omega)
theorem lx_el22 : ∀ j : Nat, j < 5 → Cond.eq (.elem (.field (lj_tm 22) "java/lang/String" "value" "[B") (.int (Int32.ofNat j))) (.int ((jSb.getD 22 []).getD j 0)) ∈ flatC (.and given_1 narrow_1)
  | 0, _ => List.mem_of_getElem? (i := 571) rfl
  | 1, _ => List.mem_of_getElem? (i := 572) rfl
  | 2, _ => List.mem_of_getElem? (i := 573) rfl
  | 3, _ => List.mem_of_getElem? (i := 574) rfl
  | 4, _ => List.mem_of_getElem? (i := 575) rfl
  | n + 5, h => absurd h (by omega)
theorem lx_el23 : ∀ j : Nat, j < 5 → Cond.eq (.elem (.field (lj_tm 23) "java/lang/String" "value" "[B") (.int (Int32.ofNat j))) (.int ((jSb.getD 23 []).getD j 0)) ∈ flatC (.and given_1 narrow_1)
  | 0, _ => List.mem_of_getElem? (i := 602) rfl
  | 1, _ => List.mem_of_getElem? (i := 603) rfl
  | 2, _ => List.mem_of_getElem? (i := 604) rfl
  | 3, _ => List.mem_of_getElem? (i := 605) rfl
  | 4, _ => List.mem_of_getElem? (i := 606) rfl
  | n + 5, h => absurd h (by omega)
theorem lx_el : ∀ i : Nat, i < 24 → ∀ j : Nat, j < jSl.getD i 0 → Cond.eq (.elem (.field (lj_tm i) "java/lang/String" "value" "[B") (.int (Int32.ofNat j))) (.int ((jSb.getD i []).getD j 0)) ∈ flatC (.and given_1 narrow_1)
  | 0, _ => lx_el0
  | 1, _ => lx_el1
  | 2, _ => lx_el2
  | 3, _ => lx_el3
  | 4, _ => lx_el4
  | 5, _ => lx_el5
  | 6, _ => lx_el6
  | 7, _ => lx_el7
  | 8, _ => lx_el8
  | 9, _ => lx_el9
  | 10, _ => lx_el10
  | 11, _ => lx_el11
  | 12, _ => lx_el12
  | 13, _ => lx_el13
  | 14, _ => lx_el14
  | 15, _ => lx_el15
  | 16, _ => lx_el16
  | 17, _ => lx_el17
  | 18, _ => lx_el18
  | 19, _ => lx_el19
  | 20, _ => lx_el20
  | 21, _ => lx_el21
  | 22, _ => lx_el22
  | 23, _ => lx_el23
  | n + 24, h => absurd h (by omega)
theorem lx_ne0 : ∀ i : Nat, i < 0 → Cond.not (.eq (lj_tm i) (lj_tm 0)) ∈ flatC (.and given_1 narrow_1)
  | n, h => absurd h (by omega)
theorem lx_ne1 : ∀ i : Nat, i < 1 → Cond.not (.eq (lj_tm i) (lj_tm 1)) ∈ flatC (.and given_1 narrow_1)
  | 0, _ => List.mem_of_getElem? (i := 164) rfl
  | n + 1, h => absurd h (by omega)
theorem lx_ne2 : ∀ i : Nat, i < 2 → Cond.not (.eq (lj_tm i) (lj_tm 2)) ∈ flatC (.and given_1 narrow_1)
  | 0, _ => List.mem_of_getElem? (i := 173) rfl
  | 1, _ => List.mem_of_getElem? (i := 174) rfl
  | n + 2, h => absurd h (by omega)
theorem lx_ne3 : ∀ i : Nat, i < 3 → Cond.not (.eq (lj_tm i) (lj_tm 3)) ∈ flatC (.and given_1 narrow_1)
  | 0, _ => List.mem_of_getElem? (i := 182) rfl
  | 1, _ => List.mem_of_getElem? (i := 183) rfl
  | 2, _ => List.mem_of_getElem? (i := 184) rfl
  | n + 3, h => absurd h (by omega)
theorem lx_ne4 : ∀ i : Nat, i < 4 → Cond.not (.eq (lj_tm i) (lj_tm 4)) ∈ flatC (.and given_1 narrow_1)
  | 0, _ => List.mem_of_getElem? (i := 195) rfl
  | 1, _ => List.mem_of_getElem? (i := 196) rfl
  | 2, _ => List.mem_of_getElem? (i := 197) rfl
  | 3, _ => List.mem_of_getElem? (i := 198) rfl
  | n + 4, h => absurd h (by omega)
theorem lx_ne5 : ∀ i : Nat, i < 5 → Cond.not (.eq (lj_tm i) (lj_tm 5)) ∈ flatC (.and given_1 narrow_1)
  | 0, _ => List.mem_of_getElem? (i := 209) rfl
  | 1, _ => List.mem_of_getElem? (i := 210) rfl
  | 2, _ => List.mem_of_getElem? (i := 211) rfl
  | 3, _ => List.mem_of_getElem? (i := 212) rfl
  | 4, _ => List.mem_of_getElem? (i := 213) rfl
  | n + 5, h => absurd h (by omega)
theorem lx_ne6 : ∀ i : Nat, i < 6 → Cond.not (.eq (lj_tm i) (lj_tm 6)) ∈ flatC (.and given_1 narrow_1)
  | 0, _ => List.mem_of_getElem? (i := 223) rfl
  | 1, _ => List.mem_of_getElem? (i := 224) rfl
  | 2, _ => List.mem_of_getElem? (i := 225) rfl
  | 3, _ => List.mem_of_getElem? (i := 226) rfl
  | 4, _ => List.mem_of_getElem? (i := 227) rfl
  | 5, _ => List.mem_of_getElem? (i := 228) rfl
  | n + 6, h => absurd h (by omega)
theorem lx_ne7 : ∀ i : Nat, i < 7 → Cond.not (.eq (lj_tm i) (lj_tm 7)) ∈ flatC (.and given_1 narrow_1)
  | 0, _ => List.mem_of_getElem? (i := 238) rfl
  | 1, _ => List.mem_of_getElem? (i := 239) rfl
  | 2, _ => List.mem_of_getElem? (i := 240) rfl
  | 3, _ => List.mem_of_getElem? (i := 241) rfl
  | 4, _ => List.mem_of_getElem? (i := 242) rfl
  | 5, _ => List.mem_of_getElem? (i := 243) rfl
  | 6, _ => List.mem_of_getElem? (i := 244) rfl
  | n + 7, h => absurd h (by omega)
theorem lx_ne8 : ∀ i : Nat, i < 8 → Cond.not (.eq (lj_tm i) (lj_tm 8)) ∈ flatC (.and given_1 narrow_1)
  | 0, _ => List.mem_of_getElem? (i := 254) rfl
  | 1, _ => List.mem_of_getElem? (i := 255) rfl
  | 2, _ => List.mem_of_getElem? (i := 256) rfl
  | 3, _ => List.mem_of_getElem? (i := 257) rfl
  | 4, _ => List.mem_of_getElem? (i := 258) rfl
  | 5, _ => List.mem_of_getElem? (i := 259) rfl
  | 6, _ => List.mem_of_getElem? (i := 260) rfl
  | 7, _ => List.mem_of_getElem? (i := 261) rfl
  | n + 8, h => absurd h (by omega)
theorem lx_ne9 : ∀ i : Nat, i < 9 → Cond.not (.eq (lj_tm i) (lj_tm 9)) ∈ flatC (.and given_1 narrow_1)
  | 0, _ => List.mem_of_getElem? (i := 270) rfl
  | 1, _ => List.mem_of_getElem? (i := 271) rfl
  | 2, _ => List.mem_of_getElem? (i := 272) rfl
  | 3, _ => List.mem_of_getElem? (i := 273) rfl
  | 4, _ => List.mem_of_getElem? (i := 274) rfl
  | 5, _ => List.mem_of_getElem? (i := 275) rfl
  | 6, _ => List.mem_of_getElem? (i := 276) rfl
  | 7, _ => List.mem_of_getElem? (i := 277) rfl
  | 8, _ => List.mem_of_getElem? (i := 278) rfl
  | n + 9, h => absurd h (by omega)
theorem lx_ne10 : ∀ i : Nat, i < 10 → Cond.not (.eq (lj_tm i) (lj_tm 10)) ∈ flatC (.and given_1 narrow_1)
  | 0, _ => List.mem_of_getElem? (i := 287) rfl
  | 1, _ => List.mem_of_getElem? (i := 288) rfl
  | 2, _ => List.mem_of_getElem? (i := 289) rfl
  | 3, _ => List.mem_of_getElem? (i := 290) rfl
  | 4, _ => List.mem_of_getElem? (i := 291) rfl
  | 5, _ => List.mem_of_getElem? (i := 292) rfl
  | 6, _ => List.mem_of_getElem? (i := 293) rfl
  | 7, _ => List.mem_of_getElem? (i := 294) rfl
  | 8, _ => List.mem_of_getElem? (i := 295) rfl
  | 9, _ => List.mem_of_getElem? (i := 296) rfl
  | n + 10, h => absurd h (by omega)
theorem lx_ne11 : ∀ i : Nat, i < 11 → Cond.not (.eq (lj_tm i) (lj_tm 11)) ∈ flatC (.and given_1 narrow_1)
  | 0, _ => List.mem_of_getElem? (i := 307) rfl
  | 1, _ => List.mem_of_getElem? (i := 308) rfl
  | 2, _ => List.mem_of_getElem? (i := 309) rfl
  | 3, _ => List.mem_of_getElem? (i := 310) rfl
  | 4, _ => List.mem_of_getElem? (i := 311) rfl
  | 5, _ => List.mem_of_getElem? (i := 312) rfl
  | 6, _ => List.mem_of_getElem? (i := 313) rfl
  | 7, _ => List.mem_of_getElem? (i := 314) rfl
  | 8, _ => List.mem_of_getElem? (i := 315) rfl
  | 9, _ => List.mem_of_getElem? (i := 316) rfl
  | 10, _ => List.mem_of_getElem? (i := 317) rfl
  | n + 11, h => absurd h (by omega)
theorem lx_ne12 : ∀ i : Nat, i < 12 → Cond.not (.eq (lj_tm i) (lj_tm 12)) ∈ flatC (.and given_1 narrow_1)
  | 0, _ => List.mem_of_getElem? (i := 324) rfl
  | 1, _ => List.mem_of_getElem? (i := 325) rfl
  | 2, _ => List.mem_of_getElem? (i := 326) rfl
  | 3, _ => List.mem_of_getElem? (i := 327) rfl
  | 4, _ => List.mem_of_getElem? (i := 328) rfl
  | 5, _ => List.mem_of_getElem? (i := 329) rfl
  | 6, _ => List.mem_of_getElem? (i := 330) rfl
  | 7, _ => List.mem_of_getElem? (i := 331) rfl
  | 8, _ => List.mem_of_getElem? (i := 332) rfl
  | 9, _ => List.mem_of_getElem? (i := 333) rfl
  | 10, _ => List.mem_of_getElem? (i := 334) rfl
  | 11, _ => List.mem_of_getElem? (i := 335) rfl
  | n + 12, h => absurd h (by omega)
theorem lx_ne13 : ∀ i : Nat, i < 13 → Cond.not (.eq (lj_tm i) (lj_tm 13)) ∈ flatC (.and given_1 narrow_1)
  | 0, _ => List.mem_of_getElem? (i := 344) rfl
  | 1, _ => List.mem_of_getElem? (i := 345) rfl
  | 2, _ => List.mem_of_getElem? (i := 346) rfl
  | 3, _ => List.mem_of_getElem? (i := 347) rfl
  | 4, _ => List.mem_of_getElem? (i := 348) rfl
  | 5, _ => List.mem_of_getElem? (i := 349) rfl
  | 6, _ => List.mem_of_getElem? (i := 350) rfl
  | 7, _ => List.mem_of_getElem? (i := 351) rfl
  | 8, _ => List.mem_of_getElem? (i := 352) rfl
  | 9, _ => List.mem_of_getElem? (i := 353) rfl
  | 10, _ => List.mem_of_getElem? (i := 354) rfl
  | 11, _ => List.mem_of_getElem? (i := 355) rfl
  | 12, _ => List.mem_of_getElem? (i := 356) rfl
  | n + 13, h => absurd h (by omega)
theorem lx_ne14 : ∀ i : Nat, i < 14 → Cond.not (.eq (lj_tm i) (lj_tm 14)) ∈ flatC (.and given_1 narrow_1)
  | 0, _ => List.mem_of_getElem? (i := 365) rfl
  | 1, _ => List.mem_of_getElem? (i := 366) rfl
  | 2, _ => List.mem_of_getElem? (i := 367) rfl
  | 3, _ => List.mem_of_getElem? (i := 368) rfl
  | 4, _ => List.mem_of_getElem? (i := 369) rfl
  | 5, _ => List.mem_of_getElem? (i := 370) rfl
  | 6, _ => List.mem_of_getElem? (i := 371) rfl
  | 7, _ => List.mem_of_getElem? (i := 372) rfl
  | 8, _ => List.mem_of_getElem? (i := 373) rfl
  | 9, _ => List.mem_of_getElem? (i := 374) rfl
  | 10, _ => List.mem_of_getElem? (i := 375) rfl
  | 11, _ => List.mem_of_getElem? (i := 376) rfl
  | 12, _ => List.mem_of_getElem? (i := 377) rfl
  | 13, _ => List.mem_of_getElem? (i := 378) rfl
  | n + 14, h => absurd h (by omega)
theorem lx_ne15 : ∀ i : Nat, i < 15 → Cond.not (.eq (lj_tm i) (lj_tm 15)) ∈ flatC (.and given_1 narrow_1)
  | 0, _ => List.mem_of_getElem? (i := 386) rfl
  | 1, _ => List.mem_of_getElem? (i := 387) rfl
  | 2, _ => List.mem_of_getElem? (i := 388) rfl
  | 3, _ => List.mem_of_getElem? (i := 389) rfl
  | 4, _ => List.mem_of_getElem? (i := 390) rfl
  | 5, _ => List.mem_of_getElem? (i := 391) rfl
  | 6, _ => List.mem_of_getElem? (i := 392) rfl
  | 7, _ => List.mem_of_getElem? (i := 393) rfl
  | 8, _ => List.mem_of_getElem? (i := 394) rfl
  | 9, _ => List.mem_of_getElem? (i := 395) rfl
  | 10, _ => List.mem_of_getElem? (i := 396) rfl
  | 11, _ => List.mem_of_getElem? (i := 397) rfl
  | 12, _ => List.mem_of_getElem? (i := 398) rfl
  | 13, _ => List.mem_of_getElem? (i := 399) rfl
  | 14, _ => List.mem_of_getElem? (i := 400) rfl
  | n + 15, h => absurd h (by omega)
theorem lx_ne16 : ∀ i : Nat, i < 16 → Cond.not (.eq (lj_tm i) (lj_tm 16)) ∈ flatC (.and given_1 narrow_1)
  | 0, _ => List.mem_of_getElem? (i := 411) rfl
  | 1, _ => List.mem_of_getElem? (i := 412) rfl
  | 2, _ => List.mem_of_getElem? (i := 413) rfl
  | 3, _ => List.mem_of_getElem? (i := 414) rfl
  | 4, _ => List.mem_of_getElem? (i := 415) rfl
  | 5, _ => List.mem_of_getElem? (i := 416) rfl
  | 6, _ => List.mem_of_getElem? (i := 417) rfl
  | 7, _ => List.mem_of_getElem? (i := 418) rfl
  | 8, _ => List.mem_of_getElem? (i := 419) rfl
  | 9, _ => List.mem_of_getElem? (i := 420) rfl
  | 10, _ => List.mem_of_getElem? (i := 421) rfl
  | 11, _ => List.mem_of_getElem? (i := 422) rfl
  | 12, _ => List.mem_of_getElem? (i := 423) rfl
  | 13, _ => List.mem_of_getElem? (i := 424) rfl
  | 14, _ => List.mem_of_getElem? (i := 425) rfl
  | 15, _ => List.mem_of_getElem? (i := 426) rfl
  | n + 16, h => absurd h (by omega)
theorem lx_ne17 : ∀ i : Nat, i < 17 → Cond.not (.eq (lj_tm i) (lj_tm 17)) ∈ flatC (.and given_1 narrow_1)
  | 0, _ => List.mem_of_getElem? (i := 434) rfl
  | 1, _ => List.mem_of_getElem? (i := 435) rfl
  | 2, _ => List.mem_of_getElem? (i := 436) rfl
  | 3, _ => List.mem_of_getElem? (i := 437) rfl
  | 4, _ => List.mem_of_getElem? (i := 438) rfl
  | 5, _ => List.mem_of_getElem? (i := 439) rfl
  | 6, _ => List.mem_of_getElem? (i := 440) rfl
  | 7, _ => List.mem_of_getElem? (i := 441) rfl
  | 8, _ => List.mem_of_getElem? (i := 442) rfl
  | 9, _ => List.mem_of_getElem? (i := 443) rfl
  | 10, _ => List.mem_of_getElem? (i := 444) rfl
  | 11, _ => List.mem_of_getElem? (i := 445) rfl
  | 12, _ => List.mem_of_getElem? (i := 446) rfl
  | 13, _ => List.mem_of_getElem? (i := 447) rfl
  | 14, _ => List.mem_of_getElem? (i := 448) rfl
  | 15, _ => List.mem_of_getElem? (i := 449) rfl
  | 16, _ => List.mem_of_getElem? (i := 450) rfl
  | n + 17, h => absurd h (by omega)
theorem lx_ne18 : ∀ i : Nat, i < 18 → Cond.not (.eq (lj_tm i) (lj_tm 18)) ∈ flatC (.and given_1 narrow_1)
  | 0, _ => List.mem_of_getElem? (i := 461) rfl
  | 1, _ => List.mem_of_getElem? (i := 462) rfl
  | 2, _ => List.mem_of_getElem? (i := 463) rfl
  | 3, _ => List.mem_of_getElem? (i := 464) rfl
  | 4, _ => List.mem_of_getElem? (i := 465) rfl
  | 5, _ => List.mem_of_getElem? (i := 466) rfl
  | 6, _ => List.mem_of_getElem? (i := 467) rfl
  | 7, _ => List.mem_of_getElem? (i := 468) rfl
  | 8, _ => List.mem_of_getElem? (i := 469) rfl
  | 9, _ => List.mem_of_getElem? (i := 470) rfl
  | 10, _ => List.mem_of_getElem? (i := 471) rfl
  | 11, _ => List.mem_of_getElem? (i := 472) rfl
  | 12, _ => List.mem_of_getElem? (i := 473) rfl
  | 13, _ => List.mem_of_getElem? (i := 474) rfl
  | 14, _ => List.mem_of_getElem? (i := 475) rfl
  | 15, _ => List.mem_of_getElem? (i := 476) rfl
  | 16, _ => List.mem_of_getElem? (i := 477) rfl
  | 17, _ => List.mem_of_getElem? (i := 478) rfl
  | n + 18, h => absurd h (by omega)
theorem lx_ne19 : ∀ i : Nat, i < 19 → Cond.not (.eq (lj_tm i) (lj_tm 19)) ∈ flatC (.and given_1 narrow_1)
  | 0, _ => List.mem_of_getElem? (i := 487) rfl
  | 1, _ => List.mem_of_getElem? (i := 488) rfl
  | 2, _ => List.mem_of_getElem? (i := 489) rfl
  | 3, _ => List.mem_of_getElem? (i := 490) rfl
  | 4, _ => List.mem_of_getElem? (i := 491) rfl
  | 5, _ => List.mem_of_getElem? (i := 492) rfl
  | 6, _ => List.mem_of_getElem? (i := 493) rfl
  | 7, _ => List.mem_of_getElem? (i := 494) rfl
  | 8, _ => List.mem_of_getElem? (i := 495) rfl
  | 9, _ => List.mem_of_getElem? (i := 496) rfl
  | 10, _ => List.mem_of_getElem? (i := 497) rfl
  | 11, _ => List.mem_of_getElem? (i := 498) rfl
  | 12, _ => List.mem_of_getElem? (i := 499) rfl
  | 13, _ => List.mem_of_getElem? (i := 500) rfl
  | 14, _ => List.mem_of_getElem? (i := 501) rfl
  | 15, _ => List.mem_of_getElem? (i := 502) rfl
  | 16, _ => List.mem_of_getElem? (i := 503) rfl
  | 17, _ => List.mem_of_getElem? (i := 504) rfl
  | 18, _ => List.mem_of_getElem? (i := 505) rfl
  | n + 19, h => absurd h (by omega)
theorem lx_ne20 : ∀ i : Nat, i < 20 → Cond.not (.eq (lj_tm i) (lj_tm 20)) ∈ flatC (.and given_1 narrow_1)
  | 0, _ => List.mem_of_getElem? (i := 516) rfl
  | 1, _ => List.mem_of_getElem? (i := 517) rfl
  | 2, _ => List.mem_of_getElem? (i := 518) rfl
  | 3, _ => List.mem_of_getElem? (i := 519) rfl
  | 4, _ => List.mem_of_getElem? (i := 520) rfl
  | 5, _ => List.mem_of_getElem? (i := 521) rfl
  | 6, _ => List.mem_of_getElem? (i := 522) rfl
  | 7, _ => List.mem_of_getElem? (i := 523) rfl
  | 8, _ => List.mem_of_getElem? (i := 524) rfl
  | 9, _ => List.mem_of_getElem? (i := 525) rfl
  | 10, _ => List.mem_of_getElem? (i := 526) rfl
  | 11, _ => List.mem_of_getElem? (i := 527) rfl
  | 12, _ => List.mem_of_getElem? (i := 528) rfl
  | 13, _ => List.mem_of_getElem? (i := 529) rfl
  | 14, _ => List.mem_of_getElem? (i := 530) rfl
  | 15, _ => List.mem_of_getElem? (i := 531) rfl
  | 16, _ => List.mem_of_getElem? (i := 532) rfl
  | 17, _ => List.mem_of_getElem? (i := 533) rfl
  | 18, _ => List.mem_of_getElem? (i := 534) rfl
  | 19, _ => List.mem_of_getElem? (i := 535) rfl
  | n + 20, h => absurd h (by omega)
theorem lx_ne21 : ∀ i : Nat, i < 21 → Cond.not (.eq (lj_tm i) (lj_tm 21)) ∈ flatC (.and given_1 narrow_1)
  | 0, _ => List.mem_of_getElem? (i := 546) rfl
  | 1, _ => List.mem_of_getElem? (i := 547) rfl
  | 2, _ => List.mem_of_getElem? (i := 548) rfl
  | 3, _ => List.mem_of_getElem? (i := 549) rfl
  | 4, _ => List.mem_of_getElem? (i := 550) rfl
  | 5, _ => List.mem_of_getElem? (i := 551) rfl
  | 6, _ => List.mem_of_getElem? (i := 552) rfl
  | 7, _ => List.mem_of_getElem? (i := 553) rfl
  | 8, _ => List.mem_of_getElem? (i := 554) rfl
  | 9, _ => List.mem_of_getElem? (i := 555) rfl
  | 10, _ => List.mem_of_getElem? (i := 556) rfl
  | 11, _ => List.mem_of_getElem? (i := 557) rfl
  | 12, _ => List.mem_of_getElem? (i := 558) rfl
  | 13, _ => List.mem_of_getElem? (i := 559) rfl
  | 14, _ => List.mem_of_getElem? (i := 560) rfl
  | 15, _ => List.mem_of_getElem? (i := 561) rfl
  | 16, _ => List.mem_of_getElem? (i := 562) rfl
  | 17, _ => List.mem_of_getElem? (i := 563) rfl
  | 18, _ => List.mem_of_getElem? (i := 564) rfl
  | 19, _ => List.mem_of_getElem? (i := 565) rfl
  | 20, _ => List.mem_of_getElem? (i := 566) rfl
  | n + 21, h => absurd h (by omega)
theorem lx_ne22 : ∀ i : Nat, i < 22 → Cond.not (.eq (lj_tm i) (lj_tm 22)) ∈ flatC (.and given_1 narrow_1)
  | 0, _ => List.mem_of_getElem? (i := 576) rfl
  | 1, _ => List.mem_of_getElem? (i := 577) rfl
  | 2, _ => List.mem_of_getElem? (i := 578) rfl
  | 3, _ => List.mem_of_getElem? (i := 579) rfl
  | 4, _ => List.mem_of_getElem? (i := 580) rfl
  | 5, _ => List.mem_of_getElem? (i := 581) rfl
  | 6, _ => List.mem_of_getElem? (i := 582) rfl
  | 7, _ => List.mem_of_getElem? (i := 583) rfl
  | 8, _ => List.mem_of_getElem? (i := 584) rfl
  | 9, _ => List.mem_of_getElem? (i := 585) rfl
  | 10, _ => List.mem_of_getElem? (i := 586) rfl
  | 11, _ => List.mem_of_getElem? (i := 587) rfl
  | 12, _ => List.mem_of_getElem? (i := 588) rfl
  | 13, _ => List.mem_of_getElem? (i := 589) rfl
  | 14, _ => List.mem_of_getElem? (i := 590) rfl
  | 15, _ => List.mem_of_getElem? (i := 591) rfl
  | 16, _ => List.mem_of_getElem? (i := 592) rfl
  | 17, _ => List.mem_of_getElem? (i := 593) rfl
  | 18, _ => List.mem_of_getElem? (i := 594) rfl
  | 19, _ => List.mem_of_getElem? (i := 595) rfl
  | 20, _ => List.mem_of_getElem? (i := 596) rfl
  | 21, _ => List.mem_of_getElem? (i := 597) rfl
  | n + 22, h => absurd h (by omega)
theorem lx_ne23 : ∀ i : Nat, i < 23 → Cond.not (.eq (lj_tm i) (lj_tm 23)) ∈ flatC (.and given_1 narrow_1)
  | 0, _ => List.mem_of_getElem? (i := 607) rfl
  | 1, _ => List.mem_of_getElem? (i := 608) rfl
  | 2, _ => List.mem_of_getElem? (i := 609) rfl
  | 3, _ => List.mem_of_getElem? (i := 610) rfl
  | 4, _ => List.mem_of_getElem? (i := 611) rfl
  | 5, _ => List.mem_of_getElem? (i := 612) rfl
  | 6, _ => List.mem_of_getElem? (i := 613) rfl
  | 7, _ => List.mem_of_getElem? (i := 614) rfl
  | 8, _ => List.mem_of_getElem? (i := 615) rfl
  | 9, _ => List.mem_of_getElem? (i := 616) rfl
  | 10, _ => List.mem_of_getElem? (i := 617) rfl
  | 11, _ => List.mem_of_getElem? (i := 618) rfl
  | 12, _ => List.mem_of_getElem? (i := 619) rfl
  | 13, _ => List.mem_of_getElem? (i := 620) rfl
  | 14, _ => List.mem_of_getElem? (i := 621) rfl
  | 15, _ => List.mem_of_getElem? (i := 622) rfl
  | 16, _ => List.mem_of_getElem? (i := 623) rfl
  | 17, _ => List.mem_of_getElem? (i := 624) rfl
  | 18, _ => List.mem_of_getElem? (i := 625) rfl
  | 19, _ => List.mem_of_getElem? (i := 626) rfl
  | 20, _ => List.mem_of_getElem? (i := 627) rfl
  | 21, _ => List.mem_of_getElem? (i := 628) rfl
  | 22, _ => List.mem_of_getElem? (i := 629) rfl
  | n + 23, h => absurd h (by omega)
theorem lx_ne : ∀ j : Nat, j < 24 → ∀ i : Nat, i < j → Cond.not (.eq (lj_tm i) (lj_tm j)) ∈ flatC (.and given_1 narrow_1)
  | 0, _ => lx_ne0
  | 1, _ => lx_ne1
  | 2, _ => lx_ne2
  | 3, _ => lx_ne3
  | 4, _ => lx_ne4
  | 5, _ => lx_ne5
  | 6, _ => lx_ne6
  | 7, _ => lx_ne7
  | 8, _ => lx_ne8
  | 9, _ => lx_ne9
  | 10, _ => lx_ne10
  | 11, _ => lx_ne11
  | 12, _ => lx_ne12
  | 13, _ => lx_ne13
  | 14, _ => lx_ne14
  | 15, _ => lx_ne15
  | 16, _ => lx_ne16
  | 17, _ => lx_ne17
  | 18, _ => lx_ne18
  | 19, _ => lx_ne19
  | 20, _ => lx_ne20
  | 21, _ => lx_ne21
  | 22, _ => lx_ne22
  | 23, _ => lx_ne23
  | n + 24, h => absurd h (by omega)
