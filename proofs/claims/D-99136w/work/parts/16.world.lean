set_option maxRecDepth 100000
/-! ===== THE FIXED WORLD: the component's cells 0.., the model's from 1198 on ===== -/
def fKt : List (Nat × pKd) := [(0, .inl 0), (1, .inl 1), (2, .inl 2), (3, .inr (5, 23)), (4, .inr (1, 2000)), (5, .inr (1, 2001)), (6, .inr (2, 2001)), (7, .inr (2, 2001)), (8, .inr (2, 2001)), (9, .inl 3), (71, .inr (9, 40)), (72, .inr (9, 3)), (142, .inr (10, 2)), (143, .inl 7), (144, .inl 8), (145, .inr (3, 3)), (146, .inr (11, 128)), (275, .inr (0, 20)), (276, .inr (3, 20)), (277, .inr (0, 20))]
def fGt : List (Nat × Nat × Nat) := [(0, 0, 1), (0, 1, 2), (0, 2, 9), (0, 7, 25), (0, 8, 48), (0, 9, 71), (0, 10, 72), (0, 11, 142), (0, 12, 145), (0, 13, 146), (0, 15, 275), (0, 16, 276), (0, 17, 277), (2, 0, 3), (2, 1, 4), (2, 3, 5), (2, 4, 6), (2, 5, 7), (2, 6, 8), (3, 0, 1000001), (3, 1, 1000002), (3, 2, 1000003), (3, 3, 1000004), (3, 4, 1000005), (3, 5, 1000006), (3, 6, 1000007), (3, 7, 1000008), (3, 8, 1000009), (3, 9, 1000010), (3, 10, 1000011), (3, 11, 1000012), (3, 12, 1000013), (3, 13, 1000014), (3, 14, 1000015), (3, 15, 1000016), (3, 16, 1000017), (3, 17, 1000018), (3, 18, 1000019), (3, 19, 1000020), (3, 20, 1000021), (3, 21, 1000022), (3, 22, 1000023), (9, 0, 2), (9, 1, 1), (72, 0, 73), (72, 1, 96), (72, 2, 119), (142, 0, 143), (142, 1, 144)]
def tKt : List (Nat × pKd) := [(0, .inl 5), (1, .inr (0, 5)), (2, .inr (0, 5)), (3, .inr (0, 5)), (4, .inr (0, 4)), (5, .inr (0, 4)), (6, .inr (0, 4)), (7, .inr (0, 4)), (8, .inr (11, 5)), (9, .inr (0, 4)), (10, .inr (0, 4)), (11, .inr (0, 4)), (12, .inr (0, 4)), (13, .inr (0, 4)), (14, .inr (11, 5)), (15, .inr (0, 4)), (16, .inr (0, 4)), (17, .inr (0, 4)), (18, .inr (0, 4)), (19, .inr (0, 4)), (20, .inr (0, 4)), (21, .inl 6), (22, .inr (0, 9))]
def tGt : List (Nat × Nat × Nat) := [(0, 0, 1), (0, 1, 2), (0, 2, 3), (0, 3, 4), (0, 4, 5), (0, 5, 6), (0, 6, 7), (0, 7, 8), (0, 8, 14), (0, 12, 20), (0, 13, 21), (8, 0, 9), (8, 1, 10), (8, 2, 11), (8, 3, 12), (8, 4, 13), (14, 0, 15), (14, 1, 16), (14, 2, 17), (14, 3, 18), (14, 4, 19), (21, 0, 22)]
def xKt : List (Nat × pKd) := [(0, .inl 4), (1, .inl 17), (2, .inl 17), (3, .inl 17), (4, .inr (0, 8)), (5, .inr (0, 8)), (6, .inr (7, 4)), (7, .inr (11, 7)), (8, .inr (0, 7)), (9, .inr (0, 7)), (10, .inr (0, 7)), (11, .inr (0, 7)), (12, .inr (0, 7)), (13, .inr (0, 7)), (14, .inr (0, 7))]
def xGt : List (Nat × Nat × Nat) := [(0, 0, 1), (0, 1, 2), (0, 2, 3), (0, 3, 4), (0, 4, 5), (0, 5, 6), (0, 6, 7), (7, 0, 8), (7, 1, 9), (7, 2, 10), (7, 3, 11), (7, 4, 12), (7, 5, 13), (7, 6, 14)]
def mKt : List (Nat × pKd) := [(1198, .inl 9), (1199, .inr (1, 2000)), (1200, .inr (1, 2000)), (1201, .inr (0, 403)), (1202, .inr (0, 403)), (1203, .inr (0, 403)), (1204, .inr (4, 403)), (1205, .inr (4, 23)), (1206, .inr (4, 16)), (1207, .inr (0, 16)), (1208, .inr (0, 2)), (1209, .inr (0, 14)), (1210, .inr (0, 2)), (1211, .inr (0, 2)), (1212, .inr (0, 10)), (1213, .inr (0, 10)), (1214, .inr (0, 10)), (1215, .inr (0, 2)), (1216, .inr (0, 8)), (1217, .inr (0, 8)), (1218, .inr (0, 2)), (1219, .inr (0, 16)), (1220, .inr (0, 16)), (1221, .inr (0, 2)), (1222, .inr (0, 2)), (1223, .inr (0, 2)), (1224, .inr (0, 8)), (1225, .inr (0, 8)), (1226, .inr (3, 260)), (1227, .inr (0, 260)), (1228, .inr (0, 260)), (1229, .inr (0, 260)), (1230, .inr (0, 260)), (1231, .inr (0, 840)), (1232, .inr (0, 840)), (1233, .inr (0, 64)), (1234, .inr (0, 9)), (1235, .inr (0, 400)), (1236, .inr (0, 49)), (1237, .inr (0, 77)), (1238, .inr (0, 77)), (1239, .inr (0, 3080)), (1240, .inr (0, 896)), (1241, .inr (0, 20)), (1242, .inr (3, 20)), (1243, .inr (0, 4)), (1244, .inr (3, 3)), (1245, .inr (0, 231))]
def mGt : List (Nat × Nat × Nat) := [(1198, 1, 1199), (1198, 3, 1200), (1198, 5, 1201), (1198, 6, 1202), (1198, 7, 1203), (1198, 8, 1204), (1198, 9, 1205), (1198, 21, 1206), (1198, 22, 1207), (1198, 23, 1208), (1198, 24, 1209), (1198, 25, 1210), (1198, 26, 1211), (1198, 27, 1212), (1198, 28, 1213), (1198, 29, 1214), (1198, 30, 1215), (1198, 31, 1216), (1198, 32, 1217), (1198, 33, 1218), (1198, 34, 1219), (1198, 35, 1220), (1198, 36, 1221), (1198, 37, 1222), (1198, 38, 1223), (1198, 39, 1224), (1198, 40, 1225), (1198, 42, 1226), (1198, 43, 1227), (1198, 44, 1228), (1198, 45, 1229), (1198, 46, 1230), (1198, 48, 1231), (1198, 49, 1232), (1198, 50, 1233), (1198, 52, 1234), (1198, 53, 1235), (1198, 55, 1236), (1198, 56, 1237), (1198, 57, 1238), (1198, 59, 1239), (1198, 60, 1240), (1198, 62, 1241), (1198, 63, 1242), (1198, 64, 1243), (1198, 65, 1244), (1198, 66, 1245)]
/-- the model's cells -/
def mOK (n : Nat) (K : Nat → pKd) (G : pG) : Prop := n ≤ 1000000 ∧ 1246 ≤ n ∧ (∀ q ∈ mKt, K q.1 = q.2) ∧ (∀ q ∈ mGt, G q.1 q.2.1 = .ref q.2.2)
/-- o is the first cell of a town -/
def isT (o : Nat) : Prop := o = 25 ∨ o = 48 ∨ (∃ k, k < 3 ∧ o = 73 + 23 * k) ∨ ∃ k, k < 40 ∧ o = 278 + 23 * k
def fOK (n : Nat) (K : Nat → pKd) (G : pG) : Prop := n ≤ 1000000 ∧ 1198 ≤ n ∧ (∀ q ∈ fKt, K q.1 = q.2) ∧ (∀ q ∈ fGt, G q.1 q.2.1 = .ref q.2.2) ∧ (∀ k, k < 128 → K (147 + k) = .inr (0, 7) ∧ G 146 k = .ref (147 + k)) ∧ (∀ k, k < 40 → G 71 k = .ref (278 + 23 * k)) ∧ ∀ o, isT o → (∀ q ∈ tKt, K (o + q.1) = q.2) ∧ ∀ q ∈ tGt, G (o + q.1) q.2.1 = .ref (o + q.2.2)
/-- t is the first cell of a text -/
def xOK (n : Nat) (K : Nat → pKd) (G : pG) (t : Nat) : Prop := t + 15 ≤ n ∧ (∀ q ∈ xKt, K (t + q.1) = q.2) ∧ ∀ q ∈ xGt, G (t + q.1) q.2.1 = .ref (t + q.2.2)
theorem isT_lt {o : Nat} (h : isT o) : o + 23 ≤ 1198 := by
  rcases h with h | h | ⟨k, h1, h⟩ | ⟨k, h1, h⟩ <;> omega
section FW
variable {n : Nat} {K : Nat → pKd} {G : pG}
theorem f_lt (h : fOK n K G) {a : Nat} (ha : a < 1198) : a < n := Nat.lt_of_lt_of_le ha h.2.1
theorem t_lt (h : fOK n K G) {o j : Nat} (ho : isT o) (hj : j < 23) : o + j < n := by have := isT_lt ho; have := h.2.1; omega
theorem x_lt {t : Nat} (h : xOK n K G t) {j : Nat} (hj : j < 15) : t + j < n := by have := h.1; omega
theorem fk_0 (h : fOK n K G) : K 0 = .inl 0 := h.2.2.1 _ (List.mem_of_getElem? (i := 0) rfl)
theorem fk_1 (h : fOK n K G) : K 1 = .inl 1 := h.2.2.1 _ (List.mem_of_getElem? (i := 1) rfl)
theorem fk_2 (h : fOK n K G) : K 2 = .inl 2 := h.2.2.1 _ (List.mem_of_getElem? (i := 2) rfl)
theorem fk_3 (h : fOK n K G) : K 3 = .inr (5, 23) := h.2.2.1 _ (List.mem_of_getElem? (i := 3) rfl)
theorem fk_4 (h : fOK n K G) : K 4 = .inr (1, 2000) := h.2.2.1 _ (List.mem_of_getElem? (i := 4) rfl)
theorem fk_5 (h : fOK n K G) : K 5 = .inr (1, 2001) := h.2.2.1 _ (List.mem_of_getElem? (i := 5) rfl)
theorem fk_6 (h : fOK n K G) : K 6 = .inr (2, 2001) := h.2.2.1 _ (List.mem_of_getElem? (i := 6) rfl)
theorem fk_7 (h : fOK n K G) : K 7 = .inr (2, 2001) := h.2.2.1 _ (List.mem_of_getElem? (i := 7) rfl)
theorem fk_8 (h : fOK n K G) : K 8 = .inr (2, 2001) := h.2.2.1 _ (List.mem_of_getElem? (i := 8) rfl)
theorem fk_9 (h : fOK n K G) : K 9 = .inl 3 := h.2.2.1 _ (List.mem_of_getElem? (i := 9) rfl)
theorem fk_71 (h : fOK n K G) : K 71 = .inr (9, 40) := h.2.2.1 _ (List.mem_of_getElem? (i := 10) rfl)
theorem fk_72 (h : fOK n K G) : K 72 = .inr (9, 3) := h.2.2.1 _ (List.mem_of_getElem? (i := 11) rfl)
theorem fk_142 (h : fOK n K G) : K 142 = .inr (10, 2) := h.2.2.1 _ (List.mem_of_getElem? (i := 12) rfl)
theorem fk_143 (h : fOK n K G) : K 143 = .inl 7 := h.2.2.1 _ (List.mem_of_getElem? (i := 13) rfl)
theorem fk_144 (h : fOK n K G) : K 144 = .inl 8 := h.2.2.1 _ (List.mem_of_getElem? (i := 14) rfl)
theorem fk_145 (h : fOK n K G) : K 145 = .inr (3, 3) := h.2.2.1 _ (List.mem_of_getElem? (i := 15) rfl)
theorem fk_146 (h : fOK n K G) : K 146 = .inr (11, 128) := h.2.2.1 _ (List.mem_of_getElem? (i := 16) rfl)
theorem fk_275 (h : fOK n K G) : K 275 = .inr (0, 20) := h.2.2.1 _ (List.mem_of_getElem? (i := 17) rfl)
theorem fk_276 (h : fOK n K G) : K 276 = .inr (3, 20) := h.2.2.1 _ (List.mem_of_getElem? (i := 18) rfl)
theorem fk_277 (h : fOK n K G) : K 277 = .inr (0, 20) := h.2.2.1 _ (List.mem_of_getElem? (i := 19) rfl)
theorem fg_0_0 (h : fOK n K G) : G 0 0 = .ref 1 := h.2.2.2.1 _ (List.mem_of_getElem? (i := 0) rfl)
theorem fg_0_1 (h : fOK n K G) : G 0 1 = .ref 2 := h.2.2.2.1 _ (List.mem_of_getElem? (i := 1) rfl)
theorem fg_0_2 (h : fOK n K G) : G 0 2 = .ref 9 := h.2.2.2.1 _ (List.mem_of_getElem? (i := 2) rfl)
theorem fg_0_7 (h : fOK n K G) : G 0 7 = .ref 25 := h.2.2.2.1 _ (List.mem_of_getElem? (i := 3) rfl)
theorem fg_0_8 (h : fOK n K G) : G 0 8 = .ref 48 := h.2.2.2.1 _ (List.mem_of_getElem? (i := 4) rfl)
theorem fg_0_9 (h : fOK n K G) : G 0 9 = .ref 71 := h.2.2.2.1 _ (List.mem_of_getElem? (i := 5) rfl)
theorem fg_0_10 (h : fOK n K G) : G 0 10 = .ref 72 := h.2.2.2.1 _ (List.mem_of_getElem? (i := 6) rfl)
theorem fg_0_11 (h : fOK n K G) : G 0 11 = .ref 142 := h.2.2.2.1 _ (List.mem_of_getElem? (i := 7) rfl)
theorem fg_0_12 (h : fOK n K G) : G 0 12 = .ref 145 := h.2.2.2.1 _ (List.mem_of_getElem? (i := 8) rfl)
theorem fg_0_13 (h : fOK n K G) : G 0 13 = .ref 146 := h.2.2.2.1 _ (List.mem_of_getElem? (i := 9) rfl)
theorem fg_0_15 (h : fOK n K G) : G 0 15 = .ref 275 := h.2.2.2.1 _ (List.mem_of_getElem? (i := 10) rfl)
theorem fg_0_16 (h : fOK n K G) : G 0 16 = .ref 276 := h.2.2.2.1 _ (List.mem_of_getElem? (i := 11) rfl)
theorem fg_0_17 (h : fOK n K G) : G 0 17 = .ref 277 := h.2.2.2.1 _ (List.mem_of_getElem? (i := 12) rfl)
theorem fg_2_0 (h : fOK n K G) : G 2 0 = .ref 3 := h.2.2.2.1 _ (List.mem_of_getElem? (i := 13) rfl)
theorem fg_2_1 (h : fOK n K G) : G 2 1 = .ref 4 := h.2.2.2.1 _ (List.mem_of_getElem? (i := 14) rfl)
theorem fg_2_3 (h : fOK n K G) : G 2 3 = .ref 5 := h.2.2.2.1 _ (List.mem_of_getElem? (i := 15) rfl)
theorem fg_2_4 (h : fOK n K G) : G 2 4 = .ref 6 := h.2.2.2.1 _ (List.mem_of_getElem? (i := 16) rfl)
theorem fg_2_5 (h : fOK n K G) : G 2 5 = .ref 7 := h.2.2.2.1 _ (List.mem_of_getElem? (i := 17) rfl)
theorem fg_2_6 (h : fOK n K G) : G 2 6 = .ref 8 := h.2.2.2.1 _ (List.mem_of_getElem? (i := 18) rfl)
theorem fg_3_0 (h : fOK n K G) : G 3 0 = .ref 1000001 := h.2.2.2.1 _ (List.mem_of_getElem? (i := 19) rfl)
theorem fg_3_1 (h : fOK n K G) : G 3 1 = .ref 1000002 := h.2.2.2.1 _ (List.mem_of_getElem? (i := 20) rfl)
theorem fg_3_2 (h : fOK n K G) : G 3 2 = .ref 1000003 := h.2.2.2.1 _ (List.mem_of_getElem? (i := 21) rfl)
theorem fg_3_3 (h : fOK n K G) : G 3 3 = .ref 1000004 := h.2.2.2.1 _ (List.mem_of_getElem? (i := 22) rfl)
theorem fg_3_4 (h : fOK n K G) : G 3 4 = .ref 1000005 := h.2.2.2.1 _ (List.mem_of_getElem? (i := 23) rfl)
theorem fg_3_5 (h : fOK n K G) : G 3 5 = .ref 1000006 := h.2.2.2.1 _ (List.mem_of_getElem? (i := 24) rfl)
theorem fg_3_6 (h : fOK n K G) : G 3 6 = .ref 1000007 := h.2.2.2.1 _ (List.mem_of_getElem? (i := 25) rfl)
theorem fg_3_7 (h : fOK n K G) : G 3 7 = .ref 1000008 := h.2.2.2.1 _ (List.mem_of_getElem? (i := 26) rfl)
theorem fg_3_8 (h : fOK n K G) : G 3 8 = .ref 1000009 := h.2.2.2.1 _ (List.mem_of_getElem? (i := 27) rfl)
theorem fg_3_9 (h : fOK n K G) : G 3 9 = .ref 1000010 := h.2.2.2.1 _ (List.mem_of_getElem? (i := 28) rfl)
theorem fg_3_10 (h : fOK n K G) : G 3 10 = .ref 1000011 := h.2.2.2.1 _ (List.mem_of_getElem? (i := 29) rfl)
theorem fg_3_11 (h : fOK n K G) : G 3 11 = .ref 1000012 := h.2.2.2.1 _ (List.mem_of_getElem? (i := 30) rfl)
theorem fg_3_12 (h : fOK n K G) : G 3 12 = .ref 1000013 := h.2.2.2.1 _ (List.mem_of_getElem? (i := 31) rfl)
theorem fg_3_13 (h : fOK n K G) : G 3 13 = .ref 1000014 := h.2.2.2.1 _ (List.mem_of_getElem? (i := 32) rfl)
theorem fg_3_14 (h : fOK n K G) : G 3 14 = .ref 1000015 := h.2.2.2.1 _ (List.mem_of_getElem? (i := 33) rfl)
theorem fg_3_15 (h : fOK n K G) : G 3 15 = .ref 1000016 := h.2.2.2.1 _ (List.mem_of_getElem? (i := 34) rfl)
theorem fg_3_16 (h : fOK n K G) : G 3 16 = .ref 1000017 := h.2.2.2.1 _ (List.mem_of_getElem? (i := 35) rfl)
theorem fg_3_17 (h : fOK n K G) : G 3 17 = .ref 1000018 := h.2.2.2.1 _ (List.mem_of_getElem? (i := 36) rfl)
theorem fg_3_18 (h : fOK n K G) : G 3 18 = .ref 1000019 := h.2.2.2.1 _ (List.mem_of_getElem? (i := 37) rfl)
theorem fg_3_19 (h : fOK n K G) : G 3 19 = .ref 1000020 := h.2.2.2.1 _ (List.mem_of_getElem? (i := 38) rfl)
theorem fg_3_20 (h : fOK n K G) : G 3 20 = .ref 1000021 := h.2.2.2.1 _ (List.mem_of_getElem? (i := 39) rfl)
theorem fg_3_21 (h : fOK n K G) : G 3 21 = .ref 1000022 := h.2.2.2.1 _ (List.mem_of_getElem? (i := 40) rfl)
theorem fg_3_22 (h : fOK n K G) : G 3 22 = .ref 1000023 := h.2.2.2.1 _ (List.mem_of_getElem? (i := 41) rfl)
theorem fg_9_0 (h : fOK n K G) : G 9 0 = .ref 2 := h.2.2.2.1 _ (List.mem_of_getElem? (i := 42) rfl)
theorem fg_9_1 (h : fOK n K G) : G 9 1 = .ref 1 := h.2.2.2.1 _ (List.mem_of_getElem? (i := 43) rfl)
theorem fg_72_0 (h : fOK n K G) : G 72 0 = .ref 73 := h.2.2.2.1 _ (List.mem_of_getElem? (i := 44) rfl)
theorem fg_72_1 (h : fOK n K G) : G 72 1 = .ref 96 := h.2.2.2.1 _ (List.mem_of_getElem? (i := 45) rfl)
theorem fg_72_2 (h : fOK n K G) : G 72 2 = .ref 119 := h.2.2.2.1 _ (List.mem_of_getElem? (i := 46) rfl)
theorem fg_142_0 (h : fOK n K G) : G 142 0 = .ref 143 := h.2.2.2.1 _ (List.mem_of_getElem? (i := 47) rfl)
theorem fg_142_1 (h : fOK n K G) : G 142 1 = .ref 144 := h.2.2.2.1 _ (List.mem_of_getElem? (i := 48) rfl)
theorem m_lt (h : mOK n K G) {a : Nat} (ha : a < 1246) : a < n := Nat.lt_of_lt_of_le ha h.2.1
theorem fk_1198 (h : mOK n K G) : K 1198 = .inl 9 := h.2.2.1 _ (List.mem_of_getElem? (i := 0) rfl)
theorem fk_1199 (h : mOK n K G) : K 1199 = .inr (1, 2000) := h.2.2.1 _ (List.mem_of_getElem? (i := 1) rfl)
theorem fk_1200 (h : mOK n K G) : K 1200 = .inr (1, 2000) := h.2.2.1 _ (List.mem_of_getElem? (i := 2) rfl)
theorem fk_1201 (h : mOK n K G) : K 1201 = .inr (0, 403) := h.2.2.1 _ (List.mem_of_getElem? (i := 3) rfl)
theorem fk_1202 (h : mOK n K G) : K 1202 = .inr (0, 403) := h.2.2.1 _ (List.mem_of_getElem? (i := 4) rfl)
theorem fk_1203 (h : mOK n K G) : K 1203 = .inr (0, 403) := h.2.2.1 _ (List.mem_of_getElem? (i := 5) rfl)
theorem fk_1204 (h : mOK n K G) : K 1204 = .inr (4, 403) := h.2.2.1 _ (List.mem_of_getElem? (i := 6) rfl)
theorem fk_1205 (h : mOK n K G) : K 1205 = .inr (4, 23) := h.2.2.1 _ (List.mem_of_getElem? (i := 7) rfl)
theorem fk_1206 (h : mOK n K G) : K 1206 = .inr (4, 16) := h.2.2.1 _ (List.mem_of_getElem? (i := 8) rfl)
theorem fk_1207 (h : mOK n K G) : K 1207 = .inr (0, 16) := h.2.2.1 _ (List.mem_of_getElem? (i := 9) rfl)
theorem fk_1208 (h : mOK n K G) : K 1208 = .inr (0, 2) := h.2.2.1 _ (List.mem_of_getElem? (i := 10) rfl)
theorem fk_1209 (h : mOK n K G) : K 1209 = .inr (0, 14) := h.2.2.1 _ (List.mem_of_getElem? (i := 11) rfl)
theorem fk_1210 (h : mOK n K G) : K 1210 = .inr (0, 2) := h.2.2.1 _ (List.mem_of_getElem? (i := 12) rfl)
theorem fk_1211 (h : mOK n K G) : K 1211 = .inr (0, 2) := h.2.2.1 _ (List.mem_of_getElem? (i := 13) rfl)
theorem fk_1212 (h : mOK n K G) : K 1212 = .inr (0, 10) := h.2.2.1 _ (List.mem_of_getElem? (i := 14) rfl)
theorem fk_1213 (h : mOK n K G) : K 1213 = .inr (0, 10) := h.2.2.1 _ (List.mem_of_getElem? (i := 15) rfl)
theorem fk_1214 (h : mOK n K G) : K 1214 = .inr (0, 10) := h.2.2.1 _ (List.mem_of_getElem? (i := 16) rfl)
theorem fk_1215 (h : mOK n K G) : K 1215 = .inr (0, 2) := h.2.2.1 _ (List.mem_of_getElem? (i := 17) rfl)
theorem fk_1216 (h : mOK n K G) : K 1216 = .inr (0, 8) := h.2.2.1 _ (List.mem_of_getElem? (i := 18) rfl)
theorem fk_1217 (h : mOK n K G) : K 1217 = .inr (0, 8) := h.2.2.1 _ (List.mem_of_getElem? (i := 19) rfl)
theorem fk_1218 (h : mOK n K G) : K 1218 = .inr (0, 2) := h.2.2.1 _ (List.mem_of_getElem? (i := 20) rfl)
theorem fk_1219 (h : mOK n K G) : K 1219 = .inr (0, 16) := h.2.2.1 _ (List.mem_of_getElem? (i := 21) rfl)
theorem fk_1220 (h : mOK n K G) : K 1220 = .inr (0, 16) := h.2.2.1 _ (List.mem_of_getElem? (i := 22) rfl)
theorem fk_1221 (h : mOK n K G) : K 1221 = .inr (0, 2) := h.2.2.1 _ (List.mem_of_getElem? (i := 23) rfl)
theorem fk_1222 (h : mOK n K G) : K 1222 = .inr (0, 2) := h.2.2.1 _ (List.mem_of_getElem? (i := 24) rfl)
theorem fk_1223 (h : mOK n K G) : K 1223 = .inr (0, 2) := h.2.2.1 _ (List.mem_of_getElem? (i := 25) rfl)
theorem fk_1224 (h : mOK n K G) : K 1224 = .inr (0, 8) := h.2.2.1 _ (List.mem_of_getElem? (i := 26) rfl)
theorem fk_1225 (h : mOK n K G) : K 1225 = .inr (0, 8) := h.2.2.1 _ (List.mem_of_getElem? (i := 27) rfl)
theorem fk_1226 (h : mOK n K G) : K 1226 = .inr (3, 260) := h.2.2.1 _ (List.mem_of_getElem? (i := 28) rfl)
theorem fk_1227 (h : mOK n K G) : K 1227 = .inr (0, 260) := h.2.2.1 _ (List.mem_of_getElem? (i := 29) rfl)
theorem fk_1228 (h : mOK n K G) : K 1228 = .inr (0, 260) := h.2.2.1 _ (List.mem_of_getElem? (i := 30) rfl)
theorem fk_1229 (h : mOK n K G) : K 1229 = .inr (0, 260) := h.2.2.1 _ (List.mem_of_getElem? (i := 31) rfl)
theorem fk_1230 (h : mOK n K G) : K 1230 = .inr (0, 260) := h.2.2.1 _ (List.mem_of_getElem? (i := 32) rfl)
theorem fk_1231 (h : mOK n K G) : K 1231 = .inr (0, 840) := h.2.2.1 _ (List.mem_of_getElem? (i := 33) rfl)
theorem fk_1232 (h : mOK n K G) : K 1232 = .inr (0, 840) := h.2.2.1 _ (List.mem_of_getElem? (i := 34) rfl)
theorem fk_1233 (h : mOK n K G) : K 1233 = .inr (0, 64) := h.2.2.1 _ (List.mem_of_getElem? (i := 35) rfl)
theorem fk_1234 (h : mOK n K G) : K 1234 = .inr (0, 9) := h.2.2.1 _ (List.mem_of_getElem? (i := 36) rfl)
theorem fk_1235 (h : mOK n K G) : K 1235 = .inr (0, 400) := h.2.2.1 _ (List.mem_of_getElem? (i := 37) rfl)
theorem fk_1236 (h : mOK n K G) : K 1236 = .inr (0, 49) := h.2.2.1 _ (List.mem_of_getElem? (i := 38) rfl)
theorem fk_1237 (h : mOK n K G) : K 1237 = .inr (0, 77) := h.2.2.1 _ (List.mem_of_getElem? (i := 39) rfl)
theorem fk_1238 (h : mOK n K G) : K 1238 = .inr (0, 77) := h.2.2.1 _ (List.mem_of_getElem? (i := 40) rfl)
theorem fk_1239 (h : mOK n K G) : K 1239 = .inr (0, 3080) := h.2.2.1 _ (List.mem_of_getElem? (i := 41) rfl)
theorem fk_1240 (h : mOK n K G) : K 1240 = .inr (0, 896) := h.2.2.1 _ (List.mem_of_getElem? (i := 42) rfl)
theorem fk_1241 (h : mOK n K G) : K 1241 = .inr (0, 20) := h.2.2.1 _ (List.mem_of_getElem? (i := 43) rfl)
theorem fk_1242 (h : mOK n K G) : K 1242 = .inr (3, 20) := h.2.2.1 _ (List.mem_of_getElem? (i := 44) rfl)
theorem fk_1243 (h : mOK n K G) : K 1243 = .inr (0, 4) := h.2.2.1 _ (List.mem_of_getElem? (i := 45) rfl)
theorem fk_1244 (h : mOK n K G) : K 1244 = .inr (3, 3) := h.2.2.1 _ (List.mem_of_getElem? (i := 46) rfl)
theorem fk_1245 (h : mOK n K G) : K 1245 = .inr (0, 231) := h.2.2.1 _ (List.mem_of_getElem? (i := 47) rfl)
theorem fg_1198_1 (h : mOK n K G) : G 1198 1 = .ref 1199 := h.2.2.2 _ (List.mem_of_getElem? (i := 0) rfl)
theorem fg_1198_3 (h : mOK n K G) : G 1198 3 = .ref 1200 := h.2.2.2 _ (List.mem_of_getElem? (i := 1) rfl)
theorem fg_1198_5 (h : mOK n K G) : G 1198 5 = .ref 1201 := h.2.2.2 _ (List.mem_of_getElem? (i := 2) rfl)
theorem fg_1198_6 (h : mOK n K G) : G 1198 6 = .ref 1202 := h.2.2.2 _ (List.mem_of_getElem? (i := 3) rfl)
theorem fg_1198_7 (h : mOK n K G) : G 1198 7 = .ref 1203 := h.2.2.2 _ (List.mem_of_getElem? (i := 4) rfl)
theorem fg_1198_8 (h : mOK n K G) : G 1198 8 = .ref 1204 := h.2.2.2 _ (List.mem_of_getElem? (i := 5) rfl)
theorem fg_1198_9 (h : mOK n K G) : G 1198 9 = .ref 1205 := h.2.2.2 _ (List.mem_of_getElem? (i := 6) rfl)
theorem fg_1198_21 (h : mOK n K G) : G 1198 21 = .ref 1206 := h.2.2.2 _ (List.mem_of_getElem? (i := 7) rfl)
theorem fg_1198_22 (h : mOK n K G) : G 1198 22 = .ref 1207 := h.2.2.2 _ (List.mem_of_getElem? (i := 8) rfl)
theorem fg_1198_23 (h : mOK n K G) : G 1198 23 = .ref 1208 := h.2.2.2 _ (List.mem_of_getElem? (i := 9) rfl)
theorem fg_1198_24 (h : mOK n K G) : G 1198 24 = .ref 1209 := h.2.2.2 _ (List.mem_of_getElem? (i := 10) rfl)
theorem fg_1198_25 (h : mOK n K G) : G 1198 25 = .ref 1210 := h.2.2.2 _ (List.mem_of_getElem? (i := 11) rfl)
theorem fg_1198_26 (h : mOK n K G) : G 1198 26 = .ref 1211 := h.2.2.2 _ (List.mem_of_getElem? (i := 12) rfl)
theorem fg_1198_27 (h : mOK n K G) : G 1198 27 = .ref 1212 := h.2.2.2 _ (List.mem_of_getElem? (i := 13) rfl)
theorem fg_1198_28 (h : mOK n K G) : G 1198 28 = .ref 1213 := h.2.2.2 _ (List.mem_of_getElem? (i := 14) rfl)
theorem fg_1198_29 (h : mOK n K G) : G 1198 29 = .ref 1214 := h.2.2.2 _ (List.mem_of_getElem? (i := 15) rfl)
theorem fg_1198_30 (h : mOK n K G) : G 1198 30 = .ref 1215 := h.2.2.2 _ (List.mem_of_getElem? (i := 16) rfl)
theorem fg_1198_31 (h : mOK n K G) : G 1198 31 = .ref 1216 := h.2.2.2 _ (List.mem_of_getElem? (i := 17) rfl)
theorem fg_1198_32 (h : mOK n K G) : G 1198 32 = .ref 1217 := h.2.2.2 _ (List.mem_of_getElem? (i := 18) rfl)
theorem fg_1198_33 (h : mOK n K G) : G 1198 33 = .ref 1218 := h.2.2.2 _ (List.mem_of_getElem? (i := 19) rfl)
theorem fg_1198_34 (h : mOK n K G) : G 1198 34 = .ref 1219 := h.2.2.2 _ (List.mem_of_getElem? (i := 20) rfl)
theorem fg_1198_35 (h : mOK n K G) : G 1198 35 = .ref 1220 := h.2.2.2 _ (List.mem_of_getElem? (i := 21) rfl)
theorem fg_1198_36 (h : mOK n K G) : G 1198 36 = .ref 1221 := h.2.2.2 _ (List.mem_of_getElem? (i := 22) rfl)
theorem fg_1198_37 (h : mOK n K G) : G 1198 37 = .ref 1222 := h.2.2.2 _ (List.mem_of_getElem? (i := 23) rfl)
theorem fg_1198_38 (h : mOK n K G) : G 1198 38 = .ref 1223 := h.2.2.2 _ (List.mem_of_getElem? (i := 24) rfl)
theorem fg_1198_39 (h : mOK n K G) : G 1198 39 = .ref 1224 := h.2.2.2 _ (List.mem_of_getElem? (i := 25) rfl)
theorem fg_1198_40 (h : mOK n K G) : G 1198 40 = .ref 1225 := h.2.2.2 _ (List.mem_of_getElem? (i := 26) rfl)
theorem fg_1198_42 (h : mOK n K G) : G 1198 42 = .ref 1226 := h.2.2.2 _ (List.mem_of_getElem? (i := 27) rfl)
theorem fg_1198_43 (h : mOK n K G) : G 1198 43 = .ref 1227 := h.2.2.2 _ (List.mem_of_getElem? (i := 28) rfl)
theorem fg_1198_44 (h : mOK n K G) : G 1198 44 = .ref 1228 := h.2.2.2 _ (List.mem_of_getElem? (i := 29) rfl)
theorem fg_1198_45 (h : mOK n K G) : G 1198 45 = .ref 1229 := h.2.2.2 _ (List.mem_of_getElem? (i := 30) rfl)
theorem fg_1198_46 (h : mOK n K G) : G 1198 46 = .ref 1230 := h.2.2.2 _ (List.mem_of_getElem? (i := 31) rfl)
theorem fg_1198_48 (h : mOK n K G) : G 1198 48 = .ref 1231 := h.2.2.2 _ (List.mem_of_getElem? (i := 32) rfl)
theorem fg_1198_49 (h : mOK n K G) : G 1198 49 = .ref 1232 := h.2.2.2 _ (List.mem_of_getElem? (i := 33) rfl)
theorem fg_1198_50 (h : mOK n K G) : G 1198 50 = .ref 1233 := h.2.2.2 _ (List.mem_of_getElem? (i := 34) rfl)
theorem fg_1198_52 (h : mOK n K G) : G 1198 52 = .ref 1234 := h.2.2.2 _ (List.mem_of_getElem? (i := 35) rfl)
theorem fg_1198_53 (h : mOK n K G) : G 1198 53 = .ref 1235 := h.2.2.2 _ (List.mem_of_getElem? (i := 36) rfl)
theorem fg_1198_55 (h : mOK n K G) : G 1198 55 = .ref 1236 := h.2.2.2 _ (List.mem_of_getElem? (i := 37) rfl)
theorem fg_1198_56 (h : mOK n K G) : G 1198 56 = .ref 1237 := h.2.2.2 _ (List.mem_of_getElem? (i := 38) rfl)
theorem fg_1198_57 (h : mOK n K G) : G 1198 57 = .ref 1238 := h.2.2.2 _ (List.mem_of_getElem? (i := 39) rfl)
theorem fg_1198_59 (h : mOK n K G) : G 1198 59 = .ref 1239 := h.2.2.2 _ (List.mem_of_getElem? (i := 40) rfl)
theorem fg_1198_60 (h : mOK n K G) : G 1198 60 = .ref 1240 := h.2.2.2 _ (List.mem_of_getElem? (i := 41) rfl)
theorem fg_1198_62 (h : mOK n K G) : G 1198 62 = .ref 1241 := h.2.2.2 _ (List.mem_of_getElem? (i := 42) rfl)
theorem fg_1198_63 (h : mOK n K G) : G 1198 63 = .ref 1242 := h.2.2.2 _ (List.mem_of_getElem? (i := 43) rfl)
theorem fg_1198_64 (h : mOK n K G) : G 1198 64 = .ref 1243 := h.2.2.2 _ (List.mem_of_getElem? (i := 44) rfl)
theorem fg_1198_65 (h : mOK n K G) : G 1198 65 = .ref 1244 := h.2.2.2 _ (List.mem_of_getElem? (i := 45) rfl)
theorem fg_1198_66 (h : mOK n K G) : G 1198 66 = .ref 1245 := h.2.2.2 _ (List.mem_of_getElem? (i := 46) rfl)
theorem tk_0 (h : fOK n K G) {o : Nat} (ho : isT o) : K (o + 0) = .inl 5 := (h.2.2.2.2.2.2 o ho).1 _ (List.mem_of_getElem? (i := 0) rfl)
theorem tk_1 (h : fOK n K G) {o : Nat} (ho : isT o) : K (o + 1) = .inr (0, 5) := (h.2.2.2.2.2.2 o ho).1 _ (List.mem_of_getElem? (i := 1) rfl)
theorem tk_2 (h : fOK n K G) {o : Nat} (ho : isT o) : K (o + 2) = .inr (0, 5) := (h.2.2.2.2.2.2 o ho).1 _ (List.mem_of_getElem? (i := 2) rfl)
theorem tk_3 (h : fOK n K G) {o : Nat} (ho : isT o) : K (o + 3) = .inr (0, 5) := (h.2.2.2.2.2.2 o ho).1 _ (List.mem_of_getElem? (i := 3) rfl)
theorem tk_4 (h : fOK n K G) {o : Nat} (ho : isT o) : K (o + 4) = .inr (0, 4) := (h.2.2.2.2.2.2 o ho).1 _ (List.mem_of_getElem? (i := 4) rfl)
theorem tk_5 (h : fOK n K G) {o : Nat} (ho : isT o) : K (o + 5) = .inr (0, 4) := (h.2.2.2.2.2.2 o ho).1 _ (List.mem_of_getElem? (i := 5) rfl)
theorem tk_6 (h : fOK n K G) {o : Nat} (ho : isT o) : K (o + 6) = .inr (0, 4) := (h.2.2.2.2.2.2 o ho).1 _ (List.mem_of_getElem? (i := 6) rfl)
theorem tk_7 (h : fOK n K G) {o : Nat} (ho : isT o) : K (o + 7) = .inr (0, 4) := (h.2.2.2.2.2.2 o ho).1 _ (List.mem_of_getElem? (i := 7) rfl)
theorem tk_8 (h : fOK n K G) {o : Nat} (ho : isT o) : K (o + 8) = .inr (11, 5) := (h.2.2.2.2.2.2 o ho).1 _ (List.mem_of_getElem? (i := 8) rfl)
theorem tk_9 (h : fOK n K G) {o : Nat} (ho : isT o) : K (o + 9) = .inr (0, 4) := (h.2.2.2.2.2.2 o ho).1 _ (List.mem_of_getElem? (i := 9) rfl)
theorem tk_10 (h : fOK n K G) {o : Nat} (ho : isT o) : K (o + 10) = .inr (0, 4) := (h.2.2.2.2.2.2 o ho).1 _ (List.mem_of_getElem? (i := 10) rfl)
theorem tk_11 (h : fOK n K G) {o : Nat} (ho : isT o) : K (o + 11) = .inr (0, 4) := (h.2.2.2.2.2.2 o ho).1 _ (List.mem_of_getElem? (i := 11) rfl)
theorem tk_12 (h : fOK n K G) {o : Nat} (ho : isT o) : K (o + 12) = .inr (0, 4) := (h.2.2.2.2.2.2 o ho).1 _ (List.mem_of_getElem? (i := 12) rfl)
theorem tk_13 (h : fOK n K G) {o : Nat} (ho : isT o) : K (o + 13) = .inr (0, 4) := (h.2.2.2.2.2.2 o ho).1 _ (List.mem_of_getElem? (i := 13) rfl)
theorem tk_14 (h : fOK n K G) {o : Nat} (ho : isT o) : K (o + 14) = .inr (11, 5) := (h.2.2.2.2.2.2 o ho).1 _ (List.mem_of_getElem? (i := 14) rfl)
theorem tk_15 (h : fOK n K G) {o : Nat} (ho : isT o) : K (o + 15) = .inr (0, 4) := (h.2.2.2.2.2.2 o ho).1 _ (List.mem_of_getElem? (i := 15) rfl)
theorem tk_16 (h : fOK n K G) {o : Nat} (ho : isT o) : K (o + 16) = .inr (0, 4) := (h.2.2.2.2.2.2 o ho).1 _ (List.mem_of_getElem? (i := 16) rfl)
theorem tk_17 (h : fOK n K G) {o : Nat} (ho : isT o) : K (o + 17) = .inr (0, 4) := (h.2.2.2.2.2.2 o ho).1 _ (List.mem_of_getElem? (i := 17) rfl)
theorem tk_18 (h : fOK n K G) {o : Nat} (ho : isT o) : K (o + 18) = .inr (0, 4) := (h.2.2.2.2.2.2 o ho).1 _ (List.mem_of_getElem? (i := 18) rfl)
theorem tk_19 (h : fOK n K G) {o : Nat} (ho : isT o) : K (o + 19) = .inr (0, 4) := (h.2.2.2.2.2.2 o ho).1 _ (List.mem_of_getElem? (i := 19) rfl)
theorem tk_20 (h : fOK n K G) {o : Nat} (ho : isT o) : K (o + 20) = .inr (0, 4) := (h.2.2.2.2.2.2 o ho).1 _ (List.mem_of_getElem? (i := 20) rfl)
theorem tk_21 (h : fOK n K G) {o : Nat} (ho : isT o) : K (o + 21) = .inl 6 := (h.2.2.2.2.2.2 o ho).1 _ (List.mem_of_getElem? (i := 21) rfl)
theorem tk_22 (h : fOK n K G) {o : Nat} (ho : isT o) : K (o + 22) = .inr (0, 9) := (h.2.2.2.2.2.2 o ho).1 _ (List.mem_of_getElem? (i := 22) rfl)
theorem tg_0_0 (h : fOK n K G) {o : Nat} (ho : isT o) : G (o + 0) 0 = .ref (o + 1) := (h.2.2.2.2.2.2 o ho).2 _ (List.mem_of_getElem? (i := 0) rfl)
theorem tg_0_1 (h : fOK n K G) {o : Nat} (ho : isT o) : G (o + 0) 1 = .ref (o + 2) := (h.2.2.2.2.2.2 o ho).2 _ (List.mem_of_getElem? (i := 1) rfl)
theorem tg_0_2 (h : fOK n K G) {o : Nat} (ho : isT o) : G (o + 0) 2 = .ref (o + 3) := (h.2.2.2.2.2.2 o ho).2 _ (List.mem_of_getElem? (i := 2) rfl)
theorem tg_0_3 (h : fOK n K G) {o : Nat} (ho : isT o) : G (o + 0) 3 = .ref (o + 4) := (h.2.2.2.2.2.2 o ho).2 _ (List.mem_of_getElem? (i := 3) rfl)
theorem tg_0_4 (h : fOK n K G) {o : Nat} (ho : isT o) : G (o + 0) 4 = .ref (o + 5) := (h.2.2.2.2.2.2 o ho).2 _ (List.mem_of_getElem? (i := 4) rfl)
theorem tg_0_5 (h : fOK n K G) {o : Nat} (ho : isT o) : G (o + 0) 5 = .ref (o + 6) := (h.2.2.2.2.2.2 o ho).2 _ (List.mem_of_getElem? (i := 5) rfl)
theorem tg_0_6 (h : fOK n K G) {o : Nat} (ho : isT o) : G (o + 0) 6 = .ref (o + 7) := (h.2.2.2.2.2.2 o ho).2 _ (List.mem_of_getElem? (i := 6) rfl)
theorem tg_0_7 (h : fOK n K G) {o : Nat} (ho : isT o) : G (o + 0) 7 = .ref (o + 8) := (h.2.2.2.2.2.2 o ho).2 _ (List.mem_of_getElem? (i := 7) rfl)
theorem tg_0_8 (h : fOK n K G) {o : Nat} (ho : isT o) : G (o + 0) 8 = .ref (o + 14) := (h.2.2.2.2.2.2 o ho).2 _ (List.mem_of_getElem? (i := 8) rfl)
theorem tg_0_12 (h : fOK n K G) {o : Nat} (ho : isT o) : G (o + 0) 12 = .ref (o + 20) := (h.2.2.2.2.2.2 o ho).2 _ (List.mem_of_getElem? (i := 9) rfl)
theorem tg_0_13 (h : fOK n K G) {o : Nat} (ho : isT o) : G (o + 0) 13 = .ref (o + 21) := (h.2.2.2.2.2.2 o ho).2 _ (List.mem_of_getElem? (i := 10) rfl)
theorem tg_8_0 (h : fOK n K G) {o : Nat} (ho : isT o) : G (o + 8) 0 = .ref (o + 9) := (h.2.2.2.2.2.2 o ho).2 _ (List.mem_of_getElem? (i := 11) rfl)
theorem tg_8_1 (h : fOK n K G) {o : Nat} (ho : isT o) : G (o + 8) 1 = .ref (o + 10) := (h.2.2.2.2.2.2 o ho).2 _ (List.mem_of_getElem? (i := 12) rfl)
theorem tg_8_2 (h : fOK n K G) {o : Nat} (ho : isT o) : G (o + 8) 2 = .ref (o + 11) := (h.2.2.2.2.2.2 o ho).2 _ (List.mem_of_getElem? (i := 13) rfl)
theorem tg_8_3 (h : fOK n K G) {o : Nat} (ho : isT o) : G (o + 8) 3 = .ref (o + 12) := (h.2.2.2.2.2.2 o ho).2 _ (List.mem_of_getElem? (i := 14) rfl)
theorem tg_8_4 (h : fOK n K G) {o : Nat} (ho : isT o) : G (o + 8) 4 = .ref (o + 13) := (h.2.2.2.2.2.2 o ho).2 _ (List.mem_of_getElem? (i := 15) rfl)
theorem tg_14_0 (h : fOK n K G) {o : Nat} (ho : isT o) : G (o + 14) 0 = .ref (o + 15) := (h.2.2.2.2.2.2 o ho).2 _ (List.mem_of_getElem? (i := 16) rfl)
theorem tg_14_1 (h : fOK n K G) {o : Nat} (ho : isT o) : G (o + 14) 1 = .ref (o + 16) := (h.2.2.2.2.2.2 o ho).2 _ (List.mem_of_getElem? (i := 17) rfl)
theorem tg_14_2 (h : fOK n K G) {o : Nat} (ho : isT o) : G (o + 14) 2 = .ref (o + 17) := (h.2.2.2.2.2.2 o ho).2 _ (List.mem_of_getElem? (i := 18) rfl)
theorem tg_14_3 (h : fOK n K G) {o : Nat} (ho : isT o) : G (o + 14) 3 = .ref (o + 18) := (h.2.2.2.2.2.2 o ho).2 _ (List.mem_of_getElem? (i := 19) rfl)
theorem tg_14_4 (h : fOK n K G) {o : Nat} (ho : isT o) : G (o + 14) 4 = .ref (o + 19) := (h.2.2.2.2.2.2 o ho).2 _ (List.mem_of_getElem? (i := 20) rfl)
theorem tg_21_0 (h : fOK n K G) {o : Nat} (ho : isT o) : G (o + 21) 0 = .ref (o + 22) := (h.2.2.2.2.2.2 o ho).2 _ (List.mem_of_getElem? (i := 21) rfl)
theorem xk_0 {t : Nat} (h : xOK n K G t) : K (t + 0) = .inl 4 := h.2.1 _ (List.mem_of_getElem? (i := 0) rfl)
theorem xk_1 {t : Nat} (h : xOK n K G t) : K (t + 1) = .inl 17 := h.2.1 _ (List.mem_of_getElem? (i := 1) rfl)
theorem xk_2 {t : Nat} (h : xOK n K G t) : K (t + 2) = .inl 17 := h.2.1 _ (List.mem_of_getElem? (i := 2) rfl)
theorem xk_3 {t : Nat} (h : xOK n K G t) : K (t + 3) = .inl 17 := h.2.1 _ (List.mem_of_getElem? (i := 3) rfl)
theorem xk_4 {t : Nat} (h : xOK n K G t) : K (t + 4) = .inr (0, 8) := h.2.1 _ (List.mem_of_getElem? (i := 4) rfl)
theorem xk_5 {t : Nat} (h : xOK n K G t) : K (t + 5) = .inr (0, 8) := h.2.1 _ (List.mem_of_getElem? (i := 5) rfl)
theorem xk_6 {t : Nat} (h : xOK n K G t) : K (t + 6) = .inr (7, 4) := h.2.1 _ (List.mem_of_getElem? (i := 6) rfl)
theorem xk_7 {t : Nat} (h : xOK n K G t) : K (t + 7) = .inr (11, 7) := h.2.1 _ (List.mem_of_getElem? (i := 7) rfl)
theorem xk_8 {t : Nat} (h : xOK n K G t) : K (t + 8) = .inr (0, 7) := h.2.1 _ (List.mem_of_getElem? (i := 8) rfl)
theorem xk_9 {t : Nat} (h : xOK n K G t) : K (t + 9) = .inr (0, 7) := h.2.1 _ (List.mem_of_getElem? (i := 9) rfl)
theorem xk_10 {t : Nat} (h : xOK n K G t) : K (t + 10) = .inr (0, 7) := h.2.1 _ (List.mem_of_getElem? (i := 10) rfl)
theorem xk_11 {t : Nat} (h : xOK n K G t) : K (t + 11) = .inr (0, 7) := h.2.1 _ (List.mem_of_getElem? (i := 11) rfl)
theorem xk_12 {t : Nat} (h : xOK n K G t) : K (t + 12) = .inr (0, 7) := h.2.1 _ (List.mem_of_getElem? (i := 12) rfl)
theorem xk_13 {t : Nat} (h : xOK n K G t) : K (t + 13) = .inr (0, 7) := h.2.1 _ (List.mem_of_getElem? (i := 13) rfl)
theorem xk_14 {t : Nat} (h : xOK n K G t) : K (t + 14) = .inr (0, 7) := h.2.1 _ (List.mem_of_getElem? (i := 14) rfl)
theorem xg_0_0 {t : Nat} (h : xOK n K G t) : G (t + 0) 0 = .ref (t + 1) := h.2.2 _ (List.mem_of_getElem? (i := 0) rfl)
theorem xg_0_1 {t : Nat} (h : xOK n K G t) : G (t + 0) 1 = .ref (t + 2) := h.2.2 _ (List.mem_of_getElem? (i := 1) rfl)
theorem xg_0_2 {t : Nat} (h : xOK n K G t) : G (t + 0) 2 = .ref (t + 3) := h.2.2 _ (List.mem_of_getElem? (i := 2) rfl)
theorem xg_0_3 {t : Nat} (h : xOK n K G t) : G (t + 0) 3 = .ref (t + 4) := h.2.2 _ (List.mem_of_getElem? (i := 3) rfl)
theorem xg_0_4 {t : Nat} (h : xOK n K G t) : G (t + 0) 4 = .ref (t + 5) := h.2.2 _ (List.mem_of_getElem? (i := 4) rfl)
theorem xg_0_5 {t : Nat} (h : xOK n K G t) : G (t + 0) 5 = .ref (t + 6) := h.2.2 _ (List.mem_of_getElem? (i := 5) rfl)
theorem xg_0_6 {t : Nat} (h : xOK n K G t) : G (t + 0) 6 = .ref (t + 7) := h.2.2 _ (List.mem_of_getElem? (i := 6) rfl)
theorem xg_7_0 {t : Nat} (h : xOK n K G t) : G (t + 7) 0 = .ref (t + 8) := h.2.2 _ (List.mem_of_getElem? (i := 7) rfl)
theorem xg_7_1 {t : Nat} (h : xOK n K G t) : G (t + 7) 1 = .ref (t + 9) := h.2.2 _ (List.mem_of_getElem? (i := 8) rfl)
theorem xg_7_2 {t : Nat} (h : xOK n K G t) : G (t + 7) 2 = .ref (t + 10) := h.2.2 _ (List.mem_of_getElem? (i := 9) rfl)
theorem xg_7_3 {t : Nat} (h : xOK n K G t) : G (t + 7) 3 = .ref (t + 11) := h.2.2 _ (List.mem_of_getElem? (i := 10) rfl)
theorem xg_7_4 {t : Nat} (h : xOK n K G t) : G (t + 7) 4 = .ref (t + 12) := h.2.2 _ (List.mem_of_getElem? (i := 11) rfl)
theorem xg_7_5 {t : Nat} (h : xOK n K G t) : G (t + 7) 5 = .ref (t + 13) := h.2.2 _ (List.mem_of_getElem? (i := 12) rfl)
theorem xg_7_6 {t : Nat} (h : xOK n K G t) : G (t + 7) 6 = .ref (t + 14) := h.2.2 _ (List.mem_of_getElem? (i := 13) rfl)
theorem steps_row (h : fOK n K G) {k : Nat} (hk : k < 128) : G 146 k = .ref (147 + k) := (h.2.2.2.2.1 k hk).2
theorem steps_k (h : fOK n K G) {k : Nat} (hk : k < 128) : K (147 + k) = .inr (0, 7) := (h.2.2.2.2.1 k hk).1
theorem steps_lt (h : fOK n K G) {k : Nat} (hk : k < 128) : 147 + k < n := by have := h.2.1; omega
theorem past_row (h : fOK n K G) {k : Nat} (hk : k < 40) : G 71 k = .ref (278 + 23 * k) := h.2.2.2.2.2.1 k hk
theorem isT_past {k : Nat} (hk : k < 40) : isT (278 + 23 * k) := Or.inr (Or.inr (Or.inr ⟨k, hk, rfl⟩))
theorem isT_slot {k : Nat} (hk : k < 3) : isT (73 + 23 * k) := Or.inr (Or.inr (Or.inl ⟨k, hk, rfl⟩))
theorem isT_town : isT 25 := Or.inl rfl
theorem isT_trial : isT 48 := Or.inr (Or.inl rfl)
theorem slots_row (h : fOK n K G) {k : Nat} (hk : k < 3) : G 72 k = .ref (73 + 23 * k) := by
  match k, hk with
  | 0, _ => exact fg_72_0 h
  | 1, _ => exact fg_72_1 h
  | 2, _ => exact fg_72_2 h
theorem times_row (h : fOK n K G) {k : Nat} (hk : k < 2) : G 142 k = .ref (143 + k) := by
  match k, hk with
  | 0, _ => exact fg_142_0 h
  | 1, _ => exact fg_142_1 h
theorem words_lt {k : Nat} (hk : k < 23) : 1 + k < 24 := by omega
theorem j_l2 (h : n ≤ 1000000) {a : Nat} (ha : a < n) : a < 2000000 := by omega
theorem words_row (h : fOK n K G) {k : Nat} (hk : k < 23) : G 3 k = .ref (1000000 + (1 + k)) := by
  match k, hk with
  | 0, _ => exact fg_3_0 h
  | 1, _ => exact fg_3_1 h
  | 2, _ => exact fg_3_2 h
  | 3, _ => exact fg_3_3 h
  | 4, _ => exact fg_3_4 h
  | 5, _ => exact fg_3_5 h
  | 6, _ => exact fg_3_6 h
  | 7, _ => exact fg_3_7 h
  | 8, _ => exact fg_3_8 h
  | 9, _ => exact fg_3_9 h
  | 10, _ => exact fg_3_10 h
  | 11, _ => exact fg_3_11 h
  | 12, _ => exact fg_3_12 h
  | 13, _ => exact fg_3_13 h
  | 14, _ => exact fg_3_14 h
  | 15, _ => exact fg_3_15 h
  | 16, _ => exact fg_3_16 h
  | 17, _ => exact fg_3_17 h
  | 18, _ => exact fg_3_18 h
  | 19, _ => exact fg_3_19 h
  | 20, _ => exact fg_3_20 h
  | 21, _ => exact fg_3_21 h
  | 22, _ => exact fg_3_22 h
  | k + 23, h9 => exact absurd h9 (by omega)
theorem t_row8 (h : fOK n K G) {o k : Nat} (ho : isT o) (hk : k < 5) : G (o + 8) k = .ref (o + 9 + k) ∧ K (o + 9 + k) = .inr (0, 4) := by
  match k, hk with
  | 0, _ => exact ⟨tg_8_0 h ho, tk_9 h ho⟩
  | 1, _ => exact ⟨tg_8_1 h ho, tk_10 h ho⟩
  | 2, _ => exact ⟨tg_8_2 h ho, tk_11 h ho⟩
  | 3, _ => exact ⟨tg_8_3 h ho, tk_12 h ho⟩
  | 4, _ => exact ⟨tg_8_4 h ho, tk_13 h ho⟩
theorem t_rowlt8 (h : fOK n K G) {o k : Nat} (ho : isT o) (hk : k < 5) : o + 9 + k < n := by have := isT_lt ho; have := h.2.1; omega
theorem t_row14 (h : fOK n K G) {o k : Nat} (ho : isT o) (hk : k < 5) : G (o + 14) k = .ref (o + 15 + k) ∧ K (o + 15 + k) = .inr (0, 4) := by
  match k, hk with
  | 0, _ => exact ⟨tg_14_0 h ho, tk_15 h ho⟩
  | 1, _ => exact ⟨tg_14_1 h ho, tk_16 h ho⟩
  | 2, _ => exact ⟨tg_14_2 h ho, tk_17 h ho⟩
  | 3, _ => exact ⟨tg_14_3 h ho, tk_18 h ho⟩
  | 4, _ => exact ⟨tg_14_4 h ho, tk_19 h ho⟩
theorem t_rowlt14 (h : fOK n K G) {o k : Nat} (ho : isT o) (hk : k < 5) : o + 15 + k < n := by have := isT_lt ho; have := h.2.1; omega
theorem x_row {t k : Nat} (h : xOK n K G t) (hk : k < 7) : G (t + 7) k = .ref (t + 8 + k) ∧ K (t + 8 + k) = .inr (0, 7) := by
  match k, hk with
  | 0, _ => exact ⟨xg_7_0 h, xk_8 h⟩
  | 1, _ => exact ⟨xg_7_1 h, xk_9 h⟩
  | 2, _ => exact ⟨xg_7_2 h, xk_10 h⟩
  | 3, _ => exact ⟨xg_7_3 h, xk_11 h⟩
  | 4, _ => exact ⟨xg_7_4 h, xk_12 h⟩
  | 5, _ => exact ⟨xg_7_5 h, xk_13 h⟩
  | 6, _ => exact ⟨xg_7_6 h, xk_14 h⟩
theorem x_rowlt {t k : Nat} (h : xOK n K G t) (hk : k < 7) : t + 8 + k < n := by have := h.1; omega
end FW
section FN
variable {Γ : jG} {own : String} {cc : ByteArray} {L : Nat} {ret : Option FieldType} {nm : String} {hh : List (Nat × Nat × Nat × Nat)} {dd kc ks pc : Nat} {ls : List (Nat × Value)} {st : List Value} {Q : jO → pS → Prop} {n : Nat} {K : Nat → pKd} {A : pA} {Lg : pL} {G : pG}
theorem j_castN14 {index v : Nat} (hcl : Cond.classLink own index "DogsHour$Named" ∈ lw_all) (hv : v < n) (hk : K v = .inl 14) (d : decode cc pc = .ok (.checkcast index, 3)) (k : J Γ own cc L ret nm hh dd kc ks (pc + 3) ls (.ref v :: st) (n, K, A, Lg, G) Q) : J Γ own cc L ret nm hh dd kc ks pc ls (.ref v :: st) (n, K, A, Lg, G) Q := by
  intro p e R s m args below meth c H locs cells slots mc ms lsA hS hD hl
  have h9 : n + kc ≤ 1000000 := hD.2.2.2.2
  exact j_cast (C := RX17) hcl (by omega) (fun s9 H9 hK9 hR9 h69 => jIs_in hK9 hR9 h69 hv hk rfl) (Or.inr (by decide)) d k p e R s m args below meth c H locs cells slots mc ms lsA hS hD hl
theorem j_castN15 {index v : Nat} (hcl : Cond.classLink own index "DogsHour$Named" ∈ lw_all) (hv : v < n) (hk : K v = .inl 15) (d : decode cc pc = .ok (.checkcast index, 3)) (k : J Γ own cc L ret nm hh dd kc ks (pc + 3) ls (.ref v :: st) (n, K, A, Lg, G) Q) : J Γ own cc L ret nm hh dd kc ks pc ls (.ref v :: st) (n, K, A, Lg, G) Q := by
  intro p e R s m args below meth c H locs cells slots mc ms lsA hS hD hl
  have h9 : n + kc ≤ 1000000 := hD.2.2.2.2
  exact j_cast (C := RX18) hcl (by omega) (fun s9 H9 hK9 hR9 h69 => jIs_in hK9 hR9 h69 hv hk rfl) (Or.inr (by decide)) d k p e R s m args below meth c H locs cells slots mc ms lsA hS hD hl
theorem j_castN16 {index v : Nat} (hcl : Cond.classLink own index "DogsHour$Named" ∈ lw_all) (hv : v < n) (hk : K v = .inl 16) (d : decode cc pc = .ok (.checkcast index, 3)) (k : J Γ own cc L ret nm hh dd kc ks (pc + 3) ls (.ref v :: st) (n, K, A, Lg, G) Q) : J Γ own cc L ret nm hh dd kc ks pc ls (.ref v :: st) (n, K, A, Lg, G) Q := by
  intro p e R s m args below meth c H locs cells slots mc ms lsA hS hD hl
  have h9 : n + kc ≤ 1000000 := hD.2.2.2.2
  exact j_cast (C := RX19) hcl (by omega) (fun s9 H9 hK9 hR9 h69 => jIs_in hK9 hR9 h69 hv hk rfl) (Or.inr (by decide)) d k p e R s m args below meth c H locs cells slots mc ms lsA hS hD hl
end FN
