set_option maxRecDepth 100000
set_option maxHeartbeats 4000000
theorem fp_i_X13_7_11 (nm : String) (hi : nm = "<init>") : jFp RX13 nm 7 11 0 .int := ⟨_, _, _, _, _, ck_X13, by decide, q801, Or.inl rfl, rfl, Or.inr ⟨rfl, hi, rfl⟩⟩
theorem fp_i_X14_7_12 (nm : String) (hi : nm = "<init>") : jFp RX14 nm 7 12 0 .int := ⟨_, _, _, _, _, ck_X14, by decide, q811, Or.inl rfl, rfl, Or.inr ⟨rfl, hi, rfl⟩⟩
theorem fp_i_X15_7_13 (nm : String) (hi : nm = "<init>") : jFp RX15 nm 7 13 0 .int := ⟨_, _, _, _, _, ck_X15, by decide, q821, Or.inl rfl, rfl, Or.inr ⟨rfl, hi, rfl⟩⟩
theorem fp_i_X15_13_13 (nm : String) (hi : nm = "<init>") : jFp RX15 nm 13 13 1 (.object "DogsHour$Sum") := ⟨_, _, _, _, _, ck_X15, by decide, q822, Or.inl rfl, rfl, Or.inr ⟨rfl, hi, rfl⟩⟩
theorem fp_i_X15_17_13 (nm : String) (hi : nm = "<init>") : jFp RX15 nm 17 13 2 (.object "DogsHour$Sum") := ⟨_, _, _, _, _, ck_X15, by decide, q823, Or.inl rfl, rfl, Or.inr ⟨rfl, hi, rfl⟩⟩
theorem fp_i_X16_7_14 (nm : String) (hi : nm = "<init>") : jFp RX16 nm 7 14 0 (.object "java/lang/String") := ⟨_, _, _, _, _, ck_X17, by decide, q1044, Or.inl rfl, rfl, Or.inr ⟨rfl, hi, rfl⟩⟩
theorem fp_i_X16_7_15 (nm : String) (hi : nm = "<init>") : jFp RX16 nm 7 15 0 (.object "java/lang/String") := ⟨_, _, _, _, _, ck_X18, by decide, q1044, Or.inl rfl, rfl, Or.inr ⟨rfl, hi, rfl⟩⟩
theorem fp_i_X16_7_16 (nm : String) (hi : nm = "<init>") : jFp RX16 nm 7 16 0 (.object "java/lang/String") := ⟨_, _, _, _, _, ck_X19, by decide, q1044, Or.inl rfl, rfl, Or.inr ⟨rfl, hi, rfl⟩⟩
theorem fp_i_X6_7_6 (nm : String) (hi : nm = "<init>") : jFp RX6 nm 7 6 0 (.array .int) := ⟨_, _, _, _, _, ck_X6, by decide, q445, Or.inl rfl, rfl, Or.inr ⟨rfl, hi, rfl⟩⟩
theorem fp_i_X5_9_5 (nm : String) (hi : nm = "<init>") : jFp RX5 nm 9 5 0 (.array .int) := ⟨_, _, _, _, _, ck_X5, by decide, q455, Or.inl rfl, rfl, Or.inr ⟨rfl, hi, rfl⟩⟩
theorem fp_i_X5_15_5 (nm : String) (hi : nm = "<init>") : jFp RX5 nm 15 5 1 (.array .int) := ⟨_, _, _, _, _, ck_X5, by decide, q457, Or.inl rfl, rfl, Or.inr ⟨rfl, hi, rfl⟩⟩
theorem fp_i_X5_18_5 (nm : String) (hi : nm = "<init>") : jFp RX5 nm 18 5 2 (.array .int) := ⟨_, _, _, _, _, ck_X5, by decide, q459, Or.inl rfl, rfl, Or.inr ⟨rfl, hi, rfl⟩⟩
theorem fp_i_X5_21_5 (nm : String) (hi : nm = "<init>") : jFp RX5 nm 21 5 3 (.array .int) := ⟨_, _, _, _, _, ck_X5, by decide, q461, Or.inl rfl, rfl, Or.inr ⟨rfl, hi, rfl⟩⟩
theorem fp_i_X5_24_5 (nm : String) (hi : nm = "<init>") : jFp RX5 nm 24 5 4 (.array .int) := ⟨_, _, _, _, _, ck_X5, by decide, q463, Or.inl rfl, rfl, Or.inr ⟨rfl, hi, rfl⟩⟩
theorem fp_i_X5_27_5 (nm : String) (hi : nm = "<init>") : jFp RX5 nm 27 5 5 (.array .int) := ⟨_, _, _, _, _, ck_X5, by decide, q465, Or.inl rfl, rfl, Or.inr ⟨rfl, hi, rfl⟩⟩
theorem fp_i_X5_30_5 (nm : String) (hi : nm = "<init>") : jFp RX5 nm 30 5 6 (.array .int) := ⟨_, _, _, _, _, ck_X5, by decide, q467, Or.inl rfl, rfl, Or.inr ⟨rfl, hi, rfl⟩⟩
theorem fp_i_X5_35_5 (nm : String) (hi : nm = "<init>") : jFp RX5 nm 35 5 7 (.array (.array .int)) := ⟨_, _, _, _, _, ck_X5, by decide, q469, Or.inl rfl, rfl, Or.inr ⟨rfl, hi, rfl⟩⟩
theorem fp_i_X5_38_5 (nm : String) (hi : nm = "<init>") : jFp RX5 nm 38 5 8 (.array (.array .int)) := ⟨_, _, _, _, _, ck_X5, by decide, q471, Or.inl rfl, rfl, Or.inr ⟨rfl, hi, rfl⟩⟩
theorem fp_i_X5_41_5 (nm : String) (hi : nm = "<init>") : jFp RX5 nm 41 5 12 (.array .int) := ⟨_, _, _, _, _, ck_X5, by decide, q479, Or.inl rfl, rfl, Or.inr ⟨rfl, hi, rfl⟩⟩
theorem fp_i_X5_47_5 (nm : String) (hi : nm = "<init>") : jFp RX5 nm 47 5 13 (.object "DogsHour$Asked") := ⟨_, _, _, _, _, ck_X5, by decide, q480, Or.inl rfl, rfl, Or.inr ⟨rfl, hi, rfl⟩⟩
theorem fp_i_X11_11_10 (nm : String) (hi : nm = "<init>") : jFp RX11 nm 11 10 0 (.array (.object "DogsHour$Sum")) := ⟨_, _, _, _, _, ck_X11, by decide, q743, Or.inl rfl, rfl, Or.inr ⟨rfl, hi, rfl⟩⟩
theorem fp_i_X11_17_10 (nm : String) (hi : nm = "<init>") : jFp RX11 nm 17 10 1 (.array (.object "DogsHour$Sum")) := ⟨_, _, _, _, _, ck_X11, by decide, q745, Or.inl rfl, rfl, Or.inr ⟨rfl, hi, rfl⟩⟩
theorem fp_i_X11_20_10 (nm : String) (hi : nm = "<init>") : jFp RX11 nm 20 10 2 (.array (.object "DogsHour$Sum")) := ⟨_, _, _, _, _, ck_X11, by decide, q747, Or.inl rfl, rfl, Or.inr ⟨rfl, hi, rfl⟩⟩
theorem fp_i_X3_9_3 (nm : String) (hi : nm = "<init>") : jFp RX3 nm 9 3 0 (.object "DogsHour$Tokens") := ⟨_, _, _, _, _, ck_X3, by decide, q309, Or.inl rfl, rfl, Or.inr ⟨rfl, hi, rfl⟩⟩
theorem fp_i_X3_15_3 (nm : String) (hi : nm = "<init>") : jFp RX3 nm 15 3 1 (.object "DogsHour$Fault") := ⟨_, _, _, _, _, ck_X3, by decide, q310, Or.inl rfl, rfl, Or.inr ⟨rfl, hi, rfl⟩⟩
theorem fp_i_X2_57_2 (nm : String) (hi : nm = "<init>") : jFp RX2 nm 57 2 0 (.array (.object "java/lang/String")) := ⟨_, _, _, _, _, ck_X2, by decide, q272, Or.inl rfl, rfl, Or.inr ⟨rfl, hi, rfl⟩⟩
theorem fp_i_X2_63_2 (nm : String) (hi : nm = "<init>") : jFp RX2 nm 63 2 1 (.array .byte) := ⟨_, _, _, _, _, ck_X2, by decide, q273, Or.inl rfl, rfl, Or.inr ⟨rfl, hi, rfl⟩⟩
theorem fp_i_X2_67_2 (nm : String) (hi : nm = "<init>") : jFp RX2 nm 67 2 3 (.array .byte) := ⟨_, _, _, _, _, ck_X2, by decide, q277, Or.inl rfl, rfl, Or.inr ⟨rfl, hi, rfl⟩⟩
theorem fp_i_X2_70_2 (nm : String) (hi : nm = "<init>") : jFp RX2 nm 70 2 4 (.array .short) := ⟨_, _, _, _, _, ck_X2, by decide, q279, Or.inl rfl, rfl, Or.inr ⟨rfl, hi, rfl⟩⟩
theorem fp_i_X2_74_2 (nm : String) (hi : nm = "<init>") : jFp RX2 nm 74 2 5 (.array .short) := ⟨_, _, _, _, _, ck_X2, by decide, q281, Or.inl rfl, rfl, Or.inr ⟨rfl, hi, rfl⟩⟩
theorem fp_i_X2_77_2 (nm : String) (hi : nm = "<init>") : jFp RX2 nm 77 2 6 (.array .short) := ⟨_, _, _, _, _, ck_X2, by decide, q282, Or.inl rfl, rfl, Or.inr ⟨rfl, hi, rfl⟩⟩
theorem fp_i_J0_31_1 (nm : String) : jFp RJ0 nm 31 1 3 (.object "java/lang/String") := ⟨_, _, _, _, _, ck_X1, by decide, q224, Or.inl rfl, rfl, Or.inl rfl⟩
theorem fp_i_J0_7_1 (nm : String) : jFp RJ0 nm 7 1 0 (.object "java/lang/Throwable") := ⟨_, _, _, _, _, ck_X1, by decide, q225, Or.inl rfl, rfl, Or.inl rfl⟩
theorem fp_i_J0_24_1 (nm : String) : jFp RJ0 nm 24 1 2 (.object "java/util/List") := ⟨_, _, _, _, _, ck_X1, by decide, q227, Or.inl rfl, rfl, Or.inl rfl⟩
theorem fp_i_J0_17_1 (nm : String) : jFp RJ0 nm 17 1 1 (.array (.object "java/lang/StackTraceElement")) := ⟨_, _, _, _, _, ck_X1, by decide, q226, Or.inl rfl, rfl, Or.inl rfl⟩
theorem fp_i_J4_7_17 (nm : String) : jFp RJ4 nm 7 17 0 .int := ⟨_, _, _, _, _, ck_J5, by decide, q353, Or.inl rfl, rfl, Or.inl rfl⟩
theorem fp_i_J5_9_17 (nm : String) : jFp RJ5 nm 9 17 1 (.array (.object "java/lang/Object")) := ⟨_, _, _, _, _, ck_J5, by decide, q351, Or.inl rfl, rfl, Or.inl rfl⟩
theorem fp_i_X4_12_4 (nm : String) (hi : nm = "<init>") : jFp RX4 nm 12 4 0 (.object "java/util/ArrayList") := ⟨_, _, _, _, _, ck_X4, by decide, q367, Or.inl rfl, rfl, Or.inr ⟨rfl, hi, rfl⟩⟩
theorem fp_i_X4_18_4 (nm : String) (hi : nm = "<init>") : jFp RX4 nm 18 4 1 (.object "java/util/ArrayList") := ⟨_, _, _, _, _, ck_X4, by decide, q370, Or.inl rfl, rfl, Or.inr ⟨rfl, hi, rfl⟩⟩
theorem fp_i_X4_21_4 (nm : String) (hi : nm = "<init>") : jFp RX4 nm 21 4 2 (.object "java/util/ArrayList") := ⟨_, _, _, _, _, ck_X4, by decide, q375, Or.inl rfl, rfl, Or.inr ⟨rfl, hi, rfl⟩⟩
theorem fp_i_X4_24_4 (nm : String) (hi : nm = "<init>") : jFp RX4 nm 24 4 3 (.array .int) := ⟨_, _, _, _, _, ck_X4, by decide, q379, Or.inl rfl, rfl, Or.inr ⟨rfl, hi, rfl⟩⟩
theorem fp_i_X4_28_4 (nm : String) (hi : nm = "<init>") : jFp RX4 nm 28 4 4 (.array .int) := ⟨_, _, _, _, _, ck_X4, by decide, q383, Or.inl rfl, rfl, Or.inr ⟨rfl, hi, rfl⟩⟩
theorem fp_i_X4_33_4 (nm : String) (hi : nm = "<init>") : jFp RX4 nm 33 4 5 (.array (.object "DogsHour$Law")) := ⟨_, _, _, _, _, ck_X4, by decide, q387, Or.inl rfl, rfl, Or.inr ⟨rfl, hi, rfl⟩⟩
theorem fp_i_X4_39_4 (nm : String) (hi : nm = "<init>") : jFp RX4 nm 39 4 6 (.array (.array .int)) := ⟨_, _, _, _, _, ck_X4, by decide, q390, Or.inl rfl, rfl, Or.inr ⟨rfl, hi, rfl⟩⟩
theorem fp_i_X4_42_4 (nm : String) : jFp RX4 nm 42 4 9 .int := ⟨_, _, _, _, _, ck_X4, by decide, q398, Or.inl rfl, rfl, Or.inl rfl⟩
theorem fp_i_X4_46_4 (nm : String) : jFp RX4 nm 46 4 10 .int := ⟨_, _, _, _, _, ck_X4, by decide, q401, Or.inl rfl, rfl, Or.inl rfl⟩
theorem fp_i_J11_15_19 (nm : String) : jFp RJ11 nm 15 19 0 (.array .byte) := ⟨_, _, _, _, _, ck_J12, by decide, q867, Or.inl rfl, rfl, Or.inl rfl⟩
theorem fp_i_J11_22_19 (nm : String) : jFp RJ11 nm 22 19 1 .byte := ⟨_, _, _, _, _, ck_J12, by decide, q868, Or.inl rfl, rfl, Or.inl rfl⟩
theorem fl_J11_22_19 : jFl RJ11 22 19 1 := ⟨_, _, _, _, _, ck_J12, by decide, q868, Or.inl rfl⟩
theorem fl_J11_15_19 : jFl RJ11 15 19 0 := ⟨_, _, _, _, _, ck_J12, by decide, q867, Or.inl rfl⟩
theorem fl_J11_79_19 : jFl RJ11 79 19 3 := ⟨_, _, _, _, _, ck_J12, by decide, q870, Or.inl rfl⟩
theorem fp_J11_79_19 (nm : String) : jFp RJ11 nm 79 19 3 .int := ⟨_, _, _, _, _, ck_J12, by decide, q870, Or.inl rfl, rfl, Or.inl rfl⟩
theorem fp_i_J8_15_18 (nm : String) (hi : nm = "<init>") : jFp RJ8 nm 15 18 1 .byte := ⟨_, _, _, _, _, ck_J8, by decide, q1002, Or.inl rfl, rfl, Or.inr ⟨rfl, hi, rfl⟩⟩
theorem fp_i_J8_9_18 (nm : String) (hi : nm = "<init>") : jFp RJ8 nm 9 18 0 (.array .byte) := ⟨_, _, _, _, _, ck_J8, by decide, q1001, Or.inl rfl, rfl, Or.inr ⟨rfl, hi, rfl⟩⟩
theorem fl_J8_1048_19 : jFl RJ8 1048 19 2 := ⟨_, _, _, _, _, ck_J12, by decide, q869, Or.inl rfl⟩
theorem fl_J8_9_18 : jFl RJ8 9 18 0 := ⟨_, _, _, _, _, ck_J8, by decide, q1001, Or.inl rfl⟩
theorem fl_J8_15_18 : jFl RJ8 15 18 1 := ⟨_, _, _, _, _, ck_J8, by decide, q1002, Or.inl rfl⟩
theorem fp_J5_9_17 (nm : String) : jFp RJ5 nm 9 17 1 (.array (.object "java/lang/Object")) := ⟨_, _, _, _, _, ck_J5, by decide, q351, Or.inl rfl, rfl, Or.inl rfl⟩
theorem fp_J5_48_17 (nm : String) : jFp RJ5 nm 48 17 2 .int := ⟨_, _, _, _, _, ck_J5, by decide, q352, Or.inl rfl, rfl, Or.inl rfl⟩
theorem fl_J5_63_17 : jFl RJ5 63 17 0 := ⟨_, _, _, _, _, ck_J5, by decide, q354, Or.inr q355⟩
theorem fp_J5_63_17 (nm : String) : jFp RJ5 nm 63 17 0 .int := ⟨_, _, _, _, _, ck_J5, by decide, q354, Or.inr q355, rfl, Or.inl rfl⟩
theorem fl_X4_59_14 : jFl RX4 59 14 0 := ⟨_, _, _, _, _, ck_X17, by decide, q1045, Or.inl rfl⟩
theorem fl_X4_59_15 : jFl RX4 59 15 0 := ⟨_, _, _, _, _, ck_X18, by decide, q1045, Or.inl rfl⟩
theorem fl_X4_59_16 : jFl RX4 59 16 0 := ⟨_, _, _, _, _, ck_X19, by decide, q1045, Or.inl rfl⟩
theorem fl_X4_18_4 : jFl RX4 18 4 1 := ⟨_, _, _, _, _, ck_X4, by decide, q370, Or.inl rfl⟩
theorem fl_X4_21_4 : jFl RX4 21 4 2 := ⟨_, _, _, _, _, ck_X4, by decide, q375, Or.inl rfl⟩
theorem fl_X3_9_3 : jFl RX3 9 3 0 := ⟨_, _, _, _, _, ck_X3, by decide, q309, Or.inl rfl⟩
theorem fl_X3_44_2 : jFl RX3 44 2 3 := ⟨_, _, _, _, _, ck_X2, by decide, q278, Or.inl rfl⟩
theorem fl_X3_31_3 : jFl RX3 31 3 3 := ⟨_, _, _, _, _, ck_X3, by decide, q312, Or.inl rfl⟩
theorem fl_X3_52_2 : jFl RX3 52 2 6 := ⟨_, _, _, _, _, ck_X2, by decide, q283, Or.inl rfl⟩
theorem fp_X3_38_3 (nm : String) : jFp RX3 nm 38 3 5 .int := ⟨_, _, _, _, _, ck_X3, by decide, q314, Or.inl rfl, rfl, Or.inl rfl⟩
theorem fp_X3_41_3 (nm : String) : jFp RX3 nm 41 3 6 .int := ⟨_, _, _, _, _, ck_X3, by decide, q315, Or.inl rfl, rfl, Or.inl rfl⟩
theorem fl_X3_38_3 : jFl RX3 38 3 5 := ⟨_, _, _, _, _, ck_X3, by decide, q314, Or.inl rfl⟩
theorem fl_X3_41_3 : jFl RX3 41 3 6 := ⟨_, _, _, _, _, ck_X3, by decide, q315, Or.inl rfl⟩
theorem fp_X1_9_1 (nm : String) : jFp RX1 nm 9 1 6 .int := ⟨_, _, _, _, _, ck_X1, by decide, q219, Or.inl rfl, rfl, Or.inl rfl⟩
theorem fp_X1_15_1 (nm : String) : jFp RX1 nm 15 1 7 .int := ⟨_, _, _, _, _, ck_X1, by decide, q221, Or.inl rfl, rfl, Or.inl rfl⟩
theorem fl_X3_15_3 : jFl RX3 15 3 1 := ⟨_, _, _, _, _, ck_X3, by decide, q310, Or.inl rfl⟩
theorem fl_X3_19_2 : jFl RX3 19 2 4 := ⟨_, _, _, _, _, ck_X2, by decide, q280, Or.inl rfl⟩
theorem fp_X3_31_3 (nm : String) : jFp RX3 nm 31 3 3 .int := ⟨_, _, _, _, _, ck_X3, by decide, q312, Or.inl rfl, rfl, Or.inl rfl⟩
theorem fl_X3_83_3 : jFl RX3 83 3 2 := ⟨_, _, _, _, _, ck_X3, by decide, q311, Or.inl rfl⟩
theorem fl_X3_120_4 : jFl RX3 120 4 0 := ⟨_, _, _, _, _, ck_X4, by decide, q369, Or.inl rfl⟩
theorem fl_X3_209_14 : jFl RX3 209 14 1 := ⟨_, _, _, _, _, ck_X17, by decide, q1043, Or.inl rfl⟩
theorem fp_X3_209_14 (nm : String) : jFp RX3 nm 209 14 1 .int := ⟨_, _, _, _, _, ck_X17, by decide, q1043, Or.inl rfl, rfl, Or.inl rfl⟩
theorem fl_X3_216_4 : jFl RX3 216 4 3 := ⟨_, _, _, _, _, ck_X4, by decide, q382, Or.inl rfl⟩
theorem fl_X3_212_4 : jFl RX3 212 4 8 := ⟨_, _, _, _, _, ck_X4, by decide, q397, Or.inl rfl⟩
theorem fl_X3_220_4 : jFl RX3 220 4 4 := ⟨_, _, _, _, _, ck_X4, by decide, q386, Or.inl rfl⟩
theorem fp_X3_212_4 (nm : String) : jFp RX3 nm 212 4 8 .int := ⟨_, _, _, _, _, ck_X4, by decide, q397, Or.inl rfl, rfl, Or.inl rfl⟩
theorem fl_X3_174_4 : jFl RX3 174 4 2 := ⟨_, _, _, _, _, ck_X4, by decide, q378, Or.inl rfl⟩
theorem fl_X3_215_16 : jFl RX3 215 16 3 := ⟨_, _, _, _, _, ck_X19, by decide, q1156, Or.inl rfl⟩
theorem fp_X3_215_16 (nm : String) : jFp RX3 nm 215 16 3 .int := ⟨_, _, _, _, _, ck_X19, by decide, q1156, Or.inl rfl, rfl, Or.inl rfl⟩
theorem fl_X3_99_3 : jFl RX3 99 3 4 := ⟨_, _, _, _, _, ck_X3, by decide, q313, Or.inl rfl⟩
theorem fp_X3_99_3 (nm : String) : jFp RX3 nm 99 3 4 .int := ⟨_, _, _, _, _, ck_X3, by decide, q313, Or.inl rfl, rfl, Or.inl rfl⟩
theorem fl_X3_243_10 : jFl RX3 243 10 2 := ⟨_, _, _, _, _, ck_X11, by decide, q748, Or.inl rfl⟩
theorem fl_X3_226_10 : jFl RX3 226 10 3 := ⟨_, _, _, _, _, ck_X11, by decide, q750, Or.inl rfl⟩
theorem fl_X3_229_10 : jFl RX3 229 10 0 := ⟨_, _, _, _, _, ck_X11, by decide, q744, Or.inl rfl⟩
theorem fl_X3_237_10 : jFl RX3 237 10 1 := ⟨_, _, _, _, _, ck_X11, by decide, q746, Or.inl rfl⟩
theorem fp_X3_226_10 (nm : String) : jFp RX3 nm 226 10 3 .int := ⟨_, _, _, _, _, ck_X11, by decide, q750, Or.inl rfl, rfl, Or.inl rfl⟩
theorem fl_X3_145_4 : jFl RX3 145 4 7 := ⟨_, _, _, _, _, ck_X4, by decide, q393, Or.inl rfl⟩
theorem fp_X3_145_4 (nm : String) : jFp RX3 nm 145 4 7 .int := ⟨_, _, _, _, _, ck_X4, by decide, q393, Or.inl rfl, rfl, Or.inl rfl⟩
theorem fl_X3_156_4 : jFl RX3 156 4 1 := ⟨_, _, _, _, _, ck_X4, by decide, q374, Or.inl rfl⟩
theorem fp_X3_162_15 (nm : String) : jFp RX3 nm 162 15 1 .int := ⟨_, _, _, _, _, ck_X18, by decide, q1125, Or.inl rfl, rfl, Or.inl rfl⟩
theorem fp_X3_168_15 (nm : String) : jFp RX3 nm 168 15 2 .int := ⟨_, _, _, _, _, ck_X18, by decide, q1128, Or.inl rfl, rfl, Or.inl rfl⟩
theorem fp_X3_171_15 (nm : String) : jFp RX3 nm 171 15 3 .int := ⟨_, _, _, _, _, ck_X18, by decide, q1131, Or.inl rfl, rfl, Or.inl rfl⟩
theorem fp_X3_180_16 (nm : String) : jFp RX3 nm 180 16 1 .int := ⟨_, _, _, _, _, ck_X19, by decide, q1152, Or.inl rfl, rfl, Or.inl rfl⟩
theorem fp_X3_183_16 (nm : String) : jFp RX3 nm 183 16 2 .int := ⟨_, _, _, _, _, ck_X19, by decide, q1155, Or.inl rfl, rfl, Or.inl rfl⟩
theorem fp_X3_189_4 (nm : String) : jFp RX3 nm 189 4 9 .int := ⟨_, _, _, _, _, ck_X4, by decide, q399, Or.inl rfl, rfl, Or.inl rfl⟩
theorem fl_X3_189_4 : jFl RX3 189 4 9 := ⟨_, _, _, _, _, ck_X4, by decide, q399, Or.inl rfl⟩
theorem fp_X3_196_4 (nm : String) : jFp RX3 nm 196 4 10 .int := ⟨_, _, _, _, _, ck_X4, by decide, q402, Or.inl rfl, rfl, Or.inl rfl⟩
theorem fp_X3_199_4 (nm : String) : jFp RX3 nm 199 4 11 .int := ⟨_, _, _, _, _, ck_X4, by decide, q405, Or.inl rfl, rfl, Or.inl rfl⟩
theorem fl_X3_112_4 : jFl RX3 112 4 5 := ⟨_, _, _, _, _, ck_X4, by decide, q389, Or.inl rfl⟩
theorem fp_X3_83_3 (nm : String) : jFp RX3 nm 83 3 2 (.object "DogsHour$Text") := ⟨_, _, _, _, _, ck_X3, by decide, q311, Or.inl rfl, rfl, Or.inl rfl⟩
theorem fp_i_X0_19_0 (nm : String) (hi : nm = "<init>") : jFp RX0 nm 19 0 0 (.object "DogsHour$Fault") := ⟨_, _, _, _, _, ck_X0, by decide, q555, Or.inl rfl, rfl, Or.inr ⟨rfl, hi, rfl⟩⟩
theorem fp_i_X0_28_0 (nm : String) (hi : nm = "<init>") : jFp RX0 nm 28 0 1 (.object "DogsHour$Tokens") := ⟨_, _, _, _, _, ck_X0, by decide, q556, Or.inl rfl, rfl, Or.inr ⟨rfl, hi, rfl⟩⟩
theorem fl_X0_19_0 : jFl RX0 19 0 0 := ⟨_, _, _, _, _, ck_X0, by decide, q555, Or.inl rfl⟩
theorem fp_i_X0_37_0 (nm : String) (hi : nm = "<init>") : jFp RX0 nm 37 0 2 (.object "DogsHour$Parser") := ⟨_, _, _, _, _, ck_X0, by decide, q557, Or.inl rfl, rfl, Or.inr ⟨rfl, hi, rfl⟩⟩
theorem fp_i_X0_44_0 (nm : String) : jFp RX0 nm 44 0 3 (.object "DogsHour$Text") := ⟨_, _, _, _, _, ck_X0, by decide, q558, Or.inl rfl, rfl, Or.inl rfl⟩
theorem fp_i_X0_48_0 (nm : String) : jFp RX0 nm 48 0 4 .int := ⟨_, _, _, _, _, ck_X0, by decide, q559, Or.inl rfl, rfl, Or.inl rfl⟩
theorem fp_i_X0_55_0 (nm : String) (hi : nm = "<init>") : jFp RX0 nm 55 0 7 (.object "DogsHour$Town") := ⟨_, _, _, _, _, ck_X0, by decide, q562, Or.inl rfl, rfl, Or.inr ⟨rfl, hi, rfl⟩⟩
theorem fp_i_X0_59_0 (nm : String) (hi : nm = "<init>") : jFp RX0 nm 59 0 8 (.object "DogsHour$Town") := ⟨_, _, _, _, _, ck_X0, by decide, q563, Or.inl rfl, rfl, Or.inr ⟨rfl, hi, rfl⟩⟩
theorem fp_i_X0_62_0 (nm : String) (hi : nm = "<init>") : jFp RX0 nm 62 0 9 (.array (.object "DogsHour$Town")) := ⟨_, _, _, _, _, ck_X0, by decide, q564, Or.inl rfl, rfl, Or.inr ⟨rfl, hi, rfl⟩⟩
theorem fp_i_X0_66_0 (nm : String) (hi : nm = "<init>") : jFp RX0 nm 66 0 10 (.array (.object "DogsHour$Town")) := ⟨_, _, _, _, _, ck_X0, by decide, q565, Or.inl rfl, rfl, Or.inr ⟨rfl, hi, rfl⟩⟩
theorem fp_i_X0_77_0 (nm : String) (hi : nm = "<init>") : jFp RX0 nm 77 0 11 (.array (.object "DogsHour$Time")) := ⟨_, _, _, _, _, ck_X0, by decide, q566, Or.inl rfl, rfl, Or.inr ⟨rfl, hi, rfl⟩⟩
theorem fp_i_X0_81_0 (nm : String) (hi : nm = "<init>") : jFp RX0 nm 81 0 12 (.array .boolean) := ⟨_, _, _, _, _, ck_X0, by decide, q567, Or.inl rfl, rfl, Or.inr ⟨rfl, hi, rfl⟩⟩
theorem fp_i_X0_87_0 (nm : String) (hi : nm = "<init>") : jFp RX0 nm 87 0 13 (.array (.array .int)) := ⟨_, _, _, _, _, ck_X0, by decide, q568, Or.inl rfl, rfl, Or.inr ⟨rfl, hi, rfl⟩⟩
theorem fp_i_X0_90_0 (nm : String) (hi : nm = "<init>") : jFp RX0 nm 90 0 15 (.array .int) := ⟨_, _, _, _, _, ck_X0, by decide, q570, Or.inl rfl, rfl, Or.inr ⟨rfl, hi, rfl⟩⟩
theorem fp_i_X0_94_0 (nm : String) (hi : nm = "<init>") : jFp RX0 nm 94 0 16 (.array .boolean) := ⟨_, _, _, _, _, ck_X0, by decide, q571, Or.inl rfl, rfl, Or.inr ⟨rfl, hi, rfl⟩⟩
theorem fp_i_X0_97_0 (nm : String) (hi : nm = "<init>") : jFp RX0 nm 97 0 17 (.array .int) := ⟨_, _, _, _, _, ck_X0, by decide, q572, Or.inl rfl, rfl, Or.inr ⟨rfl, hi, rfl⟩⟩
theorem fl_X0_125_1 : jFl RX0 125 1 6 := ⟨_, _, _, _, _, ck_X1, by decide, q220, Or.inl rfl⟩
theorem fl_X0_128_1 : jFl RX0 128 1 7 := ⟨_, _, _, _, _, ck_X1, by decide, q222, Or.inl rfl⟩
theorem fp_X0_48_0 (nm : String) : jFp RX0 nm 48 0 4 .int := ⟨_, _, _, _, _, ck_X0, by decide, q559, Or.inl rfl, rfl, Or.inl rfl⟩
theorem fl_X0_37_0 : jFl RX0 37 0 2 := ⟨_, _, _, _, _, ck_X0, by decide, q557, Or.inl rfl⟩
theorem fp_X0_44_0 (nm : String) : jFp RX0 nm 44 0 3 (.object "DogsHour$Text") := ⟨_, _, _, _, _, ck_X0, by decide, q558, Or.inl rfl, rfl, Or.inl rfl⟩
theorem cn_X5_44 : jCn RX5 44 6 2 := ⟨_, _, _, ck_X6, q439, q440, q133⟩
theorem cn_X4_9 : jCn RX4 9 17 3 := ⟨_, _, _, ck_J5, q337, q338, q131⟩
theorem cn_J12_18 : jCn RJ12 18 18 4 := ⟨_, _, _, ck_J8, q959, q960, q140⟩
theorem cn_X2_117 : jCn RX2 117 19 4 := ⟨_, _, _, ck_J12, q850, q851, q151⟩
theorem cn_X3_261 : jCn RX3 261 12 1 := ⟨_, _, _, ck_X14, q805, q806, q146⟩
theorem cn_X3_257 : jCn RX3 257 11 1 := ⟨_, _, _, ck_X13, q788, q789, q145⟩
theorem cn_X3_249 : jCn RX3 249 13 3 := ⟨_, _, _, ck_X15, q815, q816, q147⟩
theorem cn_X3_223 : jCn RX3 223 10 4 := ⟨_, _, _, ck_X11, q735, q736, q143⟩
theorem cn_X3_132 : jCn RX3 132 14 2 := ⟨_, _, _, ck_X17, q836, q837, q149⟩
theorem cn_X3_159 : jCn RX3 159 15 4 := ⟨_, _, _, ck_X18, q1118, q1119, q156⟩
theorem cn_X3_177 : jCn RX3 177 16 4 := ⟨_, _, _, ck_X19, q1145, q1146, q157⟩
theorem cn_X3_87 : jCn RX3 87 4 12 := ⟨_, _, _, ck_X4, q705, q332, q128⟩
theorem cn_X0_52 : jCn RX0 52 5 14 := ⟨_, _, _, ck_X5, q432, q433, q132⟩
theorem cn_X0_16 : jCn RX0 16 1 8 := ⟨_, _, _, ck_X1, q167, q168, q125⟩
theorem cn_X0_25 : jCn RX0 25 2 8 := ⟨_, _, _, ck_X2, q241, q242, q126⟩
theorem cn_X0_32 : jCn RX0 32 3 7 := ⟨_, _, _, ck_X3, q303, q304, q127⟩
theorem cn_X0_41 : jCn RX0 41 4 12 := ⟨_, _, _, ck_X4, q331, q332, q128⟩
theorem cn_X0_71 : jCn RX0 71 7 0 := ⟨_, _, _, ck_X8, q513, q514, q135⟩
theorem cn_X0_74 : jCn RX0 74 8 0 := ⟨_, _, _, ck_X9, q523, q524, q136⟩
