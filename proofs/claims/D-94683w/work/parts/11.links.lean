set_option maxRecDepth 100000
theorem ck0 : CK 0 RX6 TX6 76 := ⟨rfl, in_X6, tyX6_ok, nmX6⟩
theorem ck1 : CK 1 RX1 TX1 27 := ⟨rfl, in_X1, tyX1_ok, nmX1⟩
theorem ck2 : CK 2 RX2 TX2 9 := ⟨rfl, in_X2, tyX2_ok, nmX2⟩
theorem ck3 : CK 3 RX3 TX3 14 := ⟨rfl, in_X3, tyX3_ok, nmX3⟩
theorem ck4 : CK 4 RJ2 TJ2 3 := ⟨rfl, in_J2, tyJ2_ok, nmJ2⟩
theorem ck5 : CK 5 RX5 TX5 4 := ⟨rfl, in_X5, tyX5_ok, nmX5⟩
theorem ck6 : CK 6 RX8 TX8 4 := ⟨rfl, in_X8, tyX8_ok, nmX8⟩
theorem ck7 : CK 7 RX13 TX13 2 := ⟨rfl, in_X13, tyX13_ok, nmX13⟩
theorem ck8 : CK 8 RX9 TX9 3 := ⟨rfl, in_X9, tyX9_ok, nmX9⟩
theorem ck9 : CK 9 RX10 TX10 4 := ⟨rfl, in_X10, tyX10_ok, nmX10⟩
theorem ck10 : CK 10 RX11 TX11 4 := ⟨rfl, in_X11, tyX11_ok, nmX11⟩
theorem ck11 : CK 11 RX12 TX12 4 := ⟨rfl, in_X12, tyX12_ok, nmX12⟩
theorem ck12 : CK 12 RX15 TX15 1 := ⟨rfl, in_X15, tyX15_ok, nmX15⟩
theorem ck13 : CK 13 RX16 TX16 1 := ⟨rfl, in_X16, tyX16_ok, nmX16⟩
theorem ck14 : CK 14 RX17 TX17 1 := ⟨rfl, in_X17, tyX17_ok, nmX17⟩
theorem ck15 : CK 15 RX18 TX18 3 := ⟨rfl, in_X18, tyX18_ok, nmX18⟩
theorem ck16 : CK 16 RX7 TX7 8 := ⟨rfl, in_X7, tyX7_ok, nmX7⟩
theorem fl_X1_19_1 : FL RX1 19 1 0 := ⟨RX1, TX1, 27, "LongYears", ck1, by decide, Or.inl q342, Or.inl rfl⟩
theorem fl_X1_23_1 : FL RX1 23 1 3 := ⟨RX1, TX1, 27, "LongYears", ck1, by decide, Or.inl q345, Or.inl rfl⟩
theorem fp_X1_23_1 : FP RX1 23 1 3 := ⟨fl_X1_23_1, fun C T N h => by have := Option.some.inj (h.1.symm.trans ck1.1); cases this; rfl⟩
theorem fl_X1_32_1 : FL RX1 32 1 4 := ⟨RX1, TX1, 27, "LongYears", ck1, by decide, Or.inl q346, Or.inl rfl⟩
theorem fl_X1_39_1 : FL RX1 39 1 5 := ⟨RX1, TX1, 27, "LongYears", ck1, by decide, Or.inl q347, Or.inl rfl⟩
theorem fp_X1_39_1 : FP RX1 39 1 5 := ⟨fl_X1_39_1, fun C T N h => by have := Option.some.inj (h.1.symm.trans ck1.1); cases this; rfl⟩
theorem fl_X1_43_1 : FL RX1 43 1 6 := ⟨RX1, TX1, 27, "LongYears", ck1, by decide, Or.inl q348, Or.inl rfl⟩
theorem fl_X1_49_1 : FL RX1 49 1 7 := ⟨RX1, TX1, 27, "LongYears", ck1, by decide, Or.inl q349, Or.inl rfl⟩
theorem fl_X1_53_1 : FL RX1 53 1 8 := ⟨RX1, TX1, 27, "LongYears", ck1, by decide, Or.inl q350, Or.inl rfl⟩
theorem fl_X1_56_1 : FL RX1 56 1 13 := ⟨RX1, TX1, 27, "LongYears", ck1, by decide, Or.inl q355, Or.inl rfl⟩
theorem fl_X1_60_1 : FL RX1 60 1 16 := ⟨RX1, TX1, 27, "LongYears", ck1, by decide, Or.inl q358, Or.inl rfl⟩
theorem fl_X1_63_1 : FL RX1 63 1 17 := ⟨RX1, TX1, 27, "LongYears", ck1, by decide, Or.inl q359, Or.inl rfl⟩
theorem fl_X1_66_1 : FL RX1 66 1 18 := ⟨RX1, TX1, 27, "LongYears", ck1, by decide, Or.inl q360, Or.inl rfl⟩
theorem fl_X1_69_1 : FL RX1 69 1 19 := ⟨RX1, TX1, 27, "LongYears", ck1, by decide, Or.inl q361, Or.inl rfl⟩
theorem fl_X1_74_1 : FL RX1 74 1 20 := ⟨RX1, TX1, 27, "LongYears", ck1, by decide, Or.inl q362, Or.inl rfl⟩
theorem fl_X1_77_1 : FL RX1 77 1 21 := ⟨RX1, TX1, 27, "LongYears", ck1, by decide, Or.inl q363, Or.inl rfl⟩
theorem fl_X1_81_1 : FL RX1 81 1 22 := ⟨RX1, TX1, 27, "LongYears", ck1, by decide, Or.inl q364, Or.inl rfl⟩
theorem fl_X1_84_1 : FL RX1 84 1 23 := ⟨RX1, TX1, 27, "LongYears", ck1, by decide, Or.inl q365, Or.inl rfl⟩
theorem fl_X1_90_1 : FL RX1 90 1 1 := ⟨RX1, TX1, 27, "LongYears", ck1, by decide, Or.inl q343, Or.inl rfl⟩
theorem fp_X1_90_1 : FP RX1 90 1 1 := ⟨fl_X1_90_1, fun C T N h => by have := Option.some.inj (h.1.symm.trans ck1.1); cases this; rfl⟩
theorem fl_X1_100_1 : FL RX1 100 1 2 := ⟨RX1, TX1, 27, "LongYears", ck1, by decide, Or.inl q344, Or.inl rfl⟩
theorem fp_X1_100_1 : FP RX1 100 1 2 := ⟨fl_X1_100_1, fun C T N h => by have := Option.some.inj (h.1.symm.trans ck1.1); cases this; rfl⟩
theorem fl_X1_124_1 : FL RX1 124 1 9 := ⟨RX1, TX1, 27, "LongYears", ck1, by decide, Or.inl q351, Or.inl rfl⟩
theorem fp_X1_124_1 : FP RX1 124 1 9 := ⟨fl_X1_124_1, fun C T N h => by have := Option.some.inj (h.1.symm.trans ck1.1); cases this; rfl⟩
theorem fl_X1_135_1 : FL RX1 135 1 11 := ⟨RX1, TX1, 27, "LongYears", ck1, by decide, Or.inl q353, Or.inl rfl⟩
theorem fp_X1_135_1 : FP RX1 135 1 11 := ⟨fl_X1_135_1, fun C T N h => by have := Option.some.inj (h.1.symm.trans ck1.1); cases this; rfl⟩
theorem fl_X1_138_1 : FL RX1 138 1 14 := ⟨RX1, TX1, 27, "LongYears", ck1, by decide, Or.inl q356, Or.inl rfl⟩
theorem fp_X1_138_1 : FP RX1 138 1 14 := ⟨fl_X1_138_1, fun C T N h => by have := Option.some.inj (h.1.symm.trans ck1.1); cases this; rfl⟩
theorem fl_X1_141_1 : FL RX1 141 1 15 := ⟨RX1, TX1, 27, "LongYears", ck1, by decide, Or.inl q357, Or.inl rfl⟩
theorem fp_X1_141_1 : FP RX1 141 1 15 := ⟨fl_X1_141_1, fun C T N h => by have := Option.some.inj (h.1.symm.trans ck1.1); cases this; rfl⟩
theorem fl_X1_328_9 : FL RX1 328 9 1 := ⟨RX10, TX10, 4, "LongYears$Deed", ck9, by decide, Or.inl q865, Or.inl rfl⟩
theorem fl_X1_328_10 : FL RX1 328 10 1 := ⟨RX11, TX11, 4, "LongYears$Deed", ck10, by decide, Or.inl q865, Or.inl rfl⟩
theorem fl_X1_328_11 : FL RX1 328 11 1 := ⟨RX12, TX12, 4, "LongYears$Deed", ck11, by decide, Or.inl q865, Or.inl rfl⟩
theorem fl_X1_372_1 : FL RX1 372 1 24 := ⟨RX1, TX1, 27, "LongYears", ck1, by decide, Or.inl q366, Or.inl rfl⟩
theorem fp_X1_372_1 : FP RX1 372 1 24 := ⟨fl_X1_372_1, fun C T N h => by have := Option.some.inj (h.1.symm.trans ck1.1); cases this; rfl⟩
theorem fl_X1_375_1 : FL RX1 375 1 25 := ⟨RX1, TX1, 27, "LongYears", ck1, by decide, Or.inl q367, Or.inl rfl⟩
theorem fp_X1_375_1 : FP RX1 375 1 25 := ⟨fl_X1_375_1, fun C T N h => by have := Option.some.inj (h.1.symm.trans ck1.1); cases this; rfl⟩
theorem fl_X1_378_1 : FL RX1 378 1 26 := ⟨RX1, TX1, 27, "LongYears", ck1, by decide, Or.inl q368, Or.inl rfl⟩
theorem fp_X1_378_1 : FP RX1 378 1 26 := ⟨fl_X1_378_1, fun C T N h => by have := Option.some.inj (h.1.symm.trans ck1.1); cases this; rfl⟩
theorem fl_X1_434_1 : FL RX1 434 1 10 := ⟨RX1, TX1, 27, "LongYears", ck1, by decide, Or.inl q352, Or.inl rfl⟩
theorem fp_X1_434_1 : FP RX1 434 1 10 := ⟨fl_X1_434_1, fun C T N h => by have := Option.some.inj (h.1.symm.trans ck1.1); cases this; rfl⟩
theorem fl_X1_437_1 : FL RX1 437 1 12 := ⟨RX1, TX1, 27, "LongYears", ck1, by decide, Or.inl q354, Or.inl rfl⟩
theorem fp_X1_437_1 : FP RX1 437 1 12 := ⟨fl_X1_437_1, fun C T N h => by have := Option.some.inj (h.1.symm.trans ck1.1); cases this; rfl⟩
theorem fl_X10_9_9 : FL RX10 9 9 1 := ⟨RX10, TX10, 4, "LongYears$Deed", ck9, by decide, Or.inl q860, Or.inl rfl⟩
theorem fl_X10_9_10 : FL RX10 9 10 1 := ⟨RX11, TX11, 4, "LongYears$Deed", ck10, by decide, Or.inl q860, Or.inl rfl⟩
theorem fl_X10_9_11 : FL RX10 9 11 1 := ⟨RX12, TX12, 4, "LongYears$Deed", ck11, by decide, Or.inl q860, Or.inl rfl⟩
theorem fl_X10_15_9 : FL RX10 15 9 2 := ⟨RX10, TX10, 4, "LongYears$Deed", ck9, by decide, Or.inl q866, Or.inl rfl⟩
theorem fl_X10_15_10 : FL RX10 15 10 2 := ⟨RX11, TX11, 4, "LongYears$Deed", ck10, by decide, Or.inl q866, Or.inl rfl⟩
theorem fl_X10_15_11 : FL RX10 15 11 2 := ⟨RX12, TX12, 4, "LongYears$Deed", ck11, by decide, Or.inl q866, Or.inl rfl⟩
theorem fl_X7_7_16 : FL RX7 7 16 6 := ⟨RX7, TX7, 8, "LongYears$Fault", ck16, by decide, Or.inl q644, Or.inl rfl⟩
theorem fl_X7_13_16 : FL RX7 13 16 7 := ⟨RX7, TX7, 8, "LongYears$Fault", ck16, by decide, Or.inl q646, Or.inl rfl⟩
theorem fl_X13_7_7 : FL RX13 7 7 1 := ⟨RX13, TX13, 2, "LongYears$Feast", ck7, by decide, Or.inl q1014, Or.inl rfl⟩
theorem fl_X12_7_11 : FL RX12 7 11 2 := ⟨RX12, TX12, 4, "LongYears$Festive", ck11, by decide, Or.inl q867, Or.inr q868⟩
theorem fl_X12_13_11 : FL RX12 13 11 1 := ⟨RX12, TX12, 4, "LongYears$Festive", ck11, by decide, Or.inl q863, Or.inr q864⟩
theorem fl_X8_9_6 : FL RX8 9 6 1 := ⟨RX8, TX8, 4, "LongYears$Land", ck6, by decide, Or.inl q712, Or.inl rfl⟩
theorem fl_X8_15_6 : FL RX8 15 6 2 := ⟨RX8, TX8, 4, "LongYears$Land", ck6, by decide, Or.inl q714, Or.inl rfl⟩
theorem fl_X8_32_6 : FL RX8 32 6 3 := ⟨RX8, TX8, 4, "LongYears$Land", ck6, by decide, Or.inl q716, Or.inl rfl⟩
theorem fp_X8_32_6 : FP RX8 32 6 3 := ⟨fl_X8_32_6, fun C T N h => by have := Option.some.inj (h.1.symm.trans ck6.1); cases this; rfl⟩
theorem fl_X16_7_13 : FL RX16 7 13 0 := ⟨RX16, TX16, 1, "LongYears$Name", ck13, by decide, Or.inl q980, Or.inl rfl⟩
theorem fl_X4_9_5 : FL RX4 9 5 0 := ⟨RX5, TX5, 4, "LongYears$Named", ck5, by decide, Or.inl q328, Or.inl rfl⟩
theorem fl_X4_9_6 : FL RX4 9 6 0 := ⟨RX8, TX8, 4, "LongYears$Named", ck6, by decide, Or.inl q328, Or.inl rfl⟩
theorem fl_X4_9_7 : FL RX4 9 7 0 := ⟨RX13, TX13, 2, "LongYears$Named", ck7, by decide, Or.inl q328, Or.inl rfl⟩
theorem fl_X4_9_8 : FL RX4 9 8 0 := ⟨RX9, TX9, 3, "LongYears$Named", ck8, by decide, Or.inl q328, Or.inl rfl⟩
theorem fl_X4_9_9 : FL RX4 9 9 0 := ⟨RX10, TX10, 4, "LongYears$Named", ck9, by decide, Or.inl q328, Or.inl rfl⟩
theorem fl_X4_9_10 : FL RX4 9 10 0 := ⟨RX11, TX11, 4, "LongYears$Named", ck10, by decide, Or.inl q328, Or.inl rfl⟩
theorem fl_X4_9_11 : FL RX4 9 11 0 := ⟨RX12, TX12, 4, "LongYears$Named", ck11, by decide, Or.inl q328, Or.inl rfl⟩
theorem fl_X17_7_14 : FL RX17 7 14 0 := ⟨RX17, TX17, 1, "LongYears$Not", ck14, by decide, Or.inl q995, Or.inl rfl⟩
theorem fl_X17_7_15 : FL RX17 7 15 0 := ⟨RX18, TX18, 3, "LongYears$Not", ck15, by decide, Or.inl q995, Or.inl rfl⟩
theorem fl_X5_9_5 : FL RX5 9 5 2 := ⟨RX5, TX5, 4, "LongYears$Note", ck5, by decide, Or.inl q324, Or.inl rfl⟩
theorem fl_X5_15_5 : FL RX5 15 5 3 := ⟨RX5, TX5, 4, "LongYears$Note", ck5, by decide, Or.inl q326, Or.inl rfl⟩
theorem fl_X5_18_5 : FL RX5 18 5 1 := ⟨RX5, TX5, 4, "LongYears$Note", ck5, by decide, Or.inl q322, Or.inl rfl⟩
theorem fp_X5_18_5 : FP RX5 18 5 1 := ⟨fl_X5_18_5, fun C T N h => by have := Option.some.inj (h.1.symm.trans ck5.1); cases this; rfl⟩
theorem fl_X15_7_12 : FL RX15 7 12 0 := ⟨RX15, TX15, 1, "LongYears$Number", ck12, by decide, Or.inl q966, Or.inl rfl⟩
theorem fl_X9_11_8 : FL RX9 11 8 2 := ⟨RX9, TX9, 3, "LongYears$Person", ck8, by decide, Or.inl q838, Or.inl rfl⟩
theorem fp_X9_11_8 : FP RX9 11 8 2 := ⟨fl_X9_11_8, fun C T N h => by have := Option.some.inj (h.1.symm.trans ck8.1); cases this; rfl⟩
theorem fl_X9_17_8 : FL RX9 17 8 1 := ⟨RX9, TX9, 3, "LongYears$Person", ck8, by decide, Or.inl q835, Or.inl rfl⟩
theorem fl_X2_3_2 : FL RX2 3 2 8 := ⟨RX2, TX2, 9, "LongYears$Reader", ck2, by decide, Or.inl q190, Or.inl rfl⟩
theorem fl_X2_15_2 : FL RX2 15 2 0 := ⟨RX2, TX2, 9, "LongYears$Reader", ck2, by decide, Or.inl q182, Or.inl rfl⟩
theorem fp_X2_15_2 : FP RX2 15 2 0 := ⟨fl_X2_15_2, fun C T N h => by have := Option.some.inj (h.1.symm.trans ck2.1); cases this; rfl⟩
theorem fl_X2_19_2 : FL RX2 19 2 1 := ⟨RX2, TX2, 9, "LongYears$Reader", ck2, by decide, Or.inl q183, Or.inl rfl⟩
theorem fp_X2_19_2 : FP RX2 19 2 1 := ⟨fl_X2_19_2, fun C T N h => by have := Option.some.inj (h.1.symm.trans ck2.1); cases this; rfl⟩
theorem fl_X2_30_2 : FL RX2 30 2 2 := ⟨RX2, TX2, 9, "LongYears$Reader", ck2, by decide, Or.inl q184, Or.inl rfl⟩
theorem fp_X2_30_2 : FP RX2 30 2 2 := ⟨fl_X2_30_2, fun C T N h => by have := Option.some.inj (h.1.symm.trans ck2.1); cases this; rfl⟩
theorem fl_X2_33_2 : FL RX2 33 2 3 := ⟨RX2, TX2, 9, "LongYears$Reader", ck2, by decide, Or.inl q185, Or.inl rfl⟩
theorem fp_X2_33_2 : FP RX2 33 2 3 := ⟨fl_X2_33_2, fun C T N h => by have := Option.some.inj (h.1.symm.trans ck2.1); cases this; rfl⟩
theorem fl_X2_47_2 : FL RX2 47 2 4 := ⟨RX2, TX2, 9, "LongYears$Reader", ck2, by decide, Or.inl q186, Or.inl rfl⟩
theorem fp_X2_47_2 : FP RX2 47 2 4 := ⟨fl_X2_47_2, fun C T N h => by have := Option.some.inj (h.1.symm.trans ck2.1); cases this; rfl⟩
theorem fl_X2_106_2 : FL RX2 106 2 5 := ⟨RX2, TX2, 9, "LongYears$Reader", ck2, by decide, Or.inl q187, Or.inl rfl⟩
theorem fp_X2_106_2 : FP RX2 106 2 5 := ⟨fl_X2_106_2, fun C T N h => by have := Option.some.inj (h.1.symm.trans ck2.1); cases this; rfl⟩
theorem fl_X2_109_2 : FL RX2 109 2 6 := ⟨RX2, TX2, 9, "LongYears$Reader", ck2, by decide, Or.inl q188, Or.inl rfl⟩
theorem fp_X2_109_2 : FP RX2 109 2 6 := ⟨fl_X2_109_2, fun C T N h => by have := Option.some.inj (h.1.symm.trans ck2.1); cases this; rfl⟩
theorem fl_X2_115_2 : FL RX2 115 2 7 := ⟨RX2, TX2, 9, "LongYears$Reader", ck2, by decide, Or.inl q189, Or.inl rfl⟩
theorem fp_X2_115_2 : FP RX2 115 2 7 := ⟨fl_X2_115_2, fun C T N h => by have := Option.some.inj (h.1.symm.trans ck2.1); cases this; rfl⟩
theorem fl_X3_14_3 : FL RX3 14 3 0 := ⟨RX3, TX3, 14, "LongYears$Realm", ck3, by decide, Or.inl q247, Or.inl rfl⟩
theorem fl_X3_20_3 : FL RX3 20 3 1 := ⟨RX3, TX3, 14, "LongYears$Realm", ck3, by decide, Or.inl q250, Or.inl rfl⟩
theorem fl_X3_23_3 : FL RX3 23 3 2 := ⟨RX3, TX3, 14, "LongYears$Realm", ck3, by decide, Or.inl q253, Or.inl rfl⟩
theorem fl_X3_26_3 : FL RX3 26 3 3 := ⟨RX3, TX3, 14, "LongYears$Realm", ck3, by decide, Or.inl q256, Or.inl rfl⟩
theorem fl_X3_29_3 : FL RX3 29 3 4 := ⟨RX3, TX3, 14, "LongYears$Realm", ck3, by decide, Or.inl q259, Or.inl rfl⟩
theorem fl_X3_32_3 : FL RX3 32 3 5 := ⟨RX3, TX3, 14, "LongYears$Realm", ck3, by decide, Or.inl q262, Or.inl rfl⟩
theorem fp_X3_32_3 : FP RX3 32 3 5 := ⟨fl_X3_32_3, fun C T N h => by have := Option.some.inj (h.1.symm.trans ck3.1); cases this; rfl⟩
theorem fl_X3_36_3 : FL RX3 36 3 8 := ⟨RX3, TX3, 14, "LongYears$Realm", ck3, by decide, Or.inl q269, Or.inl rfl⟩
theorem fp_X3_36_3 : FP RX3 36 3 8 := ⟨fl_X3_36_3, fun C T N h => by have := Option.some.inj (h.1.symm.trans ck3.1); cases this; rfl⟩
theorem fl_X3_39_3 : FL RX3 39 3 9 := ⟨RX3, TX3, 14, "LongYears$Realm", ck3, by decide, Or.inl q271, Or.inl rfl⟩
theorem fp_X3_39_3 : FP RX3 39 3 9 := ⟨fl_X3_39_3, fun C T N h => by have := Option.some.inj (h.1.symm.trans ck3.1); cases this; rfl⟩
theorem fl_X3_44_3 : FL RX3 44 3 12 := ⟨RX3, TX3, 14, "LongYears$Realm", ck3, by decide, Or.inl q277, Or.inl rfl⟩
theorem fp_X3_44_3 : FP RX3 44 3 12 := ⟨fl_X3_44_3, fun C T N h => by have := Option.some.inj (h.1.symm.trans ck3.1); cases this; rfl⟩
theorem fl_X3_50_3 : FL RX3 50 3 13 := ⟨RX3, TX3, 14, "LongYears$Realm", ck3, by decide, Or.inl q279, Or.inl rfl⟩
theorem fp_X3_50_3 : FP RX3 50 3 13 := ⟨fl_X3_50_3, fun C T N h => by have := Option.some.inj (h.1.symm.trans ck3.1); cases this; rfl⟩
theorem fl_X3_53_3 : FL RX3 53 3 6 := ⟨RX3, TX3, 14, "LongYears$Realm", ck3, by decide, Or.inl q265, Or.inl rfl⟩
theorem fp_X3_53_3 : FP RX3 53 3 6 := ⟨fl_X3_53_3, fun C T N h => by have := Option.some.inj (h.1.symm.trans ck3.1); cases this; rfl⟩
theorem fl_X3_56_3 : FL RX3 56 3 7 := ⟨RX3, TX3, 14, "LongYears$Realm", ck3, by decide, Or.inl q267, Or.inl rfl⟩
theorem fp_X3_56_3 : FP RX3 56 3 7 := ⟨fl_X3_56_3, fun C T N h => by have := Option.some.inj (h.1.symm.trans ck3.1); cases this; rfl⟩
theorem fl_X18_9_15 : FL RX18 9 15 1 := ⟨RX18, TX18, 3, "LongYears$Two", ck15, by decide, Or.inl q993, Or.inl rfl⟩
theorem fl_X18_15_15 : FL RX18 15 15 2 := ⟨RX18, TX18, 3, "LongYears$Two", ck15, by decide, Or.inl q994, Or.inl rfl⟩
theorem fl_X18_19_15 : FL RX18 19 15 0 := ⟨RX18, TX18, 3, "LongYears$Two", ck15, by decide, Or.inl q996, Or.inr q997⟩
theorem fl_X11_9_10 : FL RX11 9 10 1 := ⟨RX11, TX11, 4, "LongYears$Yearly", ck10, by decide, Or.inl q861, Or.inr q862⟩
theorem fl_X11_21_10 : FL RX11 21 10 2 := ⟨RX11, TX11, 4, "LongYears$Yearly", ck10, by decide, Or.inl q869, Or.inr q870⟩
theorem fl_X6_7_0 : FL RX6 7 0 0 := ⟨RX6, TX6, 76, "LongYearsModel", ck0, by decide, Or.inl q1525, Or.inl rfl⟩
theorem fl_X6_13_0 : FL RX6 13 0 3 := ⟨RX6, TX6, 76, "LongYearsModel", ck0, by decide, Or.inl q1528, Or.inl rfl⟩
theorem fl_X6_16_0 : FL RX6 16 0 5 := ⟨RX6, TX6, 76, "LongYearsModel", ck0, by decide, Or.inl q1530, Or.inl rfl⟩
theorem fp_X6_16_0 : FP RX6 16 0 5 := ⟨fl_X6_16_0, fun C T N h => by have := Option.some.inj (h.1.symm.trans ck0.1); cases this; rfl⟩
theorem fl_X6_20_0 : FL RX6 20 0 24 := ⟨RX6, TX6, 76, "LongYearsModel", ck0, by decide, Or.inl q1549, Or.inl rfl⟩
theorem fl_X6_23_0 : FL RX6 23 0 28 := ⟨RX6, TX6, 76, "LongYearsModel", ck0, by decide, Or.inl q1553, Or.inl rfl⟩
theorem fl_X6_26_0 : FL RX6 26 0 29 := ⟨RX6, TX6, 76, "LongYearsModel", ck0, by decide, Or.inl q1554, Or.inl rfl⟩
theorem fl_X6_29_0 : FL RX6 29 0 30 := ⟨RX6, TX6, 76, "LongYearsModel", ck0, by decide, Or.inl q1555, Or.inl rfl⟩
theorem fl_X6_32_0 : FL RX6 32 0 31 := ⟨RX6, TX6, 76, "LongYearsModel", ck0, by decide, Or.inl q1556, Or.inl rfl⟩
theorem fl_X6_35_0 : FL RX6 35 0 32 := ⟨RX6, TX6, 76, "LongYearsModel", ck0, by decide, Or.inl q1557, Or.inl rfl⟩
theorem fl_X6_38_0 : FL RX6 38 0 33 := ⟨RX6, TX6, 76, "LongYearsModel", ck0, by decide, Or.inl q1558, Or.inl rfl⟩
theorem fl_X6_41_0 : FL RX6 41 0 34 := ⟨RX6, TX6, 76, "LongYearsModel", ck0, by decide, Or.inl q1559, Or.inl rfl⟩
theorem fl_X6_45_0 : FL RX6 45 0 35 := ⟨RX6, TX6, 76, "LongYearsModel", ck0, by decide, Or.inl q1560, Or.inl rfl⟩
theorem fl_X6_48_0 : FL RX6 48 0 36 := ⟨RX6, TX6, 76, "LongYearsModel", ck0, by decide, Or.inl q1561, Or.inl rfl⟩
theorem fl_X6_51_0 : FL RX6 51 0 37 := ⟨RX6, TX6, 76, "LongYearsModel", ck0, by decide, Or.inl q1562, Or.inl rfl⟩
theorem fl_X6_54_0 : FL RX6 54 0 38 := ⟨RX6, TX6, 76, "LongYearsModel", ck0, by decide, Or.inl q1563, Or.inl rfl⟩
theorem fl_X6_57_0 : FL RX6 57 0 39 := ⟨RX6, TX6, 76, "LongYearsModel", ck0, by decide, Or.inl q1564, Or.inl rfl⟩
theorem fl_X6_60_0 : FL RX6 60 0 40 := ⟨RX6, TX6, 76, "LongYearsModel", ck0, by decide, Or.inl q1565, Or.inl rfl⟩
theorem fl_X6_63_0 : FL RX6 63 0 41 := ⟨RX6, TX6, 76, "LongYearsModel", ck0, by decide, Or.inl q1566, Or.inl rfl⟩
theorem fl_X6_66_0 : FL RX6 66 0 42 := ⟨RX6, TX6, 76, "LongYearsModel", ck0, by decide, Or.inl q1567, Or.inl rfl⟩
theorem fl_X6_69_0 : FL RX6 69 0 43 := ⟨RX6, TX6, 76, "LongYearsModel", ck0, by decide, Or.inl q1568, Or.inl rfl⟩
theorem fl_X6_72_0 : FL RX6 72 0 45 := ⟨RX6, TX6, 76, "LongYearsModel", ck0, by decide, Or.inl q1570, Or.inl rfl⟩
theorem fl_X6_75_0 : FL RX6 75 0 46 := ⟨RX6, TX6, 76, "LongYearsModel", ck0, by decide, Or.inl q1571, Or.inl rfl⟩
theorem fl_X6_78_0 : FL RX6 78 0 55 := ⟨RX6, TX6, 76, "LongYearsModel", ck0, by decide, Or.inl q1580, Or.inl rfl⟩
theorem fl_X6_81_0 : FL RX6 81 0 56 := ⟨RX6, TX6, 76, "LongYearsModel", ck0, by decide, Or.inl q1581, Or.inl rfl⟩
theorem fl_X6_84_0 : FL RX6 84 0 60 := ⟨RX6, TX6, 76, "LongYearsModel", ck0, by decide, Or.inl q1585, Or.inl rfl⟩
theorem fl_X6_88_0 : FL RX6 88 0 61 := ⟨RX6, TX6, 76, "LongYearsModel", ck0, by decide, Or.inl q1586, Or.inl rfl⟩
theorem fl_X6_92_0 : FL RX6 92 0 65 := ⟨RX6, TX6, 76, "LongYearsModel", ck0, by decide, Or.inl q1590, Or.inl rfl⟩
theorem fl_X6_95_0 : FL RX6 95 0 66 := ⟨RX6, TX6, 76, "LongYearsModel", ck0, by decide, Or.inl q1591, Or.inl rfl⟩
theorem fl_X6_98_0 : FL RX6 98 0 68 := ⟨RX6, TX6, 76, "LongYearsModel", ck0, by decide, Or.inl q1593, Or.inl rfl⟩
theorem fl_X6_101_0 : FL RX6 101 0 69 := ⟨RX6, TX6, 76, "LongYearsModel", ck0, by decide, Or.inl q1594, Or.inl rfl⟩
theorem fl_X6_104_0 : FL RX6 104 0 73 := ⟨RX6, TX6, 76, "LongYearsModel", ck0, by decide, Or.inl q1598, Or.inl rfl⟩
theorem fl_X6_107_0 : FL RX6 107 0 74 := ⟨RX6, TX6, 76, "LongYearsModel", ck0, by decide, Or.inl q1599, Or.inl rfl⟩
theorem fl_X6_110_0 : FL RX6 110 0 75 := ⟨RX6, TX6, 76, "LongYearsModel", ck0, by decide, Or.inl q1600, Or.inl rfl⟩
theorem fl_X6_119_0 : FL RX6 119 0 2 := ⟨RX6, TX6, 76, "LongYearsModel", ck0, by decide, Or.inl q1527, Or.inl rfl⟩
theorem fp_X6_119_0 : FP RX6 119 0 2 := ⟨fl_X6_119_0, fun C T N h => by have := Option.some.inj (h.1.symm.trans ck0.1); cases this; rfl⟩
theorem fl_X6_122_0 : FL RX6 122 0 1 := ⟨RX6, TX6, 76, "LongYearsModel", ck0, by decide, Or.inl q1526, Or.inl rfl⟩
theorem fp_X6_122_0 : FP RX6 122 0 1 := ⟨fl_X6_122_0, fun C T N h => by have := Option.some.inj (h.1.symm.trans ck0.1); cases this; rfl⟩
theorem fl_X6_127_0 : FL RX6 127 0 4 := ⟨RX6, TX6, 76, "LongYearsModel", ck0, by decide, Or.inl q1529, Or.inl rfl⟩
theorem fp_X6_127_0 : FP RX6 127 0 4 := ⟨fl_X6_127_0, fun C T N h => by have := Option.some.inj (h.1.symm.trans ck0.1); cases this; rfl⟩
theorem fl_X6_130_0 : FL RX6 130 0 10 := ⟨RX6, TX6, 76, "LongYearsModel", ck0, by decide, Or.inl q1535, Or.inl rfl⟩
theorem fp_X6_130_0 : FP RX6 130 0 10 := ⟨fl_X6_130_0, fun C T N h => by have := Option.some.inj (h.1.symm.trans ck0.1); cases this; rfl⟩
theorem fl_X6_133_0 : FL RX6 133 0 6 := ⟨RX6, TX6, 76, "LongYearsModel", ck0, by decide, Or.inl q1531, Or.inl rfl⟩
theorem fp_X6_133_0 : FP RX6 133 0 6 := ⟨fl_X6_133_0, fun C T N h => by have := Option.some.inj (h.1.symm.trans ck0.1); cases this; rfl⟩
theorem fl_X6_136_0 : FL RX6 136 0 7 := ⟨RX6, TX6, 76, "LongYearsModel", ck0, by decide, Or.inl q1532, Or.inl rfl⟩
theorem fp_X6_136_0 : FP RX6 136 0 7 := ⟨fl_X6_136_0, fun C T N h => by have := Option.some.inj (h.1.symm.trans ck0.1); cases this; rfl⟩
theorem fl_X6_139_0 : FL RX6 139 0 8 := ⟨RX6, TX6, 76, "LongYearsModel", ck0, by decide, Or.inl q1533, Or.inl rfl⟩
theorem fp_X6_139_0 : FP RX6 139 0 8 := ⟨fl_X6_139_0, fun C T N h => by have := Option.some.inj (h.1.symm.trans ck0.1); cases this; rfl⟩
theorem fl_X6_150_0 : FL RX6 150 0 9 := ⟨RX6, TX6, 76, "LongYearsModel", ck0, by decide, Or.inl q1534, Or.inl rfl⟩
theorem fp_X6_150_0 : FP RX6 150 0 9 := ⟨fl_X6_150_0, fun C T N h => by have := Option.some.inj (h.1.symm.trans ck0.1); cases this; rfl⟩
theorem fl_X6_170_0 : FL RX6 170 0 11 := ⟨RX6, TX6, 76, "LongYearsModel", ck0, by decide, Or.inl q1536, Or.inl rfl⟩
theorem fp_X6_170_0 : FP RX6 170 0 11 := ⟨fl_X6_170_0, fun C T N h => by have := Option.some.inj (h.1.symm.trans ck0.1); cases this; rfl⟩
theorem fl_X6_186_0 : FL RX6 186 0 18 := ⟨RX6, TX6, 76, "LongYearsModel", ck0, by decide, Or.inl q1543, Or.inl rfl⟩
theorem fp_X6_186_0 : FP RX6 186 0 18 := ⟨fl_X6_186_0, fun C T N h => by have := Option.some.inj (h.1.symm.trans ck0.1); cases this; rfl⟩
theorem fl_X6_189_0 : FL RX6 189 0 19 := ⟨RX6, TX6, 76, "LongYearsModel", ck0, by decide, Or.inl q1544, Or.inl rfl⟩
theorem fp_X6_189_0 : FP RX6 189 0 19 := ⟨fl_X6_189_0, fun C T N h => by have := Option.some.inj (h.1.symm.trans ck0.1); cases this; rfl⟩
theorem fl_X6_192_0 : FL RX6 192 0 20 := ⟨RX6, TX6, 76, "LongYearsModel", ck0, by decide, Or.inl q1545, Or.inl rfl⟩
theorem fp_X6_192_0 : FP RX6 192 0 20 := ⟨fl_X6_192_0, fun C T N h => by have := Option.some.inj (h.1.symm.trans ck0.1); cases this; rfl⟩
theorem fl_X6_195_0 : FL RX6 195 0 21 := ⟨RX6, TX6, 76, "LongYearsModel", ck0, by decide, Or.inl q1546, Or.inl rfl⟩
theorem fp_X6_195_0 : FP RX6 195 0 21 := ⟨fl_X6_195_0, fun C T N h => by have := Option.some.inj (h.1.symm.trans ck0.1); cases this; rfl⟩
theorem fl_X6_198_0 : FL RX6 198 0 22 := ⟨RX6, TX6, 76, "LongYearsModel", ck0, by decide, Or.inl q1547, Or.inl rfl⟩
theorem fp_X6_198_0 : FP RX6 198 0 22 := ⟨fl_X6_198_0, fun C T N h => by have := Option.some.inj (h.1.symm.trans ck0.1); cases this; rfl⟩
theorem fl_X6_201_0 : FL RX6 201 0 23 := ⟨RX6, TX6, 76, "LongYearsModel", ck0, by decide, Or.inl q1548, Or.inl rfl⟩
theorem fp_X6_201_0 : FP RX6 201 0 23 := ⟨fl_X6_201_0, fun C T N h => by have := Option.some.inj (h.1.symm.trans ck0.1); cases this; rfl⟩
theorem fl_X6_204_0 : FL RX6 204 0 50 := ⟨RX6, TX6, 76, "LongYearsModel", ck0, by decide, Or.inl q1575, Or.inl rfl⟩
theorem fp_X6_204_0 : FP RX6 204 0 50 := ⟨fl_X6_204_0, fun C T N h => by have := Option.some.inj (h.1.symm.trans ck0.1); cases this; rfl⟩
theorem fl_X6_207_0 : FL RX6 207 0 25 := ⟨RX6, TX6, 76, "LongYearsModel", ck0, by decide, Or.inl q1550, Or.inl rfl⟩
theorem fp_X6_207_0 : FP RX6 207 0 25 := ⟨fl_X6_207_0, fun C T N h => by have := Option.some.inj (h.1.symm.trans ck0.1); cases this; rfl⟩
theorem fl_X6_211_0 : FL RX6 211 0 26 := ⟨RX6, TX6, 76, "LongYearsModel", ck0, by decide, Or.inl q1551, Or.inl rfl⟩
theorem fp_X6_211_0 : FP RX6 211 0 26 := ⟨fl_X6_211_0, fun C T N h => by have := Option.some.inj (h.1.symm.trans ck0.1); cases this; rfl⟩
theorem fl_X6_214_0 : FL RX6 214 0 27 := ⟨RX6, TX6, 76, "LongYearsModel", ck0, by decide, Or.inl q1552, Or.inl rfl⟩
theorem fp_X6_214_0 : FP RX6 214 0 27 := ⟨fl_X6_214_0, fun C T N h => by have := Option.some.inj (h.1.symm.trans ck0.1); cases this; rfl⟩
theorem fl_X6_217_0 : FL RX6 217 0 12 := ⟨RX6, TX6, 76, "LongYearsModel", ck0, by decide, Or.inl q1537, Or.inl rfl⟩
theorem fp_X6_217_0 : FP RX6 217 0 12 := ⟨fl_X6_217_0, fun C T N h => by have := Option.some.inj (h.1.symm.trans ck0.1); cases this; rfl⟩
theorem fl_X6_220_0 : FL RX6 220 0 13 := ⟨RX6, TX6, 76, "LongYearsModel", ck0, by decide, Or.inl q1538, Or.inl rfl⟩
theorem fp_X6_220_0 : FP RX6 220 0 13 := ⟨fl_X6_220_0, fun C T N h => by have := Option.some.inj (h.1.symm.trans ck0.1); cases this; rfl⟩
theorem fl_X6_223_0 : FL RX6 223 0 14 := ⟨RX6, TX6, 76, "LongYearsModel", ck0, by decide, Or.inl q1539, Or.inl rfl⟩
theorem fp_X6_223_0 : FP RX6 223 0 14 := ⟨fl_X6_223_0, fun C T N h => by have := Option.some.inj (h.1.symm.trans ck0.1); cases this; rfl⟩
theorem fl_X6_226_0 : FL RX6 226 0 15 := ⟨RX6, TX6, 76, "LongYearsModel", ck0, by decide, Or.inl q1540, Or.inl rfl⟩
theorem fp_X6_226_0 : FP RX6 226 0 15 := ⟨fl_X6_226_0, fun C T N h => by have := Option.some.inj (h.1.symm.trans ck0.1); cases this; rfl⟩
theorem fl_X6_229_0 : FL RX6 229 0 16 := ⟨RX6, TX6, 76, "LongYearsModel", ck0, by decide, Or.inl q1541, Or.inl rfl⟩
theorem fp_X6_229_0 : FP RX6 229 0 16 := ⟨fl_X6_229_0, fun C T N h => by have := Option.some.inj (h.1.symm.trans ck0.1); cases this; rfl⟩
theorem fl_X6_232_0 : FL RX6 232 0 17 := ⟨RX6, TX6, 76, "LongYearsModel", ck0, by decide, Or.inl q1542, Or.inl rfl⟩
theorem fp_X6_232_0 : FP RX6 232 0 17 := ⟨fl_X6_232_0, fun C T N h => by have := Option.some.inj (h.1.symm.trans ck0.1); cases this; rfl⟩
theorem fl_X6_243_0 : FL RX6 243 0 58 := ⟨RX6, TX6, 76, "LongYearsModel", ck0, by decide, Or.inl q1583, Or.inl rfl⟩
theorem fp_X6_243_0 : FP RX6 243 0 58 := ⟨fl_X6_243_0, fun C T N h => by have := Option.some.inj (h.1.symm.trans ck0.1); cases this; rfl⟩
theorem fl_X6_246_0 : FL RX6 246 0 67 := ⟨RX6, TX6, 76, "LongYearsModel", ck0, by decide, Or.inl q1592, Or.inl rfl⟩
theorem fp_X6_246_0 : FP RX6 246 0 67 := ⟨fl_X6_246_0, fun C T N h => by have := Option.some.inj (h.1.symm.trans ck0.1); cases this; rfl⟩
theorem fl_X6_249_0 : FL RX6 249 0 59 := ⟨RX6, TX6, 76, "LongYearsModel", ck0, by decide, Or.inl q1584, Or.inl rfl⟩
theorem fp_X6_249_0 : FP RX6 249 0 59 := ⟨fl_X6_249_0, fun C T N h => by have := Option.some.inj (h.1.symm.trans ck0.1); cases this; rfl⟩
theorem fl_X6_252_0 : FL RX6 252 0 70 := ⟨RX6, TX6, 76, "LongYearsModel", ck0, by decide, Or.inl q1595, Or.inl rfl⟩
theorem fp_X6_252_0 : FP RX6 252 0 70 := ⟨fl_X6_252_0, fun C T N h => by have := Option.some.inj (h.1.symm.trans ck0.1); cases this; rfl⟩
theorem fl_X6_279_0 : FL RX6 279 0 44 := ⟨RX6, TX6, 76, "LongYearsModel", ck0, by decide, Or.inl q1569, Or.inl rfl⟩
theorem fp_X6_279_0 : FP RX6 279 0 44 := ⟨fl_X6_279_0, fun C T N h => by have := Option.some.inj (h.1.symm.trans ck0.1); cases this; rfl⟩
theorem fl_X6_330_0 : FL RX6 330 0 48 := ⟨RX6, TX6, 76, "LongYearsModel", ck0, by decide, Or.inl q1573, Or.inl rfl⟩
theorem fp_X6_330_0 : FP RX6 330 0 48 := ⟨fl_X6_330_0, fun C T N h => by have := Option.some.inj (h.1.symm.trans ck0.1); cases this; rfl⟩
theorem fl_X6_333_0 : FL RX6 333 0 47 := ⟨RX6, TX6, 76, "LongYearsModel", ck0, by decide, Or.inl q1572, Or.inl rfl⟩
theorem fp_X6_333_0 : FP RX6 333 0 47 := ⟨fl_X6_333_0, fun C T N h => by have := Option.some.inj (h.1.symm.trans ck0.1); cases this; rfl⟩
theorem fl_X6_347_0 : FL RX6 347 0 49 := ⟨RX6, TX6, 76, "LongYearsModel", ck0, by decide, Or.inl q1574, Or.inl rfl⟩
theorem fp_X6_347_0 : FP RX6 347 0 49 := ⟨fl_X6_347_0, fun C T N h => by have := Option.some.inj (h.1.symm.trans ck0.1); cases this; rfl⟩
theorem fl_X6_354_0 : FL RX6 354 0 52 := ⟨RX6, TX6, 76, "LongYearsModel", ck0, by decide, Or.inl q1577, Or.inl rfl⟩
theorem fp_X6_354_0 : FP RX6 354 0 52 := ⟨fl_X6_354_0, fun C T N h => by have := Option.some.inj (h.1.symm.trans ck0.1); cases this; rfl⟩
theorem fl_X6_363_0 : FL RX6 363 0 51 := ⟨RX6, TX6, 76, "LongYearsModel", ck0, by decide, Or.inl q1576, Or.inl rfl⟩
theorem fp_X6_363_0 : FP RX6 363 0 51 := ⟨fl_X6_363_0, fun C T N h => by have := Option.some.inj (h.1.symm.trans ck0.1); cases this; rfl⟩
theorem fl_X6_396_0 : FL RX6 396 0 53 := ⟨RX6, TX6, 76, "LongYearsModel", ck0, by decide, Or.inl q1578, Or.inl rfl⟩
theorem fp_X6_396_0 : FP RX6 396 0 53 := ⟨fl_X6_396_0, fun C T N h => by have := Option.some.inj (h.1.symm.trans ck0.1); cases this; rfl⟩
theorem fl_X6_399_0 : FL RX6 399 0 54 := ⟨RX6, TX6, 76, "LongYearsModel", ck0, by decide, Or.inl q1579, Or.inl rfl⟩
theorem fp_X6_399_0 : FP RX6 399 0 54 := ⟨fl_X6_399_0, fun C T N h => by have := Option.some.inj (h.1.symm.trans ck0.1); cases this; rfl⟩
theorem fl_X6_428_0 : FL RX6 428 0 57 := ⟨RX6, TX6, 76, "LongYearsModel", ck0, by decide, Or.inl q1582, Or.inl rfl⟩
theorem fp_X6_428_0 : FP RX6 428 0 57 := ⟨fl_X6_428_0, fun C T N h => by have := Option.some.inj (h.1.symm.trans ck0.1); cases this; rfl⟩
theorem fl_X6_497_0 : FL RX6 497 0 62 := ⟨RX6, TX6, 76, "LongYearsModel", ck0, by decide, Or.inl q1587, Or.inl rfl⟩
theorem fp_X6_497_0 : FP RX6 497 0 62 := ⟨fl_X6_497_0, fun C T N h => by have := Option.some.inj (h.1.symm.trans ck0.1); cases this; rfl⟩
theorem fl_X6_500_0 : FL RX6 500 0 63 := ⟨RX6, TX6, 76, "LongYearsModel", ck0, by decide, Or.inl q1588, Or.inl rfl⟩
theorem fp_X6_500_0 : FP RX6 500 0 63 := ⟨fl_X6_500_0, fun C T N h => by have := Option.some.inj (h.1.symm.trans ck0.1); cases this; rfl⟩
theorem fl_X6_503_0 : FL RX6 503 0 64 := ⟨RX6, TX6, 76, "LongYearsModel", ck0, by decide, Or.inl q1589, Or.inl rfl⟩
theorem fp_X6_503_0 : FP RX6 503 0 64 := ⟨fl_X6_503_0, fun C T N h => by have := Option.some.inj (h.1.symm.trans ck0.1); cases this; rfl⟩
theorem fl_X6_540_0 : FL RX6 540 0 71 := ⟨RX6, TX6, 76, "LongYearsModel", ck0, by decide, Or.inl q1596, Or.inl rfl⟩
theorem fp_X6_540_0 : FP RX6 540 0 71 := ⟨fl_X6_540_0, fun C T N h => by have := Option.some.inj (h.1.symm.trans ck0.1); cases this; rfl⟩
theorem fl_X6_543_0 : FL RX6 543 0 72 := ⟨RX6, TX6, 76, "LongYearsModel", ck0, by decide, Or.inl q1597, Or.inl rfl⟩
theorem fp_X6_543_0 : FP RX6 543 0 72 := ⟨fl_X6_543_0, fun C T N h => by have := Option.some.inj (h.1.symm.trans ck0.1); cases this; rfl⟩
theorem fl_J9_7_16 : FL RJ9 7 16 0 := ⟨RX7, TX7, 8, "java/lang/Throwable", ck16, by decide, Or.inl q650, Or.inl rfl⟩
theorem fp_J9_7_16 : FP RJ9 7 16 0 := ⟨fl_J9_7_16, fun C T N h => by have := Option.some.inj (h.1.symm.trans ck16.1); cases this; rfl⟩
theorem fl_J9_17_16 : FL RJ9 17 16 1 := ⟨RX7, TX7, 8, "java/lang/Throwable", ck16, by decide, Or.inl q651, Or.inl rfl⟩
theorem fp_J9_17_16 : FP RJ9 17 16 1 := ⟨fl_J9_17_16, fun C T N h => by have := Option.some.inj (h.1.symm.trans ck16.1); cases this; rfl⟩
theorem fl_J9_24_16 : FL RJ9 24 16 2 := ⟨RX7, TX7, 8, "java/lang/Throwable", ck16, by decide, Or.inl q652, Or.inl rfl⟩
theorem fp_J9_24_16 : FP RJ9 24 16 2 := ⟨fl_J9_24_16, fun C T N h => by have := Option.some.inj (h.1.symm.trans ck16.1); cases this; rfl⟩
theorem fl_J9_31_16 : FL RJ9 31 16 3 := ⟨RX7, TX7, 8, "java/lang/Throwable", ck16, by decide, Or.inl q649, Or.inl rfl⟩
theorem fp_J9_31_16 : FP RJ9 31 16 3 := ⟨fl_J9_31_16, fun C T N h => by have := Option.some.inj (h.1.symm.trans ck16.1); cases this; rfl⟩
theorem fl_J9_198_16 : FL RJ9 198 16 4 := ⟨RX7, TX7, 8, "java/lang/Throwable", ck16, by decide, Or.inl q648, Or.inl rfl⟩
theorem fp_J9_198_16 : FP RJ9 198 16 4 := ⟨fl_J9_198_16, fun C T N h => by have := Option.some.inj (h.1.symm.trans ck16.1); cases this; rfl⟩
theorem fl_J1_7_4 : FL RJ1 7 4 0 := ⟨RJ2, TJ2, 3, "java/util/AbstractList", ck4, by decide, Or.inl q235, Or.inl rfl⟩
theorem fp_J1_7_4 : FP RJ1 7 4 0 := ⟨fl_J1_7_4, fun C T N h => by have := Option.some.inj (h.1.symm.trans ck4.1); cases this; rfl⟩
theorem fl_J2_9_4 : FL RJ2 9 4 1 := ⟨RJ2, TJ2, 3, "java/util/ArrayList", ck4, by decide, Or.inl q233, Or.inl rfl⟩
theorem fp_J2_9_4 : FP RJ2 9 4 1 := ⟨fl_J2_9_4, fun C T N h => by have := Option.some.inj (h.1.symm.trans ck4.1); cases this; rfl⟩
theorem fl_J2_48_4 : FL RJ2 48 4 2 := ⟨RJ2, TJ2, 3, "java/util/ArrayList", ck4, by decide, Or.inl q234, Or.inl rfl⟩
theorem fp_J2_48_4 : FP RJ2 48 4 2 := ⟨fl_J2_48_4, fun C T N h => by have := Option.some.inj (h.1.symm.trans ck4.1); cases this; rfl⟩
theorem fl_J2_63_4 : FL RJ2 63 4 0 := ⟨RJ2, TJ2, 3, "java/util/ArrayList", ck4, by decide, Or.inl q236, Or.inr q237⟩
theorem fp_J2_63_4 : FP RJ2 63 4 0 := ⟨fl_J2_63_4, fun C T N h => by have := Option.some.inj (h.1.symm.trans ck4.1); cases this; rfl⟩
theorem fl_X1_109_16 : FL RX1 109 16 6 := ⟨RX7, TX7, 8, "LongYears$Fault", ck16, by decide, Or.inr ⟨"LongYears", q645⟩, Or.inl rfl⟩
theorem fl_X1_112_16 : FL RX1 112 16 7 := ⟨RX7, TX7, 8, "LongYears$Fault", ck16, by decide, Or.inr ⟨"LongYears", q647⟩, Or.inl rfl⟩
theorem fl_X1_115_3 : FL RX1 115 3 4 := ⟨RX3, TX3, 14, "LongYears$Realm", ck3, by decide, Or.inr ⟨"LongYears", q260⟩, Or.inl rfl⟩
theorem fl_X1_148_3 : FL RX1 148 3 11 := ⟨RX3, TX3, 14, "LongYears$Realm", ck3, by decide, Or.inr ⟨"LongYears", q275⟩, Or.inl rfl⟩
theorem fp_X1_148_3 : FP RX1 148 3 11 := ⟨fl_X1_148_3, fun C T N h => by have := Option.some.inj (h.1.symm.trans ck3.1); cases this; rfl⟩
theorem fl_X1_151_3 : FL RX1 151 3 0 := ⟨RX3, TX3, 14, "LongYears$Realm", ck3, by decide, Or.inr ⟨"LongYears", q248⟩, Or.inl rfl⟩
theorem fl_X1_160_3 : FL RX1 160 3 1 := ⟨RX3, TX3, 14, "LongYears$Realm", ck3, by decide, Or.inr ⟨"LongYears", q251⟩, Or.inl rfl⟩
theorem fl_X1_163_3 : FL RX1 163 3 2 := ⟨RX3, TX3, 14, "LongYears$Realm", ck3, by decide, Or.inr ⟨"LongYears", q254⟩, Or.inl rfl⟩
theorem fl_X1_166_3 : FL RX1 166 3 3 := ⟨RX3, TX3, 14, "LongYears$Realm", ck3, by decide, Or.inr ⟨"LongYears", q257⟩, Or.inl rfl⟩
theorem fl_X1_188_6 : FL RX1 188 6 1 := ⟨RX8, TX8, 4, "LongYears$Land", ck6, by decide, Or.inr ⟨"LongYears", q713⟩, Or.inl rfl⟩
theorem fl_X1_191_6 : FL RX1 191 6 2 := ⟨RX8, TX8, 4, "LongYears$Land", ck6, by decide, Or.inr ⟨"LongYears", q715⟩, Or.inl rfl⟩
theorem fl_X1_194_6 : FL RX1 194 6 3 := ⟨RX8, TX8, 4, "LongYears$Land", ck6, by decide, Or.inr ⟨"LongYears", q717⟩, Or.inl rfl⟩
theorem fp_X1_194_6 : FP RX1 194 6 3 := ⟨fl_X1_194_6, fun C T N h => by have := Option.some.inj (h.1.symm.trans ck6.1); cases this; rfl⟩
theorem fl_X1_239_7 : FL RX1 239 7 1 := ⟨RX13, TX13, 2, "LongYears$Feast", ck7, by decide, Or.inr ⟨"LongYears", q1015⟩, Or.inl rfl⟩
theorem fl_X1_276_8 : FL RX1 276 8 1 := ⟨RX9, TX9, 3, "LongYears$Person", ck8, by decide, Or.inr ⟨"LongYears", q837⟩, Or.inl rfl⟩
theorem fl_X1_280_8 : FL RX1 280 8 2 := ⟨RX9, TX9, 3, "LongYears$Person", ck8, by decide, Or.inr ⟨"LongYears", q840⟩, Or.inl rfl⟩
theorem fp_X1_280_8 : FP RX1 280 8 2 := ⟨fl_X1_280_8, fun C T N h => by have := Option.some.inj (h.1.symm.trans ck8.1); cases this; rfl⟩
theorem fl_X1_322_3 : FL RX1 322 3 5 := ⟨RX3, TX3, 14, "LongYears$Realm", ck3, by decide, Or.inr ⟨"LongYears", q264⟩, Or.inl rfl⟩
theorem fp_X1_322_3 : FP RX1 322 3 5 := ⟨fl_X1_322_3, fun C T N h => by have := Option.some.inj (h.1.symm.trans ck3.1); cases this; rfl⟩
theorem fl_X1_335_9 : FL RX1 335 9 3 := ⟨RX10, TX10, 4, "LongYears$Deed", ck9, by decide, Or.inr ⟨"LongYears", q872⟩, Or.inl rfl⟩
theorem fp_X1_335_9 : FP RX1 335 9 3 := ⟨fl_X1_335_9, fun C T N h => by have := Option.some.inj (h.1.symm.trans ck9.1); cases this; rfl⟩
theorem fl_X1_335_10 : FL RX1 335 10 3 := ⟨RX11, TX11, 4, "LongYears$Deed", ck10, by decide, Or.inr ⟨"LongYears", q872⟩, Or.inl rfl⟩
theorem fp_X1_335_10 : FP RX1 335 10 3 := ⟨fl_X1_335_10, fun C T N h => by have := Option.some.inj (h.1.symm.trans ck10.1); cases this; rfl⟩
theorem fl_X1_335_11 : FL RX1 335 11 3 := ⟨RX12, TX12, 4, "LongYears$Deed", ck11, by decide, Or.inr ⟨"LongYears", q872⟩, Or.inl rfl⟩
theorem fp_X1_335_11 : FP RX1 335 11 3 := ⟨fl_X1_335_11, fun C T N h => by have := Option.some.inj (h.1.symm.trans ck11.1); cases this; rfl⟩
theorem fl_X1_349_5 : FL RX1 349 5 2 := ⟨RX5, TX5, 4, "LongYears$Note", ck5, by decide, Or.inr ⟨"LongYears", q325⟩, Or.inl rfl⟩
theorem fl_X1_352_5 : FL RX1 352 5 3 := ⟨RX5, TX5, 4, "LongYears$Note", ck5, by decide, Or.inr ⟨"LongYears", q327⟩, Or.inl rfl⟩
theorem fl_X1_391_5 : FL RX1 391 5 1 := ⟨RX5, TX5, 4, "LongYears$Note", ck5, by decide, Or.inr ⟨"LongYears", q323⟩, Or.inl rfl⟩
theorem fp_X1_391_5 : FP RX1 391 5 1 := ⟨fl_X1_391_5, fun C T N h => by have := Option.some.inj (h.1.symm.trans ck5.1); cases this; rfl⟩
theorem fl_X1_440_3 : FL RX1 440 3 10 := ⟨RX3, TX3, 14, "LongYears$Realm", ck3, by decide, Or.inr ⟨"LongYears", q274⟩, Or.inl rfl⟩
theorem fp_X1_440_3 : FP RX1 440 3 10 := ⟨fl_X1_440_3, fun C T N h => by have := Option.some.inj (h.1.symm.trans ck3.1); cases this; rfl⟩
theorem fl_X2_22_1 : FL RX2 22 1 0 := ⟨RX1, TX1, 27, "LongYears", ck1, by decide, Or.inr ⟨"LongYears", q341⟩, Or.inl rfl⟩
theorem fl_X2_126_3 : FL RX2 126 3 0 := ⟨RX3, TX3, 14, "LongYears$Realm", ck3, by decide, Or.inr ⟨"LongYears", q249⟩, Or.inl rfl⟩
theorem fl_X2_134_3 : FL RX2 134 3 2 := ⟨RX3, TX3, 14, "LongYears$Realm", ck3, by decide, Or.inr ⟨"LongYears", q255⟩, Or.inl rfl⟩
theorem fl_X2_137_3 : FL RX2 137 3 3 := ⟨RX3, TX3, 14, "LongYears$Realm", ck3, by decide, Or.inr ⟨"LongYears", q258⟩, Or.inl rfl⟩
theorem fl_X2_140_3 : FL RX2 140 3 4 := ⟨RX3, TX3, 14, "LongYears$Realm", ck3, by decide, Or.inr ⟨"LongYears", q261⟩, Or.inl rfl⟩
theorem fl_X2_143_3 : FL RX2 143 3 1 := ⟨RX3, TX3, 14, "LongYears$Realm", ck3, by decide, Or.inr ⟨"LongYears", q252⟩, Or.inl rfl⟩
theorem fl_X2_158_3 : FL RX2 158 3 13 := ⟨RX3, TX3, 14, "LongYears$Realm", ck3, by decide, Or.inr ⟨"LongYears", q280⟩, Or.inl rfl⟩
theorem fp_X2_158_3 : FP RX2 158 3 13 := ⟨fl_X2_158_3, fun C T N h => by have := Option.some.inj (h.1.symm.trans ck3.1); cases this; rfl⟩
theorem fl_X2_167_3 : FL RX2 167 3 9 := ⟨RX3, TX3, 14, "LongYears$Realm", ck3, by decide, Or.inr ⟨"LongYears", q272⟩, Or.inl rfl⟩
theorem fp_X2_167_3 : FP RX2 167 3 9 := ⟨fl_X2_167_3, fun C T N h => by have := Option.some.inj (h.1.symm.trans ck3.1); cases this; rfl⟩
theorem fl_X2_187_3 : FL RX2 187 3 5 := ⟨RX3, TX3, 14, "LongYears$Realm", ck3, by decide, Or.inr ⟨"LongYears", q263⟩, Or.inl rfl⟩
theorem fp_X2_187_3 : FP RX2 187 3 5 := ⟨fl_X2_187_3, fun C T N h => by have := Option.some.inj (h.1.symm.trans ck3.1); cases this; rfl⟩
theorem fl_X2_190_3 : FL RX2 190 3 6 := ⟨RX3, TX3, 14, "LongYears$Realm", ck3, by decide, Or.inr ⟨"LongYears", q266⟩, Or.inl rfl⟩
theorem fp_X2_190_3 : FP RX2 190 3 6 := ⟨fl_X2_190_3, fun C T N h => by have := Option.some.inj (h.1.symm.trans ck3.1); cases this; rfl⟩
theorem fl_X2_193_3 : FL RX2 193 3 12 := ⟨RX3, TX3, 14, "LongYears$Realm", ck3, by decide, Or.inr ⟨"LongYears", q278⟩, Or.inl rfl⟩
theorem fp_X2_193_3 : FP RX2 193 3 12 := ⟨fl_X2_193_3, fun C T N h => by have := Option.some.inj (h.1.symm.trans ck3.1); cases this; rfl⟩
theorem fl_X2_196_3 : FL RX2 196 3 8 := ⟨RX3, TX3, 14, "LongYears$Realm", ck3, by decide, Or.inr ⟨"LongYears", q270⟩, Or.inl rfl⟩
theorem fp_X2_196_3 : FP RX2 196 3 8 := ⟨fl_X2_196_3, fun C T N h => by have := Option.some.inj (h.1.symm.trans ck3.1); cases this; rfl⟩
theorem fl_X2_199_3 : FL RX2 199 3 7 := ⟨RX3, TX3, 14, "LongYears$Realm", ck3, by decide, Or.inr ⟨"LongYears", q268⟩, Or.inl rfl⟩
theorem fp_X2_199_3 : FP RX2 199 3 7 := ⟨fl_X2_199_3, fun C T N h => by have := Option.some.inj (h.1.symm.trans ck3.1); cases this; rfl⟩
theorem fl_X2_202_3 : FL RX2 202 3 11 := ⟨RX3, TX3, 14, "LongYears$Realm", ck3, by decide, Or.inr ⟨"LongYears", q276⟩, Or.inl rfl⟩
theorem fp_X2_202_3 : FP RX2 202 3 11 := ⟨fl_X2_202_3, fun C T N h => by have := Option.some.inj (h.1.symm.trans ck3.1); cases this; rfl⟩
theorem fl_X2_213_6 : FL RX2 213 6 3 := ⟨RX8, TX8, 4, "LongYears$Land", ck6, by decide, Or.inr ⟨"LongYears", q718⟩, Or.inl rfl⟩
theorem fp_X2_213_6 : FP RX2 213 6 3 := ⟨fl_X2_213_6, fun C T N h => by have := Option.some.inj (h.1.symm.trans ck6.1); cases this; rfl⟩
theorem fl_X2_242_8 : FL RX2 242 8 1 := ⟨RX9, TX9, 3, "LongYears$Person", ck8, by decide, Or.inr ⟨"LongYears", q836⟩, Or.inl rfl⟩
theorem fl_X2_245_8 : FL RX2 245 8 2 := ⟨RX9, TX9, 3, "LongYears$Person", ck8, by decide, Or.inr ⟨"LongYears", q839⟩, Or.inl rfl⟩
theorem fp_X2_245_8 : FP RX2 245 8 2 := ⟨fl_X2_245_8, fun C T N h => by have := Option.some.inj (h.1.symm.trans ck8.1); cases this; rfl⟩
theorem fl_X2_262_9 : FL RX2 262 9 3 := ⟨RX10, TX10, 4, "LongYears$Deed", ck9, by decide, Or.inr ⟨"LongYears", q871⟩, Or.inl rfl⟩
theorem fp_X2_262_9 : FP RX2 262 9 3 := ⟨fl_X2_262_9, fun C T N h => by have := Option.some.inj (h.1.symm.trans ck9.1); cases this; rfl⟩
theorem fl_X2_262_10 : FL RX2 262 10 3 := ⟨RX11, TX11, 4, "LongYears$Deed", ck10, by decide, Or.inr ⟨"LongYears", q871⟩, Or.inl rfl⟩
theorem fp_X2_262_10 : FP RX2 262 10 3 := ⟨fl_X2_262_10, fun C T N h => by have := Option.some.inj (h.1.symm.trans ck10.1); cases this; rfl⟩
theorem fl_X2_262_11 : FL RX2 262 11 3 := ⟨RX12, TX12, 4, "LongYears$Deed", ck11, by decide, Or.inr ⟨"LongYears", q871⟩, Or.inl rfl⟩
theorem fp_X2_262_11 : FP RX2 262 11 3 := ⟨fl_X2_262_11, fun C T N h => by have := Option.some.inj (h.1.symm.trans ck11.1); cases this; rfl⟩
theorem fl_X2_278_3 : FL RX2 278 3 10 := ⟨RX3, TX3, 14, "LongYears$Realm", ck3, by decide, Or.inr ⟨"LongYears", q273⟩, Or.inl rfl⟩
theorem fp_X2_278_3 : FP RX2 278 3 10 := ⟨fl_X2_278_3, fun C T N h => by have := Option.some.inj (h.1.symm.trans ck3.1); cases this; rfl⟩
theorem ff_X1_19_1 : FF RX1 19 1 0 := ⟨RX1, TX1, 27, "LongYears", ck1, by decide, q342, rfl, rfl, rfl⟩
theorem ff_X1_32_1 : FF RX1 32 1 4 := ⟨RX1, TX1, 27, "LongYears", ck1, by decide, q346, rfl, rfl, rfl⟩
theorem ff_X1_43_1 : FF RX1 43 1 6 := ⟨RX1, TX1, 27, "LongYears", ck1, by decide, q348, rfl, rfl, rfl⟩
theorem ff_X1_49_1 : FF RX1 49 1 7 := ⟨RX1, TX1, 27, "LongYears", ck1, by decide, q349, rfl, rfl, rfl⟩
theorem ff_X1_53_1 : FF RX1 53 1 8 := ⟨RX1, TX1, 27, "LongYears", ck1, by decide, q350, rfl, rfl, rfl⟩
theorem ff_X1_56_1 : FF RX1 56 1 13 := ⟨RX1, TX1, 27, "LongYears", ck1, by decide, q355, rfl, rfl, rfl⟩
theorem ff_X1_60_1 : FF RX1 60 1 16 := ⟨RX1, TX1, 27, "LongYears", ck1, by decide, q358, rfl, rfl, rfl⟩
theorem ff_X1_63_1 : FF RX1 63 1 17 := ⟨RX1, TX1, 27, "LongYears", ck1, by decide, q359, rfl, rfl, rfl⟩
theorem ff_X1_66_1 : FF RX1 66 1 18 := ⟨RX1, TX1, 27, "LongYears", ck1, by decide, q360, rfl, rfl, rfl⟩
theorem ff_X1_69_1 : FF RX1 69 1 19 := ⟨RX1, TX1, 27, "LongYears", ck1, by decide, q361, rfl, rfl, rfl⟩
theorem ff_X1_74_1 : FF RX1 74 1 20 := ⟨RX1, TX1, 27, "LongYears", ck1, by decide, q362, rfl, rfl, rfl⟩
theorem ff_X1_77_1 : FF RX1 77 1 21 := ⟨RX1, TX1, 27, "LongYears", ck1, by decide, q363, rfl, rfl, rfl⟩
theorem ff_X1_81_1 : FF RX1 81 1 22 := ⟨RX1, TX1, 27, "LongYears", ck1, by decide, q364, rfl, rfl, rfl⟩
theorem ff_X1_84_1 : FF RX1 84 1 23 := ⟨RX1, TX1, 27, "LongYears", ck1, by decide, q365, rfl, rfl, rfl⟩
theorem ff_X10_9_9 : FF RX10 9 9 1 := ⟨RX10, TX10, 4, "LongYears$Deed", ck9, by decide, q860, rfl, rfl, rfl⟩
theorem ff_X10_9_10 : FF RX10 9 10 1 := ⟨RX11, TX11, 4, "LongYears$Deed", ck10, by decide, q860, rfl, rfl, rfl⟩
theorem ff_X10_9_11 : FF RX10 9 11 1 := ⟨RX12, TX12, 4, "LongYears$Deed", ck11, by decide, q860, rfl, rfl, rfl⟩
theorem ff_X10_15_9 : FF RX10 15 9 2 := ⟨RX10, TX10, 4, "LongYears$Deed", ck9, by decide, q866, rfl, rfl, rfl⟩
theorem ff_X10_15_10 : FF RX10 15 10 2 := ⟨RX11, TX11, 4, "LongYears$Deed", ck10, by decide, q866, rfl, rfl, rfl⟩
theorem ff_X10_15_11 : FF RX10 15 11 2 := ⟨RX12, TX12, 4, "LongYears$Deed", ck11, by decide, q866, rfl, rfl, rfl⟩
theorem ff_X7_7_16 : FF RX7 7 16 6 := ⟨RX7, TX7, 8, "LongYears$Fault", ck16, by decide, q644, rfl, rfl, rfl⟩
theorem ff_X7_13_16 : FF RX7 13 16 7 := ⟨RX7, TX7, 8, "LongYears$Fault", ck16, by decide, q646, rfl, rfl, rfl⟩
theorem ff_X13_7_7 : FF RX13 7 7 1 := ⟨RX13, TX13, 2, "LongYears$Feast", ck7, by decide, q1014, rfl, rfl, rfl⟩
theorem ff_X8_9_6 : FF RX8 9 6 1 := ⟨RX8, TX8, 4, "LongYears$Land", ck6, by decide, q712, rfl, rfl, rfl⟩
theorem ff_X8_15_6 : FF RX8 15 6 2 := ⟨RX8, TX8, 4, "LongYears$Land", ck6, by decide, q714, rfl, rfl, rfl⟩
theorem ff_X16_7_13 : FF RX16 7 13 0 := ⟨RX16, TX16, 1, "LongYears$Name", ck13, by decide, q980, rfl, rfl, rfl⟩
theorem ff_X4_9_5 : FF RX4 9 5 0 := ⟨RX5, TX5, 4, "LongYears$Named", ck5, by decide, q328, rfl, rfl, rfl⟩
theorem ff_X4_9_6 : FF RX4 9 6 0 := ⟨RX8, TX8, 4, "LongYears$Named", ck6, by decide, q328, rfl, rfl, rfl⟩
theorem ff_X4_9_7 : FF RX4 9 7 0 := ⟨RX13, TX13, 2, "LongYears$Named", ck7, by decide, q328, rfl, rfl, rfl⟩
theorem ff_X4_9_8 : FF RX4 9 8 0 := ⟨RX9, TX9, 3, "LongYears$Named", ck8, by decide, q328, rfl, rfl, rfl⟩
theorem ff_X4_9_9 : FF RX4 9 9 0 := ⟨RX10, TX10, 4, "LongYears$Named", ck9, by decide, q328, rfl, rfl, rfl⟩
theorem ff_X4_9_10 : FF RX4 9 10 0 := ⟨RX11, TX11, 4, "LongYears$Named", ck10, by decide, q328, rfl, rfl, rfl⟩
theorem ff_X4_9_11 : FF RX4 9 11 0 := ⟨RX12, TX12, 4, "LongYears$Named", ck11, by decide, q328, rfl, rfl, rfl⟩
theorem ff_X17_7_14 : FF RX17 7 14 0 := ⟨RX17, TX17, 1, "LongYears$Not", ck14, by decide, q995, rfl, rfl, rfl⟩
theorem ff_X17_7_15 : FF RX17 7 15 0 := ⟨RX18, TX18, 3, "LongYears$Not", ck15, by decide, q995, rfl, rfl, rfl⟩
theorem ff_X5_9_5 : FF RX5 9 5 2 := ⟨RX5, TX5, 4, "LongYears$Note", ck5, by decide, q324, rfl, rfl, rfl⟩
theorem ff_X5_15_5 : FF RX5 15 5 3 := ⟨RX5, TX5, 4, "LongYears$Note", ck5, by decide, q326, rfl, rfl, rfl⟩
theorem ff_X15_7_12 : FF RX15 7 12 0 := ⟨RX15, TX15, 1, "LongYears$Number", ck12, by decide, q966, rfl, rfl, rfl⟩
theorem ff_X9_17_8 : FF RX9 17 8 1 := ⟨RX9, TX9, 3, "LongYears$Person", ck8, by decide, q835, rfl, rfl, rfl⟩
theorem ff_X2_3_2 : FF RX2 3 2 8 := ⟨RX2, TX2, 9, "LongYears$Reader", ck2, by decide, q190, rfl, rfl, rfl⟩
theorem ff_X3_14_3 : FF RX3 14 3 0 := ⟨RX3, TX3, 14, "LongYears$Realm", ck3, by decide, q247, rfl, rfl, rfl⟩
theorem ff_X3_20_3 : FF RX3 20 3 1 := ⟨RX3, TX3, 14, "LongYears$Realm", ck3, by decide, q250, rfl, rfl, rfl⟩
theorem ff_X3_23_3 : FF RX3 23 3 2 := ⟨RX3, TX3, 14, "LongYears$Realm", ck3, by decide, q253, rfl, rfl, rfl⟩
theorem ff_X3_26_3 : FF RX3 26 3 3 := ⟨RX3, TX3, 14, "LongYears$Realm", ck3, by decide, q256, rfl, rfl, rfl⟩
theorem ff_X3_29_3 : FF RX3 29 3 4 := ⟨RX3, TX3, 14, "LongYears$Realm", ck3, by decide, q259, rfl, rfl, rfl⟩
theorem ff_X18_9_15 : FF RX18 9 15 1 := ⟨RX18, TX18, 3, "LongYears$Two", ck15, by decide, q993, rfl, rfl, rfl⟩
theorem ff_X18_15_15 : FF RX18 15 15 2 := ⟨RX18, TX18, 3, "LongYears$Two", ck15, by decide, q994, rfl, rfl, rfl⟩
theorem ff_X6_7_0 : FF RX6 7 0 0 := ⟨RX6, TX6, 76, "LongYearsModel", ck0, by decide, q1525, rfl, rfl, rfl⟩
theorem ff_X6_13_0 : FF RX6 13 0 3 := ⟨RX6, TX6, 76, "LongYearsModel", ck0, by decide, q1528, rfl, rfl, rfl⟩
theorem ff_X6_20_0 : FF RX6 20 0 24 := ⟨RX6, TX6, 76, "LongYearsModel", ck0, by decide, q1549, rfl, rfl, rfl⟩
theorem ff_X6_23_0 : FF RX6 23 0 28 := ⟨RX6, TX6, 76, "LongYearsModel", ck0, by decide, q1553, rfl, rfl, rfl⟩
theorem ff_X6_26_0 : FF RX6 26 0 29 := ⟨RX6, TX6, 76, "LongYearsModel", ck0, by decide, q1554, rfl, rfl, rfl⟩
theorem ff_X6_29_0 : FF RX6 29 0 30 := ⟨RX6, TX6, 76, "LongYearsModel", ck0, by decide, q1555, rfl, rfl, rfl⟩
theorem ff_X6_32_0 : FF RX6 32 0 31 := ⟨RX6, TX6, 76, "LongYearsModel", ck0, by decide, q1556, rfl, rfl, rfl⟩
theorem ff_X6_35_0 : FF RX6 35 0 32 := ⟨RX6, TX6, 76, "LongYearsModel", ck0, by decide, q1557, rfl, rfl, rfl⟩
theorem ff_X6_38_0 : FF RX6 38 0 33 := ⟨RX6, TX6, 76, "LongYearsModel", ck0, by decide, q1558, rfl, rfl, rfl⟩
theorem ff_X6_41_0 : FF RX6 41 0 34 := ⟨RX6, TX6, 76, "LongYearsModel", ck0, by decide, q1559, rfl, rfl, rfl⟩
theorem ff_X6_45_0 : FF RX6 45 0 35 := ⟨RX6, TX6, 76, "LongYearsModel", ck0, by decide, q1560, rfl, rfl, rfl⟩
theorem ff_X6_48_0 : FF RX6 48 0 36 := ⟨RX6, TX6, 76, "LongYearsModel", ck0, by decide, q1561, rfl, rfl, rfl⟩
theorem ff_X6_51_0 : FF RX6 51 0 37 := ⟨RX6, TX6, 76, "LongYearsModel", ck0, by decide, q1562, rfl, rfl, rfl⟩
theorem ff_X6_54_0 : FF RX6 54 0 38 := ⟨RX6, TX6, 76, "LongYearsModel", ck0, by decide, q1563, rfl, rfl, rfl⟩
theorem ff_X6_57_0 : FF RX6 57 0 39 := ⟨RX6, TX6, 76, "LongYearsModel", ck0, by decide, q1564, rfl, rfl, rfl⟩
theorem ff_X6_60_0 : FF RX6 60 0 40 := ⟨RX6, TX6, 76, "LongYearsModel", ck0, by decide, q1565, rfl, rfl, rfl⟩
theorem ff_X6_63_0 : FF RX6 63 0 41 := ⟨RX6, TX6, 76, "LongYearsModel", ck0, by decide, q1566, rfl, rfl, rfl⟩
theorem ff_X6_66_0 : FF RX6 66 0 42 := ⟨RX6, TX6, 76, "LongYearsModel", ck0, by decide, q1567, rfl, rfl, rfl⟩
theorem ff_X6_69_0 : FF RX6 69 0 43 := ⟨RX6, TX6, 76, "LongYearsModel", ck0, by decide, q1568, rfl, rfl, rfl⟩
theorem ff_X6_72_0 : FF RX6 72 0 45 := ⟨RX6, TX6, 76, "LongYearsModel", ck0, by decide, q1570, rfl, rfl, rfl⟩
theorem ff_X6_75_0 : FF RX6 75 0 46 := ⟨RX6, TX6, 76, "LongYearsModel", ck0, by decide, q1571, rfl, rfl, rfl⟩
theorem ff_X6_78_0 : FF RX6 78 0 55 := ⟨RX6, TX6, 76, "LongYearsModel", ck0, by decide, q1580, rfl, rfl, rfl⟩
theorem ff_X6_81_0 : FF RX6 81 0 56 := ⟨RX6, TX6, 76, "LongYearsModel", ck0, by decide, q1581, rfl, rfl, rfl⟩
theorem ff_X6_84_0 : FF RX6 84 0 60 := ⟨RX6, TX6, 76, "LongYearsModel", ck0, by decide, q1585, rfl, rfl, rfl⟩
theorem ff_X6_88_0 : FF RX6 88 0 61 := ⟨RX6, TX6, 76, "LongYearsModel", ck0, by decide, q1586, rfl, rfl, rfl⟩
theorem ff_X6_92_0 : FF RX6 92 0 65 := ⟨RX6, TX6, 76, "LongYearsModel", ck0, by decide, q1590, rfl, rfl, rfl⟩
theorem ff_X6_95_0 : FF RX6 95 0 66 := ⟨RX6, TX6, 76, "LongYearsModel", ck0, by decide, q1591, rfl, rfl, rfl⟩
theorem ff_X6_98_0 : FF RX6 98 0 68 := ⟨RX6, TX6, 76, "LongYearsModel", ck0, by decide, q1593, rfl, rfl, rfl⟩
theorem ff_X6_101_0 : FF RX6 101 0 69 := ⟨RX6, TX6, 76, "LongYearsModel", ck0, by decide, q1594, rfl, rfl, rfl⟩
theorem ff_X6_104_0 : FF RX6 104 0 73 := ⟨RX6, TX6, 76, "LongYearsModel", ck0, by decide, q1598, rfl, rfl, rfl⟩
theorem ff_X6_107_0 : FF RX6 107 0 74 := ⟨RX6, TX6, 76, "LongYearsModel", ck0, by decide, q1599, rfl, rfl, rfl⟩
theorem ff_X6_110_0 : FF RX6 110 0 75 := ⟨RX6, TX6, 76, "LongYearsModel", ck0, by decide, q1600, rfl, rfl, rfl⟩
theorem cv_X1_93 : CVX RX1 93 RX1 yX1_put cX1_put 3 none 1 := ⟨Or.inl (lw_V q428 q430 qs0 q130 q431), rfl, by decide +kernel, by decide +kernel, by decide +kernel⟩
theorem cs_X1_96 : CSX RX1 96 yX1_in cX1_in 6 (some .boolean) 3 := ⟨Or.inl (lw_S q437 q438 q130 q439), by decide +kernel, by decide +kernel, by decide +kernel⟩
theorem cv_X1_103 : CVX RX1 103 RX2 yX2_read cX2_read 2 (some (.object "LongYears$Realm")) 1 := ⟨Or.inl (lw_V q440 q441 q442 q131 q443), rfl, by decide +kernel, by decide +kernel, by decide +kernel⟩
theorem cv_X1_118 : CVX RX1 118 RJ2 yJ2_size cJ2_size 1 (some .int) 0 := ⟨Or.inl (lw_V q1020 q666 q667 q135 q668), rfl, by decide +kernel, by decide +kernel, by decide +kernel⟩
theorem cv_X1_127 : CVX RX1 127 RJ2 yJ2_get cJ2_get 2 (some (.object "java/lang/Object")) 1 := ⟨Or.inl (lw_V q1021 q684 q685 q135 q686), rfl, by decide +kernel, by decide +kernel, by decide +kernel⟩
theorem cv_X1_131 : CVX RX1 131 RX5 yX5_become cX5_become 3 none 1 := ⟨Or.inl (lw_V q1022 q1023 q1024 q137 q1025), rfl, by decide +kernel, by decide +kernel, by decide +kernel⟩
theorem cv_X1_145 : CVX RX1 145 RX1 yX1_forgetRows cX1_forgetRows 2 none 0 := ⟨Or.inl (lw_V q1026 q1028 qs33 q130 q1029), rfl, by decide +kernel, by decide +kernel, by decide +kernel⟩
theorem cs_X1_154 : CSX RX1 154 yX4_find cX4_find 3 (some .int) 2 := ⟨Or.inl (lw_S q1038 q680 q136 q681), by decide +kernel, by decide +kernel, by decide +kernel⟩
theorem cv_X1_171 : CVX RX1 171 RX1 yX1_isLand cX1_isLand 2 (some .boolean) 1 := ⟨Or.inl (lw_V q1047 q1049 qs35 q130 q1050), rfl, by decide +kernel, by decide +kernel, by decide +kernel⟩
theorem cv_X1_177 : CVX RX1 177 RX1 yX1_land cX1_land 2 (some (.object "LongYears$Land")) 1 := ⟨Or.inl (lw_V q1052 q1054 qs36 q130 q1055), rfl, by decide +kernel, by decide +kernel, by decide +kernel⟩
theorem cv_X1_181 : CVX RX1 181 RX8 yX8_has cX8_has 3 (some .boolean) 1 := ⟨Or.inl (lw_V q1057 q807 q808 q148 q809), rfl, by decide +kernel, by decide +kernel, by decide +kernel⟩
theorem cv_X1_200 : CVX RX1 200 RX1 yX1_isYear cX1_isYear 3 (some .boolean) 2 := ⟨Or.inl (lw_V q1043 q1045 qs34 q130 q1046), rfl, by decide +kernel, by decide +kernel, by decide +kernel⟩
theorem cv_X1_204 : CVX RX1 204 RX8 yX8_length cX8_length 3 (some .long) 1 := ⟨Or.inl (lw_V q1058 q816 q817 q148 q818), rfl, by decide +kernel, by decide +kernel, by decide +kernel⟩
theorem cs_X1_209 : CSX RX1 209 yX1_isCount cX1_isCount 2 (some .boolean) 1 := ⟨Or.inl (lw_S q1064 q1065 q130 q1066), by decide +kernel, by decide +kernel, by decide +kernel⟩
theorem cv_X1_212 : CVX RX1 212 RX8 yX8_year cX8_year 9 (some .long) 1 := ⟨Or.inl (lw_V q1068 q1069 q1070 q148 q1071), rfl, by decide +kernel, by decide +kernel, by decide +kernel⟩
theorem cv_X1_215 : CVX RX1 215 RX8 yX8_day cX8_day 3 (some .long) 1 := ⟨Or.inl (lw_V q1074 q1075 q1076 q148 q1077), rfl, by decide +kernel, by decide +kernel, by decide +kernel⟩
theorem cv_X1_218 : CVX RX1 218 RX8 yX8_start cX8_start 5 (some .long) 1 := ⟨Or.inl (lw_V q1083 q820 q821 q148 q822), rfl, by decide +kernel, by decide +kernel, by decide +kernel⟩
theorem cs_X1_221 : CSX RX1 221 yX10_counted cX10_counted 2 (some .long) 1 := ⟨Or.inl (lw_S q1084 q1085 q154 q1086), by decide +kernel, by decide +kernel, by decide +kernel⟩
theorem cv_X1_226 : CVX RX1 226 RX3 yX3_week cX3_week 3 (some .int) 1 := ⟨Or.inl (lw_V q1093 q1094 q1095 q132 q1096), rfl, by decide +kernel, by decide +kernel, by decide +kernel⟩
theorem cv_X1_230 : CVX RX1 230 RX3 yX3_moon cX3_moon 3 (some .int) 1 := ⟨Or.inl (lw_V q1097 q1098 q1099 q132 q1100), rfl, by decide +kernel, by decide +kernel, by decide +kernel⟩
theorem cv_X1_233 : CVX RX1 233 RX3 yX3_season cX3_season 3 (some .int) 1 := ⟨Or.inl (lw_V q1102 q1103 q1104 q132 q1105), rfl, by decide +kernel, by decide +kernel, by decide +kernel⟩
theorem cv_X1_236 : CVX RX1 236 RX3 yX3_year cX3_year 3 (some .long) 1 := ⟨Or.inl (lw_V q1124 q1125 q1126 q132 q1127), rfl, by decide +kernel, by decide +kernel, by decide +kernel⟩
theorem cv_X1_259 : CVX RX1 259 RX1 yX1_isFestive cX1_isFestive 6 (some .boolean) 2 := ⟨Or.inl (lw_V q1115 q1117 qs38 q130 q1118), rfl, by decide +kernel, by decide +kernel, by decide +kernel⟩
theorem cv_X1_265 : CVX RX1 265 RX1 yX1_isFeast cX1_isFeast 2 (some .boolean) 1 := ⟨Or.inl (lw_V q1111 q1113 qs37 q130 q1114), rfl, by decide +kernel, by decide +kernel, by decide +kernel⟩
theorem cv_X1_268 : CVX RX1 268 RX1 yX1_firstFeast cX1_firstFeast 6 (some .long) 2 := ⟨Or.inl (lw_V q1177 q1179 qs40 q130 q1180), rfl, by decide +kernel, by decide +kernel, by decide +kernel⟩
theorem cv_X1_271 : CVX RX1 271 RX1 yX1_isPerson cX1_isPerson 2 (some .boolean) 1 := ⟨Or.inl (lw_V q1191 q1193 qs41 q130 q1194), rfl, by decide +kernel, by decide +kernel, by decide +kernel⟩
theorem cv_X1_283 : CVX RX1 283 RX8 yX8_lastWith cX8_lastWith 3 (some .long) 1 := ⟨Or.inl (lw_V q1200 q1201 q1202 q148 q1203), rfl, by decide +kernel, by decide +kernel, by decide +kernel⟩
theorem cv_X1_286 : CVX RX1 286 RX8 yX8_last cX8_last 1 (some .long) 0 := ⟨Or.inl (lw_V q1204 q811 q812 q148 q813), rfl, by decide +kernel, by decide +kernel, by decide +kernel⟩
theorem cs_X1_290 : CSX RX1 290 yJ7_min_2 cJ7_min_2 4 (some .long) 2 := ⟨Or.inl (lw_S q1205 q828 q143 q829), by decide +kernel, by decide +kernel, by decide +kernel⟩
theorem cs_X1_296 : CSX RX1 296 yJ7_max_2 cJ7_max_2 4 (some .long) 2 := ⟨Or.inl (lw_S q1206 q1207 q143 q1208), by decide +kernel, by decide +kernel, by decide +kernel⟩
theorem cv_X1_303 : CVX RX1 303 RX8 yX8_firstWith cX8_firstWith 3 (some .long) 1 := ⟨Or.inl (lw_V q1219 q1220 q1221 q148 q1222), rfl, by decide +kernel, by decide +kernel, by decide +kernel⟩
theorem cv_X1_306 : CVX RX1 306 RX3 yX3_springs cX3_springs 3 (some .long) 1 := ⟨Or.inl (lw_V q1235 q1236 q1237 q132 q1238), rfl, by decide +kernel, by decide +kernel, by decide +kernel⟩
theorem cv_X1_309 : CVX RX1 309 RX1 yX1_isBegun cX1_isBegun 4 (some .boolean) 2 := ⟨Or.inl (lw_V q1227 q1229 qs42 q130 q1230), rfl, by decide +kernel, by decide +kernel, by decide +kernel⟩
theorem cv_X1_312 : CVX RX1 312 RX1 yX1_springsIn cX1_springsIn 6 (some .long) 2 := ⟨Or.inl (lw_V q1231 q1233 qs43 q130 q1234), rfl, by decide +kernel, by decide +kernel, by decide +kernel⟩
theorem cv_X1_331 : CVX RX1 331 RX10 yX10_due cX10_due 3 (some .long) 2 := ⟨Or.inl (lw_V q1264 q1265 q1266 q154 q1283), rfl, by decide +kernel, by decide +kernel, by decide +kernel⟩
theorem cv_X1_338 : CVX RX1 338 RX8 yX8_ended cX8_ended 5 (some .long) 1 := ⟨Or.inl (lw_V q1285 q1286 q1287 q148 q1288), rfl, by decide +kernel, by decide +kernel, by decide +kernel⟩
theorem cv_X1_343 : CVX RX1 343 RX1 yX1_ends cX1_ends 5 (some .int) 3 := ⟨Or.inl (lw_V q1299 q1291 q1292 q130 q1293), rfl, by decide +kernel, by decide +kernel, by decide +kernel⟩
theorem cv_X1_347 : CVX RX1 347 RX5 yX5_has cX5_has 2 (some .boolean) 1 := ⟨Or.inl (lw_V q1323 q915 q916 q137 q917), rfl, by decide +kernel, by decide +kernel, by decide +kernel⟩
theorem cv_X1_355 : CVX RX1 355 RX9 yX9_isAlive cX9_isAlive 3 (some .boolean) 1 := ⟨Or.inl (lw_V q1363 q1364 q1365 q153 q1366), rfl, by decide +kernel, by decide +kernel, by decide +kernel⟩
theorem cv_X1_360 : CVX RX1 360 RX1 yX1_lay cX1_lay 3 none 1 := ⟨Or.inl (lw_V q1355 q1357 qs50 q130 q1358), rfl, by decide +kernel, by decide +kernel, by decide +kernel⟩
theorem cv_X1_365 : CVX RX1 365 RX1 yX1_isSaid cX1_isSaid 5 (some .boolean) 2 := ⟨Or.inl (lw_V q1359 q1361 qs51 q130 q1362), rfl, by decide +kernel, by decide +kernel, by decide +kernel⟩
theorem cv_X1_369 : CVX RX1 369 RX1 yX1_can cX1_can 4 (some .boolean) 2 := ⟨Or.inl (lw_V q1350 q1352 qs49 q130 q1353), rfl, by decide +kernel, by decide +kernel, by decide +kernel⟩
theorem cv_X1_381 : CVX RX1 381 RX1 yX1_holds cX1_holds 5 (some .boolean) 3 := ⟨Or.inl (lw_V q1346 q1348 qs48 q130 q1349), rfl, by decide +kernel, by decide +kernel, by decide +kernel⟩
theorem cv_X1_385 : CVX RX1 385 RX1 yX1_link cX1_link 3 none 1 := ⟨Or.inl (lw_V q1338 q1340 qs46 q130 q1341), rfl, by decide +kernel, by decide +kernel, by decide +kernel⟩
theorem cv_X1_388 : CVX RX1 388 RX1 yX1_isFit cX1_isFit 4 (some .boolean) 2 := ⟨Or.inl (lw_V q1380 q1382 qs54 q130 q1383), rfl, by decide +kernel, by decide +kernel, by decide +kernel⟩
theorem cv_X1_400 : CVX RX1 400 RX1 yX1_isSaying cX1_isSaying 4 (some .boolean) 3 := ⟨Or.inl (lw_V q1316 q1318 qs44 q130 q1319), rfl, by decide +kernel, by decide +kernel, by decide +kernel⟩
theorem cv_X1_403 : CVX RX1 403 RX5 yX5_say cX5_say 4 none 3 := ⟨Or.inl (lw_V q1324 q919 q920 q137 q921), rfl, by decide +kernel, by decide +kernel, by decide +kernel⟩
theorem cs_X1_407 : CSX RX1 407 yJ7_max cJ7_max 2 (some .int) 2 := ⟨Or.inl (lw_S q1329 q539 q143 q540), by decide +kernel, by decide +kernel, by decide +kernel⟩
theorem cv_X1_410 : CVX RX1 410 RX1 yX1_isNote cX1_isNote 2 (some .boolean) 1 := ⟨Or.inl (lw_V q1334 q1336 qs45 q130 q1337), rfl, by decide +kernel, by decide +kernel, by decide +kernel⟩
theorem cv_X1_413 : CVX RX1 413 RX1 yX1_fit cX1_fit 4 (some .int) 2 := ⟨Or.inl (lw_V q1342 q1344 qs47 q130 q1345), rfl, by decide +kernel, by decide +kernel, by decide +kernel⟩
theorem cv_X1_416 : CVX RX1 416 RX1 yX1_all cX1_all 1 (some .int) 0 := ⟨Or.inl (lw_V q1372 q1374 qs52 q130 q1375), rfl, by decide +kernel, by decide +kernel, by decide +kernel⟩
theorem cv_X1_419 : CVX RX1 419 RX1 yX1_holdsAll cX1_holdsAll 3 (some .boolean) 1 := ⟨Or.inl (lw_V q1376 q1378 qs53 q130 q1379), rfl, by decide +kernel, by decide +kernel, by decide +kernel⟩
theorem cs_X1_422 : CSX RX1 422 yJ18_bitCount cJ18_bitCount 1 (some .int) 1 := ⟨Or.inl (lw_S q1388 q1389 q167 q1390), by decide +kernel, by decide +kernel, by decide +kernel⟩
theorem cv_X1_428 : CVX RX1 428 RX1 yX1_isOne cX1_isOne 4 (some .boolean) 1 := ⟨Or.inl (lw_V q1394 q1396 qs55 q130 q1397), rfl, by decide +kernel, by decide +kernel, by decide +kernel⟩
theorem cv_X1_431 : CVX RX1 431 RX1 yX1_isTrue cX1_isTrue 4 (some .boolean) 1 := ⟨Or.inl (lw_V q1406 q1408 qs56 q130 q1409), rfl, by decide +kernel, by decide +kernel, by decide +kernel⟩
theorem cs_X10_19 : CSX RX10 19 yX10_counted cX10_counted 2 (some .long) 1 := ⟨Or.inl (lw_S q1284 q1085 q154 q1086), by decide +kernel, by decide +kernel, by decide +kernel⟩
theorem cv_X8_22 : CVX RX8 22 RX8 yX8_last cX8_last 1 (some .long) 0 := ⟨Or.inl (lw_V q810 q811 q812 q148 q813), rfl, by decide +kernel, by decide +kernel, by decide +kernel⟩
theorem cs_X8_37 : CSX RX8 37 yJ7_min_2 cJ7_min_2 4 (some .long) 2 := ⟨Or.inl (lw_S q827 q828 q143 q829), by decide +kernel, by decide +kernel, by decide +kernel⟩
theorem cv_X8_43 : CVX RX8 43 RX8 yX8_start cX8_start 5 (some .long) 1 := ⟨Or.inl (lw_V q1072 q820 q821 q148 q822), rfl, by decide +kernel, by decide +kernel, by decide +kernel⟩
theorem cv_X8_49 : CVX RX8 49 RX8 yX8_year cX8_year 9 (some .long) 1 := ⟨Or.inl (lw_V q1078 q1069 q1070 q148 q1071), rfl, by decide +kernel, by decide +kernel, by decide +kernel⟩
theorem cv_X8_52 : CVX RX8 52 RX8 yX8_length cX8_length 3 (some .long) 1 := ⟨Or.inl (lw_V q1289 q816 q817 q148 q818), rfl, by decide +kernel, by decide +kernel, by decide +kernel⟩
theorem cv_X4_15 : CVX RX4 15 RJ2 yJ2_size cJ2_size 1 (some .int) 0 := ⟨Or.inl (lw_V q682 q666 q667 q135 q668), rfl, by decide +kernel, by decide +kernel, by decide +kernel⟩
theorem cv_X4_21 : CVX RX4 21 RJ2 yJ2_get cJ2_get 2 (some (.object "java/lang/Object")) 1 := ⟨Or.inl (lw_V q683 q684 q685 q135 q686), rfl, by decide +kernel, by decide +kernel, by decide +kernel⟩
theorem cv_X2_26 : CVX RX2 26 RX2 yX2_here cX2_here 1 (some .int) 0 := ⟨Or.inl (lw_V q450 q452 qs2 q131 q453), rfl, by decide +kernel, by decide +kernel, by decide +kernel⟩
theorem cv_X2_44 : CVX RX2 44 RX2 yX2_word cX2_word 3 (some .int) 0 := ⟨Or.inl (lw_V q457 q459 qs3 q131 q460), rfl, by decide +kernel, by decide +kernel, by decide +kernel⟩
theorem cv_X2_50 : CVX RX2 50 RX2 yX2_name cX2_name 2 none 0 := ⟨Or.inl (lw_V q511 q513 qs4 q131 q514), rfl, by decide +kernel, by decide +kernel, by decide +kernel⟩
theorem cv_X2_58 : CVX RX2 58 RX2 yX2_sign cX2_sign 2 none 0 := ⟨Or.inl (lw_V q518 q520 qs5 q131 q521), rfl, by decide +kernel, by decide +kernel, by decide +kernel⟩
theorem cv_X2_63 : CVX RX2 63 RJ3 yJ3_indexOf cJ3_indexOf 2 (some .int) 1 := ⟨Or.inl (lw_V q523 q524 q525 q139 q526), rfl, by decide +kernel, by decide +kernel, by decide +kernel⟩
theorem cv_X2_73 : CVX RX2 73 RJ3 yJ3_length cJ3_length 1 (some .int) 0 := ⟨Or.inl (lw_V q463 q464 q465 q139 q466), rfl, by decide +kernel, by decide +kernel, by decide +kernel⟩
theorem cv_X2_76 : CVX RX2 76 RJ3 yJ3_charAt cJ3_charAt 2 (some .char) 1 := ⟨Or.inl (lw_V q473 q474 q475 q139 q476), rfl, by decide +kernel, by decide +kernel, by decide +kernel⟩
theorem cv_X2_85 : CVX RX2 85 RX2 yX2_wrong cX2_wrong 2 (some (.object "LongYears$Fault")) 1 := ⟨Or.inl (lw_V q590 q592 qs8 q131 q593), rfl, by decide +kernel, by decide +kernel, by decide +kernel⟩
theorem cv_X2_89 : CVX RX2 89 RX2 yX2_next cX2_next 1 none 0 := ⟨Or.inl (lw_V q446 q448 qs1 q131 q449), rfl, by decide +kernel, by decide +kernel, by decide +kernel⟩
theorem cv_X2_92 : CVX RX2 92 RX2 yX2_isSign cX2_isSign 2 (some .boolean) 1 := ⟨Or.inl (lw_V q704 q706 qs14 q131 q707), rfl, by decide +kernel, by decide +kernel, by decide +kernel⟩
theorem cv_X2_96 : CVX RX2 96 RX2 yX2_number cX2_number 4 (some .int) 2 := ⟨Or.inl (lw_V q696 q698 qs12 q131 q699), rfl, by decide +kernel, by decide +kernel, by decide +kernel⟩
theorem cs_X2_100 : CSX RX2 100 yX4_find cX4_find 3 (some .int) 2 := ⟨Or.inl (lw_S q679 q680 q136 q681), by decide +kernel, by decide +kernel, by decide +kernel⟩
theorem cv_X2_119 : CVX RX2 119 RX2 yX2_line cX2_line 2 none 0 := ⟨Or.inl (lw_V q582 q584 qs6 q131 q585), rfl, by decide +kernel, by decide +kernel, by decide +kernel⟩
theorem cv_X2_122 : CVX RX2 122 RX2 yX2_isWord cX2_isWord 3 (some .boolean) 2 := ⟨Or.inl (lw_V q586 q588 qs7 q131 q589), rfl, by decide +kernel, by decide +kernel, by decide +kernel⟩
theorem cv_X2_130 : CVX RX2 130 RJ2 yJ2_size cJ2_size 1 (some .int) 0 := ⟨Or.inl (lw_V q665 q666 q667 q135 q668), rfl, by decide +kernel, by decide +kernel, by decide +kernel⟩
theorem cv_X2_146 : CVX RX2 146 RX2 yX2_land cX2_land 2 none 0 := ⟨Or.inl (lw_V q669 q671 qs10 q131 q672), rfl, by decide +kernel, by decide +kernel, by decide +kernel⟩
theorem cv_X2_149 : CVX RX2 149 RX2 yX2_person cX2_person 3 none 0 := ⟨Or.inl (lw_V q791 q793 qs18 q131 q794), rfl, by decide +kernel, by decide +kernel, by decide +kernel⟩
theorem cv_X2_152 : CVX RX2 152 RX2 yX2_deed cX2_deed 6 none 0 := ⟨Or.inl (lw_V q847 q849 qs20 q131 q850), rfl, by decide +kernel, by decide +kernel, by decide +kernel⟩
theorem cv_X2_155 : CVX RX2 155 RX2 yX2_note cX2_note 5 none 0 := ⟨Or.inl (lw_V q904 q906 qs22 q131 q907), rfl, by decide +kernel, by decide +kernel, by decide +kernel⟩
theorem cs_X2_162 : CSX RX2 162 yJ7_min cJ7_min 2 (some .int) 2 := ⟨Or.inl (lw_S q922 q542 q143 q543), by decide +kernel, by decide +kernel, by decide +kernel⟩
theorem cv_X2_172 : CVX RX2 172 RX2 yX2_fresh cX2_fresh 3 (some .int) 1 := ⟨Or.inl (lw_V q675 q677 qs11 q131 q678), rfl, by decide +kernel, by decide +kernel, by decide +kernel⟩
theorem cv_X2_176 : CVX RX2 176 RX2 yX2_or cX2_or 3 (some (.object "LongYears$Part")) 0 := ⟨Or.inl (lw_V q925 q927 qs24 q131 q928), rfl, by decide +kernel, by decide +kernel, by decide +kernel⟩
theorem cv_X2_183 : CVX RX2 183 RJ2 yJ2_add cJ2_add 2 (some .boolean) 1 := ⟨Or.inl (lw_V q727 q728 q729 q135 q730), rfl, by decide +kernel, by decide +kernel, by decide +kernel⟩
theorem cv_X2_207 : CVX RX2 207 RX2 yX2_signed cX2_signed 4 (some .int) 1 := ⟨Or.inl (lw_V q700 q702 qs13 q131 q703), rfl, by decide +kernel, by decide +kernel, by decide +kernel⟩
theorem cv_X2_216 : CVX RX2 216 RJ2 yJ2_isEmpty cJ2_isEmpty 1 (some .boolean) 0 := ⟨Or.inl (lw_V q801 q802 q803 q135 q804), rfl, by decide +kernel, by decide +kernel, by decide +kernel⟩
theorem cv_X2_220 : CVX RX2 220 RJ2 yJ2_get cJ2_get 2 (some (.object "java/lang/Object")) 1 := ⟨Or.inl (lw_V q805 q684 q685 q135 q686), rfl, by decide +kernel, by decide +kernel, by decide +kernel⟩
theorem cv_X2_224 : CVX RX2 224 RX8 yX8_has cX8_has 3 (some .boolean) 1 := ⟨Or.inl (lw_V q806 q807 q808 q148 q809), rfl, by decide +kernel, by decide +kernel, by decide +kernel⟩
theorem cv_X2_228 : CVX RX2 228 RX8 yX8_length cX8_length 3 (some .long) 1 := ⟨Or.inl (lw_V q815 q816 q817 q148 q818), rfl, by decide +kernel, by decide +kernel, by decide +kernel⟩
theorem cv_X2_231 : CVX RX2 231 RX8 yX8_start cX8_start 5 (some .long) 1 := ⟨Or.inl (lw_V q819 q820 q821 q148 q822), rfl, by decide +kernel, by decide +kernel, by decide +kernel⟩
theorem cv_X2_236 : CVX RX2 236 RX2 yX2_date cX2_date 7 (some .long) 1 := ⟨Or.inl (lw_V q797 q799 qs19 q131 q800), rfl, by decide +kernel, by decide +kernel, by decide +kernel⟩
theorem cv_X2_258 : CVX RX2 258 RX2 yX2_ahead cX2_ahead 3 (some .int) 1 := ⟨Or.inl (lw_V q891 q893 qs21 q131 q894), rfl, by decide +kernel, by decide +kernel, by decide +kernel⟩
theorem cv_X2_270 : CVX RX2 270 RX2 yX2_sayingAtHand cX2_sayingAtHand 1 (some .int) 0 := ⟨Or.inl (lw_V q910 q912 qs23 q131 q913), rfl, by decide +kernel, by decide +kernel, by decide +kernel⟩
theorem cv_X2_273 : CVX RX2 273 RX5 yX5_has cX5_has 2 (some .boolean) 1 := ⟨Or.inl (lw_V q914 q915 q916 q137 q917), rfl, by decide +kernel, by decide +kernel, by decide +kernel⟩
theorem cv_X2_275 : CVX RX2 275 RX5 yX5_say cX5_say 4 none 3 := ⟨Or.inl (lw_V q918 q919 q920 q137 q921), rfl, by decide +kernel, by decide +kernel, by decide +kernel⟩
theorem cv_X2_281 : CVX RX2 281 RX2 yX2_and cX2_and 3 (some (.object "LongYears$Part")) 0 := ⟨Or.inl (lw_V q929 q931 qs25 q131 q932), rfl, by decide +kernel, by decide +kernel, by decide +kernel⟩
theorem cv_X2_284 : CVX RX2 284 RX2 yX2_knot cX2_knot 2 (some .int) 0 := ⟨Or.inl (lw_V q955 q957 qs31 q131 q958), rfl, by decide +kernel, by decide +kernel, by decide +kernel⟩
theorem cv_X2_292 : CVX RX2 292 RX2 yX2_not cX2_not 1 (some (.object "LongYears$Part")) 0 := ⟨Or.inl (lw_V q933 q935 qs26 q131 q936), rfl, by decide +kernel, by decide +kernel, by decide +kernel⟩
theorem cv_X2_295 : CVX RX2 295 RX2 yX2_compare cX2_compare 3 (some (.object "LongYears$Part")) 0 := ⟨Or.inl (lw_V q937 q939 qs27 q131 q940), rfl, by decide +kernel, by decide +kernel, by decide +kernel⟩
theorem cv_X2_303 : CVX RX2 303 RX2 yX2_sum cX2_sum 3 (some (.object "LongYears$Part")) 0 := ⟨Or.inl (lw_V q941 q943 qs28 q131 q944), rfl, by decide +kernel, by decide +kernel, by decide +kernel⟩
theorem cv_X2_306 : CVX RX2 306 RX2 yX2_product cX2_product 3 (some (.object "LongYears$Part")) 0 := ⟨Or.inl (lw_V q945 q947 qs29 q131 q948), rfl, by decide +kernel, by decide +kernel, by decide +kernel⟩
theorem cv_X2_309 : CVX RX2 309 RX2 yX2_one cX2_one 2 (some (.object "LongYears$Part")) 0 := ⟨Or.inl (lw_V q949 q951 qs30 q131 q952), rfl, by decide +kernel, by decide +kernel, by decide +kernel⟩
theorem cv_X2_315 : CVX RX2 315 RX2 yX2_nameAtHand cX2_nameAtHand 1 (some .int) 0 := ⟨Or.inl (lw_V q970 q972 qs32 q131 q973), rfl, by decide +kernel, by decide +kernel, by decide +kernel⟩
theorem cs_X3_63 : CSX RX3 63 yJ7_floorDiv cJ7_floorDiv 6 (some .long) 2 := ⟨Or.inl (lw_S q1239 q1240 q143 q1241), by decide +kernel, by decide +kernel, by decide +kernel⟩
theorem cv_X3_69 : CVX RX3 69 RJ2 yJ2_isEmpty cJ2_isEmpty 1 (some .boolean) 0 := ⟨Or.inl (lw_V q1128 q802 q803 q135 q804), rfl, by decide +kernel, by decide +kernel, by decide +kernel⟩
theorem cv_X3_75 : CVX RX3 75 RJ2 yJ2_get cJ2_get 2 (some (.object "java/lang/Object")) 1 := ⟨Or.inl (lw_V q1130 q684 q685 q135 q686), rfl, by decide +kernel, by decide +kernel, by decide +kernel⟩
theorem cv_X3_81 : CVX RX3 81 RX8 yX8_year cX8_year 9 (some .long) 1 := ⟨Or.inl (lw_V q1132 q1069 q1070 q148 q1071), rfl, by decide +kernel, by decide +kernel, by decide +kernel⟩
theorem cs_X18_32 : CSX RX18 32 yX18_times cX18_times 4 (some .long) 2 := ⟨Or.inl (lw_S q1156 q1157 q162 q1158), by decide +kernel, by decide +kernel, by decide +kernel⟩
theorem cs_X18_36 : CSX RX18 36 yX18_some cX18_some 2 (some .long) 1 := ⟨Or.inl (lw_S q1164 q1165 q162 q1166), by decide +kernel, by decide +kernel, by decide +kernel⟩
theorem cs_X18_39 : CSX RX18 39 yX18_is cX18_is 1 (some .long) 1 := ⟨Or.inl (lw_S q1167 q1168 q162 q1169), by decide +kernel, by decide +kernel, by decide +kernel⟩
theorem cs_X18_47 : CSX RX18 47 yJ7_abs cJ7_abs 2 (some .long) 1 := ⟨Or.inl (lw_S q1159 q1160 q143 q1161), by decide +kernel, by decide +kernel, by decide +kernel⟩
theorem cv_X11_15 : CVX RX11 15 RX8 yX8_year cX8_year 9 (some .long) 1 := ⟨Or.inl (lw_V q1275 q1069 q1070 q148 q1071), rfl, by decide +kernel, by decide +kernel, by decide +kernel⟩
theorem cv_X11_25 : CVX RX11 25 RX8 yX8_day cX8_day 3 (some .long) 1 := ⟨Or.inl (lw_V q1276 q1075 q1076 q148 q1077), rfl, by decide +kernel, by decide +kernel, by decide +kernel⟩
theorem cv_X11_28 : CVX RX11 28 RX8 yX8_has cX8_has 3 (some .boolean) 1 := ⟨Or.inl (lw_V q1277 q807 q808 q148 q809), rfl, by decide +kernel, by decide +kernel, by decide +kernel⟩
theorem cv_X11_34 : CVX RX11 34 RX8 yX8_length cX8_length 3 (some .long) 1 := ⟨Or.inl (lw_V q1279 q816 q817 q148 q818), rfl, by decide +kernel, by decide +kernel, by decide +kernel⟩
theorem cv_X11_37 : CVX RX11 37 RX8 yX8_start cX8_start 5 (some .long) 1 := ⟨Or.inl (lw_V q1280 q820 q821 q148 q822), rfl, by decide +kernel, by decide +kernel, by decide +kernel⟩
theorem cv_X0_7 : CVX RX0 7 RX1 yX1_look cX1_look 3 (some .int) 2 := ⟨Or.inl (lw_V q1464 q1465 q1466 q130 q1467), rfl, by decide +kernel, by decide +kernel, by decide +kernel⟩
theorem cv_X0_21 : CVX RX0 21 RX1 yX1_feed cX1_feed 6 (some .int) 5 := ⟨Or.inl (lw_V q424 q425 q426 q130 q427), rfl, by decide +kernel, by decide +kernel, by decide +kernel⟩
theorem cv_X0_25 : CVX RX0 25 RX6 yX6_feed cX6_feed 8 (some .int) 5 := ⟨Or.inl (lw_V q1758 q1759 q1760 q138 q1761), rfl, by decide +kernel, by decide +kernel, by decide +kernel⟩
theorem cv_X0_30 : CVX RX0 30 RX6 yX6_text cX6_text 3 (some .int) 1 := ⟨Or.inl (lw_V q1762 q1763 q1764 q138 q1765), rfl, by decide +kernel, by decide +kernel, by decide +kernel⟩
theorem cv_X0_31 : CVX RX0 31 RX1 yX1_fault cX1_fault 2 (some .int) 1 := ⟨Or.inl (lw_V q1030 q1031 q1032 q130 q1033), rfl, by decide +kernel, by decide +kernel, by decide +kernel⟩
theorem cv_X0_34 : CVX RX0 34 RX6 yX6_fault cX6_fault 2 (some .int) 1 := ⟨Or.inl (lw_V q1944 q1945 q1946 q138 q1947), rfl, by decide +kernel, by decide +kernel, by decide +kernel⟩
theorem cv_X0_35 : CVX RX0 35 RX1 yX1_named cX1_named 3 (some .int) 2 := ⟨Or.inl (lw_V q1034 q1035 q1036 q130 q1037), rfl, by decide +kernel, by decide +kernel, by decide +kernel⟩
theorem cv_X0_38 : CVX RX0 38 RX6 yX6_named cX6_named 3 (some .int) 2 := ⟨Or.inl (lw_V q1948 q1949 q1950 q138 q1951), rfl, by decide +kernel, by decide +kernel, by decide +kernel⟩
theorem cv_X0_44 : CVX RX0 44 RX6 yX6_look cX6_look 3 (some .int) 2 := ⟨Or.inl (lw_V q1952 q1953 q1954 q138 q1955), rfl, by decide +kernel, by decide +kernel, by decide +kernel⟩
theorem cv_X0_45 : CVX RX0 45 RX6 yX6_thrown cX6_thrown 1 (some .int) 0 := ⟨Or.inl (lw_V q1754 q1755 q1756 q138 q1757), rfl, by decide +kernel, by decide +kernel, by decide +kernel⟩
theorem cv_X0_49 : CVX RX0 49 RX1 yX1_length cX1_length 3 (some .long) 2 := ⟨Or.inl (lw_V q1039 q1040 q1041 q130 q1042), rfl, by decide +kernel, by decide +kernel, by decide +kernel⟩
theorem cv_X0_53 : CVX RX0 53 RX6 yX6_length cX6_length 3 (some .long) 2 := ⟨Or.inl (lw_V q1964 q1965 q1966 q138 q1967), rfl, by decide +kernel, by decide +kernel, by decide +kernel⟩
theorem cv_X0_56 : CVX RX0 56 RX1 yX1_date cX1_date 7 (some .long) 3 := ⟨Or.inl (lw_V q1060 q1061 q1062 q130 q1063), rfl, by decide +kernel, by decide +kernel, by decide +kernel⟩
theorem cv_X0_60 : CVX RX0 60 RX6 yX6_date cX6_date 5 (some .long) 3 := ⟨Or.inl (lw_V q1973 q1974 q1975 q138 q1976), rfl, by decide +kernel, by decide +kernel, by decide +kernel⟩
theorem cv_X0_61 : CVX RX0 61 RX1 yX1_count cX1_count 5 (some .long) 3 := ⟨Or.inl (lw_V q1079 q1080 q1081 q130 q1082), rfl, by decide +kernel, by decide +kernel, by decide +kernel⟩
theorem cv_X0_65 : CVX RX0 65 RX6 yX6_count cX6_count 5 (some .long) 3 := ⟨Or.inl (lw_V q1988 q1989 q1990 q138 q1991), rfl, by decide +kernel, by decide +kernel, by decide +kernel⟩
theorem cv_X0_66 : CVX RX0 66 RX1 yX1_round cX1_round 4 (some .int) 2 := ⟨Or.inl (lw_V q1089 q1090 q1091 q130 q1092), rfl, by decide +kernel, by decide +kernel, by decide +kernel⟩
theorem cv_X0_70 : CVX RX0 70 RX6 yX6_round cX6_round 4 (some .int) 2 := ⟨Or.inl (lw_V q1993 q1994 q1995 q138 q1996), rfl, by decide +kernel, by decide +kernel, by decide +kernel⟩
theorem cv_X0_71 : CVX RX0 71 RX1 yX1_feast cX1_feast 4 (some .int) 2 := ⟨Or.inl (lw_V q1107 q1108 q1109 q130 q1110), rfl, by decide +kernel, by decide +kernel, by decide +kernel⟩
theorem cv_X0_75 : CVX RX0 75 RX6 yX6_feast cX6_feast 4 (some .int) 2 := ⟨Or.inl (lw_V q2003 q2004 q2005 q138 q2006), rfl, by decide +kernel, by decide +kernel, by decide +kernel⟩
theorem cv_X0_76 : CVX RX0 76 RX1 yX1_festive cX1_festive 4 (some .long) 2 := ⟨Or.inl (lw_V q1173 q1174 q1175 q130 q1176), rfl, by decide +kernel, by decide +kernel, by decide +kernel⟩
theorem cv_X0_80 : CVX RX0 80 RX6 yX6_festive cX6_festive 4 (some .long) 2 := ⟨Or.inl (lw_V q2031 q2032 q2033 q138 q2034), rfl, by decide +kernel, by decide +kernel, by decide +kernel⟩
theorem cv_X0_81 : CVX RX0 81 RX1 yX1_rule cX1_rule 4 (some .long) 2 := ⟨Or.inl (lw_V q1183 q1184 q1185 q130 q1186), rfl, by decide +kernel, by decide +kernel, by decide +kernel⟩
theorem cv_X0_84 : CVX RX0 84 RX6 yX6_rule cX6_rule 6 (some .long) 2 := ⟨Or.inl (lw_V q2041 q2042 q2043 q138 q2044), rfl, by decide +kernel, by decide +kernel, by decide +kernel⟩
theorem cv_X0_85 : CVX RX0 85 RX1 yX1_life cX1_life 3 (some .long) 2 := ⟨Or.inl (lw_V q1187 q1188 q1189 q130 q1190), rfl, by decide +kernel, by decide +kernel, by decide +kernel⟩
theorem cv_X0_88 : CVX RX0 88 RX6 yX6_life cX6_life 3 (some .long) 2 := ⟨Or.inl (lw_V q2046 q2047 q2048 q138 q2049), rfl, by decide +kernel, by decide +kernel, by decide +kernel⟩
theorem cv_X0_89 : CVX RX0 89 RX1 yX1_age cX1_age 16 (some .long) 3 := ⟨Or.inl (lw_V q1196 q1197 q1198 q130 q1199), rfl, by decide +kernel, by decide +kernel, by decide +kernel⟩
theorem cv_X0_92 : CVX RX0 92 RX6 yX6_age cX6_age 16 (some .long) 3 := ⟨Or.inl (lw_V q2054 q2055 q2056 q138 q2057), rfl, by decide +kernel, by decide +kernel, by decide +kernel⟩
theorem cv_X0_93 : CVX RX0 93 RX1 yX1_elder cX1_elder 3 (some .int) 2 := ⟨Or.inl (lw_V q1209 q1210 q1211 q130 q1212), rfl, by decide +kernel, by decide +kernel, by decide +kernel⟩
theorem cv_X0_96 : CVX RX0 96 RX6 yX6_elder cX6_elder 3 (some .int) 2 := ⟨Or.inl (lw_V q2058 q2059 q2060 q138 q2061), rfl, by decide +kernel, by decide +kernel, by decide +kernel⟩
theorem cv_X0_97 : CVX RX0 97 RX1 yX1_often cX1_often 11 (some .long) 4 := ⟨Or.inl (lw_V q1213 q1214 q1215 q130 q1216), rfl, by decide +kernel, by decide +kernel, by decide +kernel⟩
theorem cv_X0_101 : CVX RX0 101 RX6 yX6_often cX6_often 16 (some .long) 4 := ⟨Or.inl (lw_V q2062 q2063 q2064 q138 q2065), rfl, by decide +kernel, by decide +kernel, by decide +kernel⟩
theorem cv_X0_102 : CVX RX0 102 RX1 yX1_springs cX1_springs 3 (some .long) 2 := ⟨Or.inl (lw_V q1223 q1224 q1225 q130 q1226), rfl, by decide +kernel, by decide +kernel, by decide +kernel⟩
theorem cv_X0_105 : CVX RX0 105 RX6 yX6_springs cX6_springs 3 (some .long) 2 := ⟨Or.inl (lw_V q2066 q2067 q2068 q138 q2069), rfl, by decide +kernel, by decide +kernel, by decide +kernel⟩
theorem cv_X0_106 : CVX RX0 106 RX1 yX1_many cX1_many 6 (some .int) 3 := ⟨Or.inl (lw_V q1242 q1243 q1244 q130 q1245), rfl, by decide +kernel, by decide +kernel, by decide +kernel⟩
theorem cv_X0_110 : CVX RX0 110 RX6 yX6_many cX6_many 6 (some .int) 3 := ⟨Or.inl (lw_V q2081 q2082 q2083 q138 q2084), rfl, by decide +kernel, by decide +kernel, by decide +kernel⟩
theorem cv_X0_111 : CVX RX0 111 RX1 yX1_next cX1_next 10 (some .long) 4 := ⟨Or.inl (lw_V q1248 q1249 q1250 q130 q1251), rfl, by decide +kernel, by decide +kernel, by decide +kernel⟩
theorem cv_X0_115 : CVX RX0 115 RX6 yX6_next cX6_next 9 (some .long) 4 := ⟨Or.inl (lw_V q2086 q2087 q2088 q138 q2089), rfl, by decide +kernel, by decide +kernel, by decide +kernel⟩
theorem cv_X0_116 : CVX RX0 116 RX1 yX1_alike cX1_alike 14 (some .long) 4 := ⟨Or.inl (lw_V q1254 q1255 q1256 q130 q1257), rfl, by decide +kernel, by decide +kernel, by decide +kernel⟩
theorem cv_X0_120 : CVX RX0 120 RX6 yX6_alike cX6_alike 12 (some .long) 4 := ⟨Or.inl (lw_V q2090 q2091 q2092 q138 q2093), rfl, by decide +kernel, by decide +kernel, by decide +kernel⟩
theorem cv_X0_121 : CVX RX0 121 RX1 yX1_deed cX1_deed 7 (some .long) 3 := ⟨Or.inl (lw_V q1258 q1259 q1260 q130 q1261), rfl, by decide +kernel, by decide +kernel, by decide +kernel⟩
theorem cv_X0_125 : CVX RX0 125 RX6 yX6_deed cX6_deed 6 (some .long) 3 := ⟨Or.inl (lw_V q2094 q2095 q2096 q138 q2097), rfl, by decide +kernel, by decide +kernel, by decide +kernel⟩
theorem cv_X0_126 : CVX RX0 126 RX1 yX1_ends cX1_ends 5 (some .int) 3 := ⟨Or.inl (lw_V q1290 q1291 q1292 q130 q1293), rfl, by decide +kernel, by decide +kernel, by decide +kernel⟩
theorem cv_X0_130 : CVX RX0 130 RX6 yX6_ends cX6_ends 5 (some .int) 3 := ⟨Or.inl (lw_V q2110 q2111 q2112 q138 q2113), rfl, by decide +kernel, by decide +kernel, by decide +kernel⟩
theorem cv_X0_131 : CVX RX0 131 RX1 yX1_hire cX1_hire 12 (some .long) 4 := ⟨Or.inl (lw_V q1294 q1295 q1296 q130 q1297), rfl, by decide +kernel, by decide +kernel, by decide +kernel⟩
theorem cv_X0_135 : CVX RX0 135 RX6 yX6_hire cX6_hire 14 (some .long) 4 := ⟨Or.inl (lw_V q2117 q2118 q2119 q138 q2120), rfl, by decide +kernel, by decide +kernel, by decide +kernel⟩
theorem cv_X0_136 : CVX RX0 136 RX1 yX1_parts cX1_parts 7 (some .int) 3 := ⟨Or.inl (lw_V q1300 q1301 q1302 q130 q1303), rfl, by decide +kernel, by decide +kernel, by decide +kernel⟩
theorem cv_X0_139 : CVX RX0 139 RX6 yX6_parts cX6_parts 7 (some .int) 3 := ⟨Or.inl (lw_V q2121 q2122 q2123 q138 q2124), rfl, by decide +kernel, by decide +kernel, by decide +kernel⟩
theorem cv_X0_140 : CVX RX0 140 RX1 yX1_months cX1_months 6 (some .int) 3 := ⟨Or.inl (lw_V q1304 q1305 q1306 q130 q1307), rfl, by decide +kernel, by decide +kernel, by decide +kernel⟩
theorem cv_X0_143 : CVX RX0 143 RX6 yX6_months cX6_months 6 (some .int) 3 := ⟨Or.inl (lw_V q2125 q2126 q2127 q138 q2128), rfl, by decide +kernel, by decide +kernel, by decide +kernel⟩
theorem cv_X0_144 : CVX RX0 144 RX1 yX1_note cX1_note 1 (some .int) 0 := ⟨Or.inl (lw_V q1308 q1309 q1310 q130 q1311), rfl, by decide +kernel, by decide +kernel, by decide +kernel⟩
theorem cv_X0_147 : CVX RX0 147 RX6 yX6_note cX6_note 2 (some .int) 0 := ⟨Or.inl (lw_V q2129 q2130 q2131 q138 q2132), rfl, by decide +kernel, by decide +kernel, by decide +kernel⟩
theorem cv_X0_148 : CVX RX0 148 RX1 yX1_says cX1_says 4 (some .boolean) 3 := ⟨Or.inl (lw_V q1312 q1313 q1314 q130 q1315), rfl, by decide +kernel, by decide +kernel, by decide +kernel⟩
theorem cv_X0_152 : CVX RX0 152 RX6 yX6_says cX6_says 5 (some .boolean) 3 := ⟨Or.inl (lw_V q2133 q2134 q2135 q138 q2136), rfl, by decide +kernel, by decide +kernel, by decide +kernel⟩
theorem cv_X0_153 : CVX RX0 153 RX1 yX1_undo cX1_undo 1 (some .int) 0 := ⟨Or.inl (lw_V q1325 q1326 q1327 q130 q1328), rfl, by decide +kernel, by decide +kernel, by decide +kernel⟩
theorem cv_X0_156 : CVX RX0 156 RX6 yX6_undo cX6_undo 1 (some .int) 0 := ⟨Or.inl (lw_V q2141 q2142 q2143 q138 q2144), rfl, by decide +kernel, by decide +kernel, by decide +kernel⟩
theorem cv_X0_157 : CVX RX0 157 RX1 yX1_alone cX1_alone 3 (some .int) 2 := ⟨Or.inl (lw_V q1330 q1331 q1332 q130 q1333), rfl, by decide +kernel, by decide +kernel, by decide +kernel⟩
theorem cv_X0_160 : CVX RX0 160 RX6 yX6_alone cX6_alone 4 (some .int) 2 := ⟨Or.inl (lw_V q2145 q2146 q2147 q138 q2148), rfl, by decide +kernel, by decide +kernel, by decide +kernel⟩
theorem cv_X0_161 : CVX RX0 161 RX1 yX1_fits cX1_fits 3 (some .int) 2 := ⟨Or.inl (lw_V q1368 q1369 q1370 q130 q1371), rfl, by decide +kernel, by decide +kernel, by decide +kernel⟩
theorem cv_X0_164 : CVX RX0 164 RX6 yX6_fits cX6_fits 4 (some .int) 2 := ⟨Or.inl (lw_V q2165 q2166 q2167 q138 q2168), rfl, by decide +kernel, by decide +kernel, by decide +kernel⟩
theorem cv_X0_165 : CVX RX0 165 RX1 yX1_gap cX1_gap 3 (some .int) 0 := ⟨Or.inl (lw_V q1384 q1385 q1386 q130 q1387), rfl, by decide +kernel, by decide +kernel, by decide +kernel⟩
theorem cv_X0_168 : CVX RX0 168 RX6 yX6_gap cX6_gap 3 (some .int) 0 := ⟨Or.inl (lw_V q2189 q2190 q2191 q138 q2192), rfl, by decide +kernel, by decide +kernel, by decide +kernel⟩
theorem cv_X0_169 : CVX RX0 169 RX1 yX1_told cX1_told 3 (some .int) 2 := ⟨Or.inl (lw_V q1398 q1399 q1400 q130 q1401), rfl, by decide +kernel, by decide +kernel, by decide +kernel⟩
theorem cv_X0_172 : CVX RX0 172 RX6 yX6_told cX6_told 3 (some .int) 2 := ⟨Or.inl (lw_V q2200 q2201 q2202 q138 q2203), rfl, by decide +kernel, by decide +kernel, by decide +kernel⟩
theorem cv_X0_173 : CVX RX0 173 RX1 yX1_judged cX1_judged 2 (some .int) 0 := ⟨Or.inl (lw_V q1402 q1403 q1404 q130 q1405), rfl, by decide +kernel, by decide +kernel, by decide +kernel⟩
theorem cv_X0_176 : CVX RX0 176 RX6 yX6_judged cX6_judged 2 (some .int) 0 := ⟨Or.inl (lw_V q2204 q2205 q2206 q138 q2207), rfl, by decide +kernel, by decide +kernel, by decide +kernel⟩
theorem cv_X0_177 : CVX RX0 177 RX1 yX1_forget cX1_forget 2 (some .int) 0 := ⟨Or.inl (lw_V q1410 q1411 q1412 q130 q1413), rfl, by decide +kernel, by decide +kernel, by decide +kernel⟩
theorem cv_X0_180 : CVX RX0 180 RX6 yX6_forget cX6_forget 2 (some .int) 0 := ⟨Or.inl (lw_V q2212 q2213 q2214 q138 q2215), rfl, by decide +kernel, by decide +kernel, by decide +kernel⟩
theorem cv_X0_181 : CVX RX0 181 RX1 yX1_keep cX1_keep 2 (some .int) 0 := ⟨Or.inl (lw_V q1414 q1415 q1416 q130 q1417), rfl, by decide +kernel, by decide +kernel, by decide +kernel⟩
theorem cv_X0_184 : CVX RX0 184 RX6 yX6_keep cX6_keep 2 (some .int) 0 := ⟨Or.inl (lw_V q2216 q2217 q2218 q138 q2219), rfl, by decide +kernel, by decide +kernel, by decide +kernel⟩
theorem cv_X0_185 : CVX RX0 185 RX1 yX1_back cX1_back 2 (some .int) 0 := ⟨Or.inl (lw_V q1418 q1419 q1420 q130 q1421), rfl, by decide +kernel, by decide +kernel, by decide +kernel⟩
theorem cv_X0_188 : CVX RX0 188 RX6 yX6_back cX6_back 2 (some .int) 0 := ⟨Or.inl (lw_V q2220 q2221 q2222 q138 q2223), rfl, by decide +kernel, by decide +kernel, by decide +kernel⟩
theorem cv_X0_189 : CVX RX0 189 RX1 yX1_size cX1_size 2 (some .int) 1 := ⟨Or.inl (lw_V q1422 q1423 q1424 q130 q1425), rfl, by decide +kernel, by decide +kernel, by decide +kernel⟩
theorem cv_X0_192 : CVX RX0 192 RX6 yX6_size cX6_size 2 (some .int) 1 := ⟨Or.inl (lw_V q2224 q2225 q2226 q138 q2227), rfl, by decide +kernel, by decide +kernel, by decide +kernel⟩
theorem cv_X6_113 : CVX RX6 113 RX6 yX6_plain cX6_plain 1 none 0 := ⟨Or.inl (lw_V q1511 q1513 qs57 q138 q1514), rfl, by decide +kernel, by decide +kernel, by decide +kernel⟩
theorem cv_X6_116 : CVX RX6 116 RX6 yX6_keepText cX6_keepText 1 none 0 := ⟨Or.inl (lw_V q1515 q1517 qs58 q138 q1518), rfl, by decide +kernel, by decide +kernel, by decide +kernel⟩
theorem cv_X6_142 : CVX RX6 142 RX6 yX6_isSmall cX6_isSmall 2 (some .boolean) 1 := ⟨Or.inl (lw_V q1770 q1772 qs60 q138 q1773), rfl, by decide +kernel, by decide +kernel, by decide +kernel⟩
theorem cv_X6_146 : CVX RX6 146 RX6 yX6_wordAt cX6_wordAt 8 (some .int) 2 := ⟨Or.inl (lw_V q1774 q1776 qs61 q138 q1777), rfl, by decide +kernel, by decide +kernel, by decide +kernel⟩
theorem cv_X6_153 : CVX RX6 153 RX6 yX6_packed cX6_packed 5 (some .int) 2 := ⟨Or.inl (lw_V q1778 q1780 qs62 q138 q1781), rfl, by decide +kernel, by decide +kernel, by decide +kernel⟩
theorem cv_X6_156 : CVX RX6 156 RX6 yX6_isDigit cX6_isDigit 2 (some .boolean) 1 := ⟨Or.inl (lw_V q1782 q1784 qs63 q138 q1785), rfl, by decide +kernel, by decide +kernel, by decide +kernel⟩
theorem cv_X6_160 : CVX RX6 160 RX6 yX6_signToken cX6_signToken 4 none 0 := ⟨Or.inl (lw_V q1787 q1789 qs64 q138 q1790), rfl, by decide +kernel, by decide +kernel, by decide +kernel⟩
theorem cv_X6_163 : CVX RX6 163 RX6 yX6_wrong cX6_wrong 2 (some .boolean) 1 := ⟨Or.inl (lw_V q1795 q1797 qs66 q138 q1798), rfl, by decide +kernel, by decide +kernel, by decide +kernel⟩
theorem cs_X6_166 : CSX RX6 166 yX6_isIn cX6_isIn 3 (some .boolean) 3 := ⟨Or.inl (lw_S q1814 q1815 q138 q1816), by decide +kernel, by decide +kernel, by decide +kernel⟩
theorem cv_X6_173 : CVX RX6 173 RX6 yX6_token cX6_token 1 none 0 := ⟨Or.inl (lw_V q1766 q1768 qs59 q138 q1769), rfl, by decide +kernel, by decide +kernel, by decide +kernel⟩
theorem cv_X6_176 : CVX RX6 176 RX6 yX6_isSign cX6_isSign 2 (some .boolean) 1 := ⟨Or.inl (lw_V q1821 q1823 qs71 q138 q1824), rfl, by decide +kernel, by decide +kernel, by decide +kernel⟩
theorem cv_X6_179 : CVX RX6 179 RX6 yX6_number cX6_number 3 (some .boolean) 2 := ⟨Or.inl (lw_V q1810 q1812 qs69 q138 q1813), rfl, by decide +kernel, by decide +kernel, by decide +kernel⟩
theorem cv_X6_183 : CVX RX6 183 RX6 yX6_isKey cX6_isKey 2 (some .boolean) 1 := ⟨Or.inl (lw_V q1825 q1827 qs72 q138 q1828), rfl, by decide +kernel, by decide +kernel, by decide +kernel⟩
theorem cs_X6_235 : CSX RX6 235 yX6_copies cX6_copies 3 none 2 := ⟨Or.inl (lw_S q1519 q1520 q138 q1521), by decide +kernel, by decide +kernel, by decide +kernel⟩
theorem cs_X6_239 : CSX RX6 239 yX6_copiesLong cX6_copiesLong 3 none 2 := ⟨Or.inl (lw_S q1522 q1523 q138 q1524), by decide +kernel, by decide +kernel, by decide +kernel⟩
theorem cs_X6_255 : CSX RX6 255 yX6_find cX6_find 5 (some .int) 4 := ⟨Or.inl (lw_S q1807 q1808 q138 q1809), by decide +kernel, by decide +kernel, by decide +kernel⟩
theorem cv_X6_259 : CVX RX6 259 RX6 yX6_newName cX6_newName 4 (some .boolean) 3 := ⟨Or.inl (lw_V q1803 q1805 qs68 q138 q1806), rfl, by decide +kernel, by decide +kernel, by decide +kernel⟩
theorem cv_X6_263 : CVX RX6 263 RX6 yX6_signed cX6_signed 3 (some .boolean) 1 := ⟨Or.inl (lw_V q1817 q1819 qs70 q138 q1820), rfl, by decide +kernel, by decide +kernel, by decide +kernel⟩
theorem cv_X6_266 : CVX RX6 266 RX6 yX6_roundRead cX6_roundRead 2 (some .boolean) 1 := ⟨Or.inl (lw_V q1932 q1934 qs96 q138 q1935), rfl, by decide +kernel, by decide +kernel, by decide +kernel⟩
theorem cv_X6_269 : CVX RX6 269 RX6 yX6_sumRead cX6_sumRead 1 (some .boolean) 0 := ⟨Or.inl (lw_V q1833 q1835 qs74 q138 q1836), rfl, by decide +kernel, by decide +kernel, by decide +kernel⟩
theorem cv_X6_275 : CVX RX6 275 RX6 yX6_countOf cX6_countOf 8 (some .long) 3 := ⟨Or.inl (lw_V q1881 q1883 qs85 q138 q1884), rfl, by decide +kernel, by decide +kernel, by decide +kernel⟩
theorem cv_X6_283 : CVX RX6 283 RX6 yX6_dateRead cX6_dateRead 5 (some .boolean) 1 := ⟨Or.inl (lw_V q1876 q1878 qs84 q138 q1879), rfl, by decide +kernel, by decide +kernel, by decide +kernel⟩
theorem cv_X6_287 : CVX RX6 287 RX6 yX6_oldName cX6_oldName 5 (some .boolean) 3 := ⟨Or.inl (lw_V q1905 q1907 qs90 q138 q1908), rfl, by decide +kernel, by decide +kernel, by decide +kernel⟩
theorem cv_X6_290 : CVX RX6 290 RX6 yX6_keyRead cX6_keyRead 2 (some .boolean) 1 := ⟨Or.inl (lw_V q1909 q1911 qs91 q138 q1912), rfl, by decide +kernel, by decide +kernel, by decide +kernel⟩
theorem cv_X6_293 : CVX RX6 293 RX6 yX6_noteWord cX6_noteWord 1 (some .int) 0 := ⟨Or.inl (lw_V q1917 q1919 qs93 q138 q1920), rfl, by decide +kernel, by decide +kernel, by decide +kernel⟩
theorem cs_X6_297 : CSX RX6 297 yX6_isOf cX6_isOf 2 (some .boolean) 2 := ⟨Or.inl (lw_S q1921 q1922 q138 q1923), by decide +kernel, by decide +kernel, by decide +kernel⟩
theorem cv_X6_300 : CVX RX6 300 RX6 yX6_saysRead cX6_saysRead 4 (some .boolean) 2 := ⟨Or.inl (lw_V q1924 q1926 qs94 q138 q1927), rfl, by decide +kernel, by decide +kernel, by decide +kernel⟩
theorem cv_X6_303 : CVX RX6 303 RX6 yX6_landLine cX6_landLine 2 (some .boolean) 0 := ⟨Or.inl (lw_V q1799 q1801 qs67 q138 q1802), rfl, by decide +kernel, by decide +kernel, by decide +kernel⟩
theorem cv_X6_306 : CVX RX6 306 RX6 yX6_feastLine cX6_feastLine 1 (some .boolean) 0 := ⟨Or.inl (lw_V q1829 q1831 qs73 q138 q1832), rfl, by decide +kernel, by decide +kernel, by decide +kernel⟩
theorem cv_X6_309 : CVX RX6 309 RX6 yX6_personLine cX6_personLine 1 (some .boolean) 0 := ⟨Or.inl (lw_V q1872 q1874 qs83 q138 q1875), rfl, by decide +kernel, by decide +kernel, by decide +kernel⟩
theorem cv_X6_312 : CVX RX6 312 RX6 yX6_deedLine cX6_deedLine 3 (some .boolean) 0 := ⟨Or.inl (lw_V q1901 q1903 qs89 q138 q1904), rfl, by decide +kernel, by decide +kernel, by decide +kernel⟩
theorem cv_X6_315 : CVX RX6 315 RX6 yX6_noteLine cX6_noteLine 3 (some .boolean) 0 := ⟨Or.inl (lw_V q1913 q1915 qs92 q138 q1916), rfl, by decide +kernel, by decide +kernel, by decide +kernel⟩
theorem cv_X6_318 : CVX RX6 318 RX6 yX6_sunLine cX6_sunLine 1 (some .boolean) 0 := ⟨Or.inl (lw_V q1928 q1930 qs95 q138 q1931), rfl, by decide +kernel, by decide +kernel, by decide +kernel⟩
theorem cv_X6_321 : CVX RX6 321 RX6 yX6_weekLine cX6_weekLine 1 (some .boolean) 0 := ⟨Or.inl (lw_V q1936 q1938 qs97 q138 q1939), rfl, by decide +kernel, by decide +kernel, by decide +kernel⟩
theorem cv_X6_324 : CVX RX6 324 RX6 yX6_moonLine cX6_moonLine 1 (some .boolean) 0 := ⟨Or.inl (lw_V q1940 q1942 qs98 q138 q1943), rfl, by decide +kernel, by decide +kernel, by decide +kernel⟩
theorem cv_X6_327 : CVX RX6 327 RX6 yX6_lineRead cX6_lineRead 2 (some .boolean) 0 := ⟨Or.inl (lw_V q1791 q1793 qs65 q138 q1794), rfl, by decide +kernel, by decide +kernel, by decide +kernel⟩
theorem cs_X6_336 : CSX RX6 336 yX6_rank cX6_rank 1 (some .int) 1 := ⟨Or.inl (lw_S q1865 q1866 q138 q1867), by decide +kernel, by decide +kernel, by decide +kernel⟩
theorem cv_X6_340 : CVX RX6 340 RX6 yX6_dropHeld cX6_dropHeld 1 (some .int) 0 := ⟨Or.inl (lw_V q1868 q1870 qs82 q138 q1871), rfl, by decide +kernel, by decide +kernel, by decide +kernel⟩
theorem cv_X6_343 : CVX RX6 343 RX6 yX6_grown cX6_grown 4 none 3 := ⟨Or.inl (lw_V q1853 q1855 qs79 q138 q1856), rfl, by decide +kernel, by decide +kernel, by decide +kernel⟩
theorem cv_X6_350 : CVX RX6 350 RX6 yX6_waitsFor cX6_waitsFor 2 none 1 := ⟨Or.inl (lw_V q1841 q1843 qs76 q138 q1844), rfl, by decide +kernel, by decide +kernel, by decide +kernel⟩
theorem cv_X6_357 : CVX RX6 357 RX6 yX6_isCounted cX6_isCounted 1 (some .boolean) 0 := ⟨Or.inl (lw_V q1845 q1847 qs77 q138 q1848), rfl, by decide +kernel, by decide +kernel, by decide +kernel⟩
theorem cv_X6_360 : CVX RX6 360 RX6 yX6_nameMet cX6_nameMet 1 (some .int) 0 := ⟨Or.inl (lw_V q1849 q1851 qs78 q138 q1852), rfl, by decide +kernel, by decide +kernel, by decide +kernel⟩
theorem cv_X6_366 : CVX RX6 366 RX6 yX6_bind cX6_bind 5 none 1 := ⟨Or.inl (lw_V q1861 q1863 qs81 q138 q1864), rfl, by decide +kernel, by decide +kernel, by decide +kernel⟩
theorem cv_X6_369 : CVX RX6 369 RX6 yX6_leafRead cX6_leafRead 2 (some .boolean) 0 := ⟨Or.inl (lw_V q1837 q1839 qs75 q138 q1840), rfl, by decide +kernel, by decide +kernel, by decide +kernel⟩
theorem cv_X6_372 : CVX RX6 372 RX6 yX6_signs cX6_signs 2 (some .boolean) 0 := ⟨Or.inl (lw_V q1857 q1859 qs80 q138 q1860), rfl, by decide +kernel, by decide +kernel, by decide +kernel⟩
theorem cv_X6_375 : CVX RX6 375 RX6 yX6_lengthOf cX6_lengthOf 4 (some .long) 2 := ⟨Or.inl (lw_V q1889 q1891 qs87 q138 q1892), rfl, by decide +kernel, by decide +kernel, by decide +kernel⟩
theorem cv_X6_385 : CVX RX6 385 RX6 yX6_isYear cX6_isYear 4 (some .boolean) 2 := ⟨Or.inl (lw_V q1885 q1887 qs86 q138 q1888), rfl, by decide +kernel, by decide +kernel, by decide +kernel⟩
theorem cv_X6_389 : CVX RX6 389 RX6 yX6_beginOf cX6_beginOf 6 (some .long) 2 := ⟨Or.inl (lw_V q1893 q1895 qs88 q138 q1896), rfl, by decide +kernel, by decide +kernel, by decide +kernel⟩
theorem cv_X6_392 : CVX RX6 392 RX6 yX6_endYear cX6_endYear 2 (some .long) 1 := ⟨Or.inl (lw_V q1984 q1986 qs103 q138 q1987), rfl, by decide +kernel, by decide +kernel, by decide +kernel⟩
theorem cv_X6_404 : CVX RX6 404 RX6 yX6_isLand cX6_isLand 2 (some .boolean) 1 := ⟨Or.inl (lw_V q1956 q1958 qs99 q138 q1959), rfl, by decide +kernel, by decide +kernel, by decide +kernel⟩
theorem cv_X6_407 : CVX RX6 407 RX6 yX6_fails cX6_fails 2 (some .int) 1 := ⟨Or.inl (lw_V q1960 q1962 qs100 q138 q1963), rfl, by decide +kernel, by decide +kernel, by decide +kernel⟩
theorem cv_X6_410 : CVX RX6 410 RX6 yX6_isAsked cX6_isAsked 4 (some .boolean) 2 := ⟨Or.inl (lw_V q1968 q1970 qs101 q138 q1971), rfl, by decide +kernel, by decide +kernel, by decide +kernel⟩
theorem cs_X6_413 : CSX RX6 413 yX6_isCount cX6_isCount 2 (some .boolean) 1 := ⟨Or.inl (lw_S q1977 q1978 q138 q1979), by decide +kernel, by decide +kernel, by decide +kernel⟩
theorem cv_X6_416 : CVX RX6 416 RX6 yX6_date1 cX6_date1 12 (some .boolean) 2 := ⟨Or.inl (lw_V q1980 q1982 qs102 q138 q1983), rfl, by decide +kernel, by decide +kernel, by decide +kernel⟩
theorem cv_X6_424 : CVX RX6 424 RX6 yX6_roundOf cX6_roundOf 4 (some .int) 2 := ⟨Or.inl (lw_V q1997 q1999 qs104 q138 q2000), rfl, by decide +kernel, by decide +kernel, by decide +kernel⟩
theorem cv_X6_433 : CVX RX6 433 RX6 yX6_bounded cX6_bounded 3 (some .long) 1 := ⟨Or.inl (lw_V q2019 q2021 qs108 q138 q2022), rfl, by decide +kernel, by decide +kernel, by decide +kernel⟩
theorem cv_X6_437 : CVX RX6 437 RX6 yX6_times cX6_times 6 (some .long) 2 := ⟨Or.inl (lw_V q2024 q2026 qs109 q138 q2027), rfl, by decide +kernel, by decide +kernel, by decide +kernel⟩
theorem cs_X6_441 : CSX RX6 441 yX6_compares cX6_compares 5 (some .boolean) 3 := ⟨Or.inl (lw_S q2028 q2029 q138 q2030), by decide +kernel, by decide +kernel, by decide +kernel⟩
theorem cv_X6_445 : CVX RX6 445 RX6 yX6_valueOf cX6_valueOf 6 (some .long) 1 := ⟨Or.inl (lw_V q2015 q2017 qs107 q138 q2018), rfl, by decide +kernel, by decide +kernel, by decide +kernel⟩
theorem cv_X6_448 : CVX RX6 448 RX6 yX6_isFeast cX6_isFeast 2 (some .boolean) 1 := ⟨Or.inl (lw_V q2007 q2009 qs105 q138 q2010), rfl, by decide +kernel, by decide +kernel, by decide +kernel⟩
theorem cv_X6_451 : CVX RX6 451 RX6 yX6_sumOf cX6_sumOf 6 (some .long) 2 := ⟨Or.inl (lw_V q2011 q2013 qs106 q138 q2014), rfl, by decide +kernel, by decide +kernel, by decide +kernel⟩
theorem cv_X6_458 : CVX RX6 458 RX6 yX6_festiveOf cX6_festiveOf 6 (some .long) 2 := ⟨Or.inl (lw_V q2035 q2037 qs110 q138 q2038), rfl, by decide +kernel, by decide +kernel, by decide +kernel⟩
theorem cv_X6_463 : CVX RX6 463 RX6 yX6_isPerson cX6_isPerson 2 (some .boolean) 1 := ⟨Or.inl (lw_V q2050 q2052 qs111 q138 q2053), rfl, by decide +kernel, by decide +kernel, by decide +kernel⟩
theorem cs_X6_466 : CSX RX6 466 yX6_floor cX6_floor 4 (some .long) 2 := ⟨Or.inl (lw_S q2078 q2079 q138 q2080), by decide +kernel, by decide +kernel, by decide +kernel⟩
theorem cv_X6_469 : CVX RX6 469 RX6 yX6_begins cX6_begins 4 (some .boolean) 2 := ⟨Or.inl (lw_V q2070 q2072 qs112 q138 q2073), rfl, by decide +kernel, by decide +kernel, by decide +kernel⟩
theorem cv_X6_472 : CVX RX6 472 RX6 yX6_springsOf cX6_springsOf 8 (some .long) 2 := ⟨Or.inl (lw_V q2074 q2076 qs113 q138 q2077), rfl, by decide +kernel, by decide +kernel, by decide +kernel⟩
theorem cv_X6_477 : CVX RX6 477 RX6 yX6_yearsLater cX6_yearsLater 6 (some .long) 3 := ⟨Or.inl (lw_V q2102 q2104 qs115 q138 q2105), rfl, by decide +kernel, by decide +kernel, by decide +kernel⟩
theorem cv_X6_480 : CVX RX6 480 RX6 yX6_dueOf cX6_dueOf 4 (some .long) 2 := ⟨Or.inl (lw_V q2098 q2100 qs114 q138 q2101), rfl, by decide +kernel, by decide +kernel, by decide +kernel⟩
theorem cv_X6_484 : CVX RX6 484 RX6 yX6_endedBy cX6_endedBy 4 (some .long) 2 := ⟨Or.inl (lw_V q2106 q2108 qs116 q138 q2109), rfl, by decide +kernel, by decide +kernel, by decide +kernel⟩
theorem cs_X6_487 : CSX RX6 487 yX6_isDays cX6_isDays 1 (some .boolean) 1 := ⟨Or.inl (lw_S q2114 q2115 q138 q2116), by decide +kernel, by decide +kernel, by decide +kernel⟩
theorem cv_X6_490 : CVX RX6 490 RX6 yX6_canSay cX6_canSay 5 (some .boolean) 4 := ⟨Or.inl (lw_V q2137 q2139 qs117 q138 q2140), rfl, by decide +kernel, by decide +kernel, by decide +kernel⟩
theorem cv_X6_494 : CVX RX6 494 RX6 yX6_canBe cX6_canBe 5 (some .boolean) 2 := ⟨Or.inl (lw_V q2157 q2159 qs120 q138 q2160), rfl, by decide +kernel, by decide +kernel, by decide +kernel⟩
theorem cv_X6_506 : CVX RX6 506 RX6 yX6_isNote cX6_isNote 2 (some .boolean) 1 := ⟨Or.inl (lw_V q2149 q2151 qs118 q138 q2152), rfl, by decide +kernel, by decide +kernel, by decide +kernel⟩
theorem cv_X6_509 : CVX RX6 509 RX6 yX6_layCan cX6_layCan 3 none 1 := ⟨Or.inl (lw_V q2153 q2155 qs119 q138 q2156), rfl, by decide +kernel, by decide +kernel, by decide +kernel⟩
theorem cv_X6_512 : CVX RX6 512 RX6 yX6_told3 cX6_told3 2 (some .int) 1 := ⟨Or.inl (lw_V q2161 q2163 qs121 q138 q2164), rfl, by decide +kernel, by decide +kernel, by decide +kernel⟩
theorem cv_X6_515 : CVX RX6 515 RX6 yX6_allCan cX6_allCan 6 (some .boolean) 3 := ⟨Or.inl (lw_V q2185 q2187 qs126 q138 q2188), rfl, by decide +kernel, by decide +kernel, by decide +kernel⟩
theorem cv_X6_518 : CVX RX6 518 RX6 yX6_layAllCan cX6_layAllCan 2 none 0 := ⟨Or.inl (lw_V q2169 q2171 qs122 q138 q2172), rfl, by decide +kernel, by decide +kernel, by decide +kernel⟩
theorem cv_X6_521 : CVX RX6 521 RX6 yX6_allNotes cX6_allNotes 1 (some .int) 0 := ⟨Or.inl (lw_V q2173 q2175 qs123 q138 q2176), rfl, by decide +kernel, by decide +kernel, by decide +kernel⟩
theorem cv_X6_524 : CVX RX6 524 RX6 yX6_layRoots cX6_layRoots 5 none 1 := ⟨Or.inl (lw_V q2177 q2179 qs124 q138 q2180), rfl, by decide +kernel, by decide +kernel, by decide +kernel⟩
theorem cv_X6_527 : CVX RX6 527 RX6 yX6_layRoot cX6_layRoot 5 none 3 := ⟨Or.inl (lw_V q2181 q2183 qs125 q138 q2184), rfl, by decide +kernel, by decide +kernel, by decide +kernel⟩
theorem cs_X6_531 : CSX RX6 531 yX6_manyOf cX6_manyOf 3 (some .int) 1 := ⟨Or.inl (lw_S q2193 q2194 q138 q2195), by decide +kernel, by decide +kernel, by decide +kernel⟩
theorem cv_X6_534 : CVX RX6 534 RX6 yX6_isGap cX6_isGap 4 (some .boolean) 1 := ⟨Or.inl (lw_V q2196 q2198 qs127 q138 q2199), rfl, by decide +kernel, by decide +kernel, by decide +kernel⟩
theorem cv_X6_537 : CVX RX6 537 RX6 yX6_isSo cX6_isSo 5 (some .boolean) 1 := ⟨Or.inl (lw_V q2208 q2210 qs128 q138 q2211), rfl, by decide +kernel, by decide +kernel, by decide +kernel⟩
theorem cv_J3_335 : CVX RJ3 335 RJ3 yJ3_coder cJ3_coder 1 (some .byte) 0 := ⟨Or.inl (lw_V q467 q468 q469 q139 q470), rfl, by decide +kernel, by decide +kernel, by decide +kernel⟩
theorem cv_J3_492 : CVX RJ3 492 RJ3 yJ3_isLatin1 cJ3_isLatin1 1 (some .boolean) 0 := ⟨Or.inl (lw_V q477 q478 q479 q139 q480), rfl, by decide +kernel, by decide +kernel, by decide +kernel⟩
theorem cs_J3_495 : CSX RJ3 495 yJ4_charAt cJ4_charAt 2 (some .char) 2 := ⟨Or.inl (lw_S q481 q482 q140 q483), by decide +kernel, by decide +kernel, by decide +kernel⟩
theorem cs_J3_498 : CSX RJ3 498 yJ6_charAt cJ6_charAt 2 (some .char) 2 := ⟨Or.inl (lw_S q492 q493 q142 q494), by decide +kernel, by decide +kernel, by decide +kernel⟩
theorem cv_J3_505 : CVX RJ3 505 RJ3 yJ3_length cJ3_length 1 (some .int) 0 := ⟨Or.inl (lw_V q531 q464 q465 q139 q466), rfl, by decide +kernel, by decide +kernel, by decide +kernel⟩
theorem cv_J3_633 : CVX RJ3 633 RJ3 yJ3_indexOf_2 cJ3_indexOf_2 3 (some .int) 2 := ⟨Or.inl (lw_V q527 q528 q529 q139 q530), rfl, by decide +kernel, by decide +kernel, by decide +kernel⟩
theorem cs_J3_637 : CSX RJ3 637 yJ4_indexOf cJ4_indexOf 4 (some .int) 4 := ⟨Or.inl (lw_S q532 q533 q140 q534), by decide +kernel, by decide +kernel, by decide +kernel⟩
theorem cs_J3_640 : CSX RJ3 640 yJ6_indexOf cJ6_indexOf 4 (some .int) 4 := ⟨Or.inl (lw_S q547 q548 q142 q549), by decide +kernel, by decide +kernel, by decide +kernel⟩
theorem cs_J3_1059 : CSX RJ3 1059 yJ5_checkIndex cJ5_checkIndex 3 (some .int) 3 := ⟨Or.inl (lw_S q489 q490 q141 q491), by decide +kernel, by decide +kernel, by decide +kernel⟩
theorem cs_J3_1062 : CSX RJ3 1062 yJ5_checkFromToIndex cJ5_checkFromToIndex 4 (some .int) 4 := ⟨Or.inl (lw_S q562 q563 q141 q564), by decide +kernel, by decide +kernel, by decide +kernel⟩
theorem cs_J4_9 : CSX RJ4 9 yJ3_checkIndex cJ3_checkIndex 2 none 2 := ⟨Or.inl (lw_S q484 q485 q139 q486), by decide +kernel, by decide +kernel, by decide +kernel⟩
theorem cs_J4_38 : CSX RJ4 38 yJ7_min cJ7_min 2 (some .int) 2 := ⟨Or.inl (lw_S q541 q542 q143 q543), by decide +kernel, by decide +kernel, by decide +kernel⟩
theorem cs_J4_88 : CSX RJ4 88 yJ4_canEncode cJ4_canEncode 1 (some .boolean) 1 := ⟨Or.inl (lw_S q535 q536 q140 q537), by decide +kernel, by decide +kernel, by decide +kernel⟩
theorem cs_J4_92 : CSX RJ4 92 yJ7_max cJ7_max 2 (some .int) 2 := ⟨Or.inl (lw_S q538 q539 q143 q540), by decide +kernel, by decide +kernel, by decide +kernel⟩
theorem cs_J4_95 : CSX RJ4 95 yJ4_indexOfChar cJ4_indexOfChar 6 (some .int) 4 := ⟨Or.inl (lw_S q544 q545 q140 q546), by decide +kernel, by decide +kernel, by decide +kernel⟩
theorem cs_J6_48 : CSX RJ6 48 yJ6_length cJ6_length 1 (some .int) 1 := ⟨Or.inl (lw_S q498 q499 q142 q500), by decide +kernel, by decide +kernel, by decide +kernel⟩
theorem cs_J6_67 : CSX RJ6 67 yJ6_checkIndex cJ6_checkIndex 2 none 2 := ⟨Or.inl (lw_S q495 q496 q142 q497), by decide +kernel, by decide +kernel, by decide +kernel⟩
theorem cs_J6_71 : CSX RJ6 71 yJ6_getChar cJ6_getChar 2 (some .char) 2 := ⟨Or.inl (lw_S q502 q503 q142 q504), by decide +kernel, by decide +kernel, by decide +kernel⟩
theorem cs_J6_96 : CSX RJ6 96 yJ6_checkBoundsBeginEnd cJ6_checkBoundsBeginEnd 3 none 3 := ⟨Or.inl (lw_S q556 q557 q142 q558), by decide +kernel, by decide +kernel, by decide +kernel⟩
theorem cs_J6_157 : CSX RJ6 157 yJ8_highSurrogate cJ8_highSurrogate 1 (some .char) 1 := ⟨Or.inl (lw_S q574 q575 q144 q576), by decide +kernel, by decide +kernel, by decide +kernel⟩
theorem cs_J6_161 : CSX RJ6 161 yJ8_lowSurrogate cJ8_lowSurrogate 1 (some .char) 1 := ⟨Or.inl (lw_S q578 q579 q144 q580), by decide +kernel, by decide +kernel, by decide +kernel⟩
theorem cs_J6_164 : CSX RJ6 164 yJ8_isValidCodePoint cJ8_isValidCodePoint 2 (some .boolean) 1 := ⟨Or.inl (lw_S q571 q572 q144 q573), by decide +kernel, by decide +kernel, by decide +kernel⟩
theorem cs_J6_183 : CSX RJ6 183 yJ7_min cJ7_min 2 (some .int) 2 := ⟨Or.inl (lw_S q551 q542 q143 q543), by decide +kernel, by decide +kernel, by decide +kernel⟩
theorem cs_J6_224 : CSX RJ6 224 yJ7_max cJ7_max 2 (some .int) 2 := ⟨Or.inl (lw_S q550 q539 q143 q540), by decide +kernel, by decide +kernel, by decide +kernel⟩
theorem cs_J6_228 : CSX RJ6 228 yJ6_indexOfChar cJ6_indexOfChar 4 (some .int) 4 := ⟨Or.inl (lw_S q553 q554 q142 q555), by decide +kernel, by decide +kernel, by decide +kernel⟩
theorem cs_J6_232 : CSX RJ6 232 yJ6_indexOfSupplementary cJ6_indexOfSupplementary 7 (some .int) 4 := ⟨Or.inl (lw_S q568 q569 q142 q570), by decide +kernel, by decide +kernel, by decide +kernel⟩
theorem cs_J6_241 : CSX RJ6 241 yJ3_checkBoundsBeginEnd cJ3_checkBoundsBeginEnd 3 none 3 := ⟨Or.inl (lw_S q559 q560 q139 q561), by decide +kernel, by decide +kernel, by decide +kernel⟩
theorem cs_J6_244 : CSX RJ6 244 yJ6_indexOfCharUnsafe cJ6_indexOfCharUnsafe 5 (some .int) 4 := ⟨Or.inl (lw_S q565 q566 q142 q567), by decide +kernel, by decide +kernel, by decide +kernel⟩
theorem cs_J6_414 : CSX RJ6 414 yJ3_checkIndex cJ3_checkIndex 2 none 2 := ⟨Or.inl (lw_S q501 q485 q139 q486), by decide +kernel, by decide +kernel, by decide +kernel⟩
theorem cs_J2_66 : CSX RJ2 66 yJ13_copyOf cJ13_copyOf 2 (some (.array (.object "java/lang/Object"))) 2 := ⟨Or.inl (lw_S q753 q754 q151 q755), by decide +kernel, by decide +kernel, by decide +kernel⟩
theorem cv_J2_69 : CVX RJ2 69 RJ2 yJ2_grow_2 cJ2_grow_2 4 (some (.array (.object "java/lang/Object"))) 1 := ⟨Or.inl (lw_V q739 q741 qs17 q135 q742), rfl, by decide +kernel, by decide +kernel, by decide +kernel⟩
theorem cs_J2_73 : CSX RJ2 73 yJ12_newLength cJ12_newLength 4 (some .int) 3 := ⟨Or.inl (lw_S q745 q746 q150 q747), by decide +kernel, by decide +kernel, by decide +kernel⟩
theorem cs_J2_79 : CSX RJ2 79 yJ7_max cJ7_max 2 (some .int) 2 := ⟨Or.inl (lw_S q790 q539 q143 q540), by decide +kernel, by decide +kernel, by decide +kernel⟩
theorem cs_J2_118 : CSX RJ2 118 yJ11_checkIndex cJ11_checkIndex 2 (some .int) 2 := ⟨Or.inl (lw_S q687 q688 q149 q689), by decide +kernel, by decide +kernel, by decide +kernel⟩
theorem cv_J2_123 : CVX RJ2 123 RJ2 yJ2_elementData cJ2_elementData 2 (some (.object "java/lang/Object")) 1 := ⟨Or.inl (lw_V q691 q692 q693 q135 q694), rfl, by decide +kernel, by decide +kernel, by decide +kernel⟩
theorem cv_J2_129 : CVX RJ2 129 RJ2 yJ2_grow cJ2_grow 1 (some (.array (.object "java/lang/Object"))) 0 := ⟨Or.inl (lw_V q735 q737 qs16 q135 q738), rfl, by decide +kernel, by decide +kernel, by decide +kernel⟩
theorem cv_J2_131 : CVX RJ2 131 RJ2 yJ2_add_2 cJ2_add_2 4 none 3 := ⟨Or.inl (lw_V q731 q733 qs15 q135 q734), rfl, by decide +kernel, by decide +kernel, by decide +kernel⟩
theorem cs_J13_300 : CSX RJ13 300 yJ13_copyOf_2 cJ13_copyOf_2 4 (some (.array (.object "java/lang/Object"))) 3 := ⟨Or.inl (lw_S q781 q782 q151 q783), by decide +kernel, by decide +kernel, by decide +kernel⟩
theorem cs_J13_304 : CSX RJ13 304 yJ7_min cJ7_min 2 (some .int) 2 := ⟨Or.inl (lw_S q786 q542 q143 q543), by decide +kernel, by decide +kernel, by decide +kernel⟩
theorem cs_J11_105 : CSX RJ11 105 yJ5_checkIndex cJ5_checkIndex 3 (some .int) 3 := ⟨Or.inl (lw_S q690 q490 q141 q491), by decide +kernel, by decide +kernel, by decide +kernel⟩
theorem cs_J12_194 : CSX RJ12 194 yJ7_max cJ7_max 2 (some .int) 2 := ⟨Or.inl (lw_S q748 q539 q143 q540), by decide +kernel, by decide +kernel, by decide +kernel⟩
theorem cs_J12_201 : CSX RJ12 201 yJ12_hugeLength cJ12_hugeLength 3 (some .int) 2 := ⟨Or.inl (lw_S q750 q751 q150 q752), by decide +kernel, by decide +kernel, by decide +kernel⟩
theorem cv_X12_17 : CVX RX12 17 RX1 yX1_firstFeast cX1_firstFeast 6 (some .long) 2 := ⟨Or.inr ⟨"LongYears", q1271, q1179, qs40, q130, q1180⟩, rfl, by decide +kernel, by decide +kernel, by decide +kernel⟩
theorem cs_X16_13 : CSX RX16 13 yX1_sure cX1_sure 2 (some .long) 1 := ⟨Or.inr ⟨"LongYears", q1140, q1141, q130, q1142⟩, by decide +kernel, by decide +kernel, by decide +kernel⟩
theorem cs_X2_40 : CSX RX2 40 yX1_in cX1_in 6 (some .boolean) 3 := ⟨Or.inr ⟨"LongYears", q456, q438, q130, q439⟩, by decide +kernel, by decide +kernel, by decide +kernel⟩
theorem cs_X18_28 : CSX RX18 28 yX1_sure cX1_sure 2 (some .long) 1 := ⟨Or.inr ⟨"LongYears", q1155, q1141, q130, q1142⟩, by decide +kernel, by decide +kernel, by decide +kernel⟩
