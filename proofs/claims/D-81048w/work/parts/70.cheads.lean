theorem pl_J0 : plainName RJ0 = true := by decide
theorem pl_J1 : plainName RJ1 = true := by decide
theorem pl_J13 : plainName RJ13 = true := by decide
theorem pl_J14 : plainName RJ14 = true := by decide
theorem pl_J15 : plainName RJ15 = true := by decide
theorem pl_J16 : plainName RJ16 = true := by decide
theorem pl_J2 : plainName RJ2 = true := by decide
theorem pl_J3 : plainName RJ3 = true := by decide
theorem pl_J5 : plainName RJ5 = true := by decide
theorem pl_J8 : plainName RJ8 = true := by decide
theorem pl_X0 : plainName RX0 = true := by decide
theorem pl_X1 : plainName RX1 = true := by decide
theorem pl_X10 : plainName RX10 = true := by decide
theorem pl_X11 : plainName RX11 = true := by decide
theorem pl_X12 : plainName RX12 = true := by decide
theorem pl_X13 : plainName RX13 = true := by decide
theorem pl_X14 : plainName RX14 = true := by decide
theorem pl_X15 : plainName RX15 = true := by decide
theorem pl_X16 : plainName RX16 = true := by decide
theorem pl_X17 : plainName RX17 = true := by decide
theorem pl_X18 : plainName RX18 = true := by decide
theorem pl_X19 : plainName RX19 = true := by decide
theorem pl_X2 : plainName RX2 = true := by decide
theorem pl_X20 : plainName RX20 = true := by decide
theorem pl_X21 : plainName RX21 = true := by decide
theorem pl_X22 : plainName RX22 = true := by decide
theorem pl_X23 : plainName RX23 = true := by decide
theorem pl_X24 : plainName RX24 = true := by decide
theorem pl_X25 : plainName RX25 = true := by decide
theorem pl_X26 : plainName RX26 = true := by decide
theorem pl_X27 : plainName RX27 = true := by decide
theorem pl_X3 : plainName RX3 = true := by decide
theorem pl_X4 : plainName RX4 = true := by decide
theorem pl_X6 : plainName RX6 = true := by decide
theorem pl_X7 : plainName RX7 = true := by decide
theorem pl_X8 : plainName RX8 = true := by decide
theorem pl_X9 : plainName RX9 = true := by decide
theorem zok_Cond : zOk "CoverHouse$Cond" [12, 13, 14, 15, 16] := List.forall_mem_cons.mpr ⟨⟨11, _, _, _, _, rfl, zcl_11, Or.inr q2688⟩, List.forall_mem_cons.mpr ⟨⟨12, _, _, _, _, rfl, zcl_12, Or.inr q2686⟩, List.forall_mem_cons.mpr ⟨⟨13, _, _, _, _, rfl, zcl_13, Or.inr q2684⟩, List.forall_mem_cons.mpr ⟨⟨14, _, _, _, _, rfl, zcl_14, Or.inr q2687⟩, List.forall_mem_cons.mpr ⟨⟨15, _, _, _, _, rfl, zcl_15, Or.inr q2685⟩, fun _ h => by cases h⟩⟩⟩⟩⟩
theorem zok_Starts : zOk "CoverHouse$Starts" [5] := List.forall_mem_cons.mpr ⟨⟨4, _, _, _, _, rfl, zcl_4, Or.inl rfl⟩, fun _ h => by cases h⟩
theorem zok_Clause : zOk "CoverHouse$Clause" [17] := List.forall_mem_cons.mpr ⟨⟨16, _, _, _, _, rfl, zcl_16, Or.inl rfl⟩, fun _ h => by cases h⟩
theorem zok_PriceRow : zOk "CoverHouse$PriceRow" [18] := List.forall_mem_cons.mpr ⟨⟨17, _, _, _, _, rfl, zcl_17, Or.inl rfl⟩, fun _ h => by cases h⟩
theorem zok_Fact : zOk "CoverHouse$Fact" [10] := List.forall_mem_cons.mpr ⟨⟨9, _, _, _, _, rfl, zcl_9, Or.inl rfl⟩, fun _ h => by cases h⟩
theorem zok_Long : zOk "java/lang/Long" [29] := List.forall_mem_cons.mpr ⟨⟨28, _, _, _, _, rfl, zcl_28, Or.inl rfl⟩, fun _ h => by cases h⟩
theorem zok_Wording : zOk "CoverHouse$Wording" [7] := List.forall_mem_cons.mpr ⟨⟨6, _, _, _, _, rfl, zcl_6, Or.inl rfl⟩, fun _ h => by cases h⟩
theorem zok_Event : zOk "CoverHouse$Event" [19] := List.forall_mem_cons.mpr ⟨⟨18, _, _, _, _, rfl, zcl_18, Or.inl rfl⟩, fun _ h => by cases h⟩
theorem zok_Known : zOk "CoverHouse$Known" [20] := List.forall_mem_cons.mpr ⟨⟨19, _, _, _, _, rfl, zcl_19, Or.inl rfl⟩, fun _ h => by cases h⟩
theorem zok_Policy : zOk "CoverHouse$Policy" [21] := List.forall_mem_cons.mpr ⟨⟨20, _, _, _, _, rfl, zcl_20, Or.inl rfl⟩, fun _ h => by cases h⟩
theorem zok_Claim : zOk "CoverHouse$Claim" [22] := List.forall_mem_cons.mpr ⟨⟨21, _, _, _, _, rfl, zcl_21, Or.inl rfl⟩, fun _ h => by cases h⟩
theorem zok_Object : zOk "java/lang/Object" OT := List.forall_mem_cons.mpr ⟨⟨0, _, _, _, _, rfl, zcl_0, Or.inr q2689⟩, List.forall_mem_cons.mpr ⟨⟨1, _, _, _, _, rfl, zcl_1, Or.inr q2691⟩, List.forall_mem_cons.mpr ⟨⟨2, _, _, _, _, rfl, zcl_2, Or.inr q2692⟩, List.forall_mem_cons.mpr ⟨⟨3, _, _, _, _, rfl, zcl_3, Or.inr q2693⟩, List.forall_mem_cons.mpr ⟨⟨4, _, _, _, _, rfl, zcl_4, Or.inr q2694⟩, List.forall_mem_cons.mpr ⟨⟨5, _, _, _, _, rfl, zcl_5, Or.inr q2690⟩, List.forall_mem_cons.mpr ⟨⟨6, _, _, _, _, rfl, zcl_6, Or.inr q2696⟩, List.forall_mem_cons.mpr ⟨⟨7, _, _, _, _, rfl, zcl_7, Or.inr q2697⟩, List.forall_mem_cons.mpr ⟨⟨8, _, _, _, _, rfl, zcl_8, Or.inr q2698⟩, List.forall_mem_cons.mpr ⟨⟨9, _, _, _, _, rfl, zcl_9, Or.inr q2699⟩, List.forall_mem_cons.mpr ⟨⟨11, _, _, _, _, rfl, zcl_11, Or.inr q2700⟩, List.forall_mem_cons.mpr ⟨⟨12, _, _, _, _, rfl, zcl_12, Or.inr q2701⟩, List.forall_mem_cons.mpr ⟨⟨13, _, _, _, _, rfl, zcl_13, Or.inr q2702⟩, List.forall_mem_cons.mpr ⟨⟨14, _, _, _, _, rfl, zcl_14, Or.inr q2709⟩, List.forall_mem_cons.mpr ⟨⟨15, _, _, _, _, rfl, zcl_15, Or.inr q2710⟩, List.forall_mem_cons.mpr ⟨⟨16, _, _, _, _, rfl, zcl_16, Or.inr q2712⟩, List.forall_mem_cons.mpr ⟨⟨17, _, _, _, _, rfl, zcl_17, Or.inr q2713⟩, List.forall_mem_cons.mpr ⟨⟨18, _, _, _, _, rfl, zcl_18, Or.inr q2714⟩, List.forall_mem_cons.mpr ⟨⟨19, _, _, _, _, rfl, zcl_19, Or.inr q2715⟩, List.forall_mem_cons.mpr ⟨⟨20, _, _, _, _, rfl, zcl_20, Or.inr q2716⟩, List.forall_mem_cons.mpr ⟨⟨21, _, _, _, _, rfl, zcl_21, Or.inr q2717⟩, List.forall_mem_cons.mpr ⟨⟨28, _, _, _, _, rfl, zcl_28, Or.inr q2711⟩, fun _ h => by cases h⟩⟩⟩⟩⟩⟩⟩⟩⟩⟩⟩⟩⟩⟩⟩⟩⟩⟩⟩⟩⟩⟩
theorem zf_J1_7 : zFl RJ1 7 "java/util/AbstractList" TJ2 0 := ⟨q224, fun _ _ _ _ h => h⟩
theorem zf_J15_273 : zFl RJ15 273 "java/lang/Long" TJ15 0 := ⟨q1042, fun _ _ _ _ h => h⟩
theorem zf_J2_9 : zFl RJ2 9 "java/util/ArrayList" TJ2 1 := ⟨q222, fun _ _ _ _ h => h⟩
theorem zf_J2_48 : zFl RJ2 48 "java/util/ArrayList" TJ2 2 := ⟨q223, fun _ _ _ _ h => h⟩
theorem zf_J2_63 : zFl RJ2 63 "java/util/ArrayList" TJ2 0 := ⟨q225, fun _ _ ht x hx => u_same (ht _ q226) x hx⟩
theorem zf_X1_7 : zFl RX1 7 "CoverHouse$Full" TX1 0 := ⟨q242, fun _ _ _ _ h => h⟩
theorem zf_X1_13 : zFl RX1 13 "CoverHouse$Full" TX1 1 := ⟨q247, fun _ _ _ _ h => h⟩
theorem zf_X4_9 : zFl RX4 9 "CoverHouse$Starts" TX4 0 := ⟨q304, fun _ _ _ _ h => h⟩
theorem zf_X3_3 : zFl RX3 3 "CoverHouse$Joint" TX3 9 := ⟨q418, fun _ _ _ _ h => h⟩
theorem zf_X3_18 : zFl RX3 18 "CoverHouse$Joint" TX3 0 := ⟨q402, fun _ _ _ _ h => h⟩
theorem zf_X3_22 : zFl RX3 22 "CoverHouse$Joint" TX3 3 := ⟨q406, fun _ _ _ _ h => h⟩
theorem zf_X3_26 : zFl RX3 26 "CoverHouse$Joint" TX3 4 := ⟨q408, fun _ _ _ _ h => h⟩
theorem zf_X3_30 : zFl RX3 30 "CoverHouse$Joint" TX3 6 := ⟨q412, fun _ _ _ _ h => h⟩
theorem zf_X2_3 : zFl RX2 3 "CoverHouse$Ways" TX2 6 := ⟨q274, fun _ _ _ _ h => h⟩
theorem zf_X2_15 : zFl RX2 15 "CoverHouse$Ways" TX2 1 := ⟨q265, fun _ _ _ _ h => h⟩
theorem zf_X2_19 : zFl RX2 19 "CoverHouse$Ways" TX2 3 := ⟨q269, fun _ _ _ _ h => h⟩
theorem zf_X2_22 : zFl RX2 22 "CoverHouse$Ways" TX2 4 := ⟨q271, fun _ _ _ _ h => h⟩
theorem zf_X2_25 : zFl RX2 25 "CoverHouse$Ways" TX2 5 := ⟨q273, fun _ _ _ _ h => h⟩
theorem zf_X0_1 : zFl RX0 1 "CoverHouse" TX0 0 := ⟨q440, fun _ _ _ _ h => h⟩
theorem zf_X0_71 : zFl RX0 71 "CoverHouse" TX0 1 := ⟨q442, fun _ _ _ _ h => h⟩
theorem zf_X0_75 : zFl RX0 75 "CoverHouse" TX0 3 := ⟨q445, fun _ _ _ _ h => h⟩
theorem zf_X0_82 : zFl RX0 82 "CoverHouse" TX0 5 := ⟨q448, fun _ _ _ _ h => h⟩
theorem zf_X0_86 : zFl RX0 86 "CoverHouse" TX0 6 := ⟨q449, fun _ _ _ _ h => h⟩
theorem zf_X0_89 : zFl RX0 89 "CoverHouse" TX0 7 := ⟨q450, fun _ _ _ _ h => h⟩
theorem zf_X0_92 : zFl RX0 92 "CoverHouse" TX0 8 := ⟨q451, fun _ _ _ _ h => h⟩
theorem zf_X0_95 : zFl RX0 95 "CoverHouse" TX0 9 := ⟨q452, fun _ _ _ _ h => h⟩
theorem zf_X0_99 : zFl RX0 99 "CoverHouse" TX0 10 := ⟨q453, fun _ _ _ _ h => h⟩
theorem zf_X0_102 : zFl RX0 102 "CoverHouse" TX0 11 := ⟨q454, fun _ _ _ _ h => h⟩
theorem zf_X0_108 : zFl RX0 108 "CoverHouse" TX0 13 := ⟨q456, fun _ _ _ _ h => h⟩
theorem zf_X0_117 : zFl RX0 117 "CoverHouse" TX0 14 := ⟨q459, fun _ _ _ _ h => h⟩
theorem zf_X0_124 : zFl RX0 124 "CoverHouse" TX0 15 := ⟨q460, fun _ _ _ _ h => h⟩
theorem zf_X0_128 : zFl RX0 128 "CoverHouse" TX0 16 := ⟨q461, fun _ _ _ _ h => h⟩
theorem zf_X0_131 : zFl RX0 131 "CoverHouse" TX0 17 := ⟨q462, fun _ _ _ _ h => h⟩
theorem zf_X0_134 : zFl RX0 134 "CoverHouse" TX0 18 := ⟨q463, fun _ _ _ _ h => h⟩
theorem zf_X0_137 : zFl RX0 137 "CoverHouse" TX0 19 := ⟨q464, fun _ _ _ _ h => h⟩
theorem zf_X0_140 : zFl RX0 140 "CoverHouse" TX0 20 := ⟨q465, fun _ _ _ _ h => h⟩
theorem zf_X0_143 : zFl RX0 143 "CoverHouse" TX0 21 := ⟨q466, fun _ _ _ _ h => h⟩
theorem zf_X0_146 : zFl RX0 146 "CoverHouse" TX0 24 := ⟨q469, fun _ _ _ _ h => h⟩
theorem zf_X0_149 : zFl RX0 149 "CoverHouse" TX0 25 := ⟨q470, fun _ _ _ _ h => h⟩
theorem zf_X0_152 : zFl RX0 152 "CoverHouse" TX0 27 := ⟨q472, fun _ _ _ _ h => h⟩
theorem zf_X0_155 : zFl RX0 155 "CoverHouse" TX0 28 := ⟨q473, fun _ _ _ _ h => h⟩
theorem zf_X0_158 : zFl RX0 158 "CoverHouse" TX0 29 := ⟨q474, fun _ _ _ _ h => h⟩
theorem zf_X0_161 : zFl RX0 161 "CoverHouse" TX0 30 := ⟨q475, fun _ _ _ _ h => h⟩
theorem zf_X0_164 : zFl RX0 164 "CoverHouse" TX0 2 := ⟨q444, fun _ _ _ _ h => h⟩
theorem zf_X0_167 : zFn RX0 167 TX8 7 "CoverHouse" := q719
theorem zf_X0_172 : zFn RX0 172 TX8 6 "CoverHouse" := q717
theorem zf_X8_7 : zFl RX8 7 "CoverHouse$Fault" TX8 6 := ⟨q716, fun _ _ _ _ h => h⟩
theorem zf_X8_13 : zFl RX8 13 "CoverHouse$Fault" TX8 7 := ⟨q718, fun _ _ _ _ h => h⟩
theorem zf_X11_7 : zFl RX11 7 "CoverHouse$Not" TX11 0 := ⟨q940, fun _ _ _ _ h => h⟩
theorem zf_X12_13 : zFn RX12 13 TX1 1 "CoverHouse" := q248
theorem zf_X12_7 : zFl RX12 7 "CoverHouse$Meaning" TX12 0 := ⟨q954, fun _ _ _ _ h => h⟩
theorem zf_X13_20 : zFn RX13 20 TX1 0 "CoverHouse" := q243
theorem zf_X13_7 : zFl RX13 7 "CoverHouse$Is" TX13 0 := ⟨q966, fun _ _ _ _ h => h⟩
theorem zf_X13_13 : zFl RX13 13 "CoverHouse$Is" TX13 1 := ⟨q967, fun _ _ _ _ h => h⟩
theorem zf_X13_16 : zFl RX13 16 "CoverHouse$Is" TX13 2 := ⟨q968, fun _ _ _ _ h => h⟩
theorem zf_X14_13 : zFl RX14 13 "CoverHouse$Measure" TX14 1 := ⟨q999, fun _ _ _ _ h => h⟩
theorem zf_X14_20 : zFn RX14 20 TX1 0 "CoverHouse" := q244
theorem zf_X14_7 : zFl RX14 7 "CoverHouse$Measure" TX14 0 := ⟨q998, fun _ _ _ _ h => h⟩
theorem zf_X14_17 : zFl RX14 17 "CoverHouse$Measure" TX14 2 := ⟨q1000, fun _ _ _ _ h => h⟩
theorem zf_X15_10 : zFl RX15 10 "CoverHouse$Many" TX15 1 := ⟨q1019, fun _ _ _ _ h => h⟩
theorem zf_X15_16 : zFl RX15 16 "CoverHouse$Many" TX15 0 := ⟨q1018, fun _ _ _ _ h => h⟩
theorem zf_X6_21 : zFl RX6 21 "CoverHouse$Wording" TX6 2 := ⟨q580, fun _ _ _ _ h => h⟩
theorem zf_X6_122 : zFn RX6 122 TX1 1 "CoverHouse" := q249
theorem zf_X6_12 : zFl RX6 12 "CoverHouse$Wording" TX6 0 := ⟨q572, fun _ _ _ _ h => h⟩
theorem zf_X6_41 : zFl RX6 41 "CoverHouse$Wording" TX6 10 := ⟨q601, fun _ _ _ _ h => h⟩
theorem zf_X6_131 : zFn RX6 131 TX1 0 "CoverHouse" := q246
theorem zf_X6_134 : zFn RX6 134 TX4 0 "CoverHouse" := q306
theorem zf_X6_99 : zFn RX6 99 TX4 1 "CoverHouse" := q310
theorem zf_X6_109 : zFl RX6 109 "CoverHouse$Wording" TX6 11 := ⟨q605, fun _ _ _ _ h => h⟩
theorem zf_X6_141 : zFl RX6 141 "CoverHouse$Wording" TX6 12 := ⟨q609, fun _ _ _ _ h => h⟩
theorem zf_X6_145 : zFl RX6 145 "CoverHouse$Wording" TX6 13 := ⟨q610, fun _ _ _ _ h => h⟩
theorem zf_X6_24 : zFl RX6 24 "CoverHouse$Wording" TX6 3 := ⟨q582, fun _ _ _ _ h => h⟩
theorem zf_X6_156 : zFn RX6 156 TX16 0 "CoverHouse" := q1064
theorem zf_X6_85 : zFn RX6 85 TX16 1 "CoverHouse" := q1067
theorem zf_X6_70 : zFl RX6 70 "CoverHouse$Wording" TX6 8 := ⟨q597, fun _ _ _ _ h => h⟩
theorem zf_X6_73 : zFl RX6 73 "CoverHouse$Wording" TX6 9 := ⟨q599, fun _ _ _ _ h => h⟩
theorem zf_X6_78 : zFn RX6 78 TX16 2 "CoverHouse" := q1069
theorem zf_X4_15 : zFl RX4 15 "CoverHouse$Starts" TX4 1 := ⟨q307, fun _ _ _ _ h => h⟩
theorem zf_X4_19 : zFn RX4 19 TX9 5 "CoverHouse" := q863
theorem zf_X4_24 : zFl RX4 24 "CoverHouse$Starts" TX4 2 := ⟨q312, fun _ _ _ _ h => h⟩
theorem zf_X4_25 : zFn RX4 25 TX9 1 "CoverHouse" := q850
theorem zf_X4_28 : zFn RX4 28 TX9 4 "CoverHouse" := q858
theorem zf_X6_27 : zFl RX6 27 "CoverHouse$Wording" TX6 4 := ⟨q585, fun _ _ _ _ h => h⟩
theorem zf_X6_91 : zFn RX6 91 TX17 2 "CoverHouse" := q1124
theorem zf_X0_175 : zFn RX0 175 TX3 0 "CoverHouse" := q403
theorem zf_X7_3 : zFl RX7 3 "CoverHouse$Reader" TX7 10 := ⟨q754, fun _ _ _ _ h => h⟩
theorem zf_X7_26 : zFn RX7 26 TX0 2 "CoverHouse" := q443
theorem zf_X7_29 : zFn RX7 29 TX0 1 "CoverHouse" := q441
theorem zf_X7_33 : zFl RX7 33 "CoverHouse$Reader" TX7 0 := ⟨q744, fun _ _ _ _ h => h⟩
theorem zf_X7_46 : zFl RX7 46 "CoverHouse$Reader" TX7 1 := ⟨q745, fun _ _ _ _ h => h⟩
theorem zf_X7_76 : zFl RX7 76 "CoverHouse$Reader" TX7 5 := ⟨q749, fun _ _ _ _ h => h⟩
theorem zf_X7_43 : zFl RX7 43 "CoverHouse$Reader" TX7 2 := ⟨q746, fun _ _ _ _ h => h⟩
theorem zf_X7_69 : zFl RX7 69 "CoverHouse$Reader" TX7 4 := ⟨q748, fun _ _ _ _ h => h⟩
theorem zf_X7_53 : zFl RX7 53 "CoverHouse$Reader" TX7 3 := ⟨q747, fun _ _ _ _ h => h⟩
theorem zf_X7_15 : zFl RX7 15 "CoverHouse$Reader" TX7 6 := ⟨q750, fun _ _ _ _ h => h⟩
theorem zf_X7_19 : zFl RX7 19 "CoverHouse$Reader" TX7 9 := ⟨q753, fun _ _ _ _ h => h⟩
theorem zf_X16_7 : zFl RX16 7 "CoverHouse$Clause" TX16 0 := ⟨q1063, fun _ _ _ _ h => h⟩
theorem zf_X16_13 : zFl RX16 13 "CoverHouse$Clause" TX16 1 := ⟨q1066, fun _ _ _ _ h => h⟩
theorem zf_X16_17 : zFl RX16 17 "CoverHouse$Clause" TX16 2 := ⟨q1068, fun _ _ _ _ h => h⟩
theorem zf_X7_125 : zFl RX7 125 "CoverHouse$Reader" TX7 7 := ⟨q751, fun _ _ _ _ h => h⟩
theorem zf_X9_26 : zFl RX9 26 "CoverHouse$Fact" TX9 3 := ⟨q855, fun _ _ _ _ h => h⟩
theorem zf_X9_9 : zFl RX9 9 "CoverHouse$Fact" TX9 2 := ⟨q853, fun _ _ _ _ h => h⟩
theorem zf_X7_84 : zFl RX7 84 "CoverHouse$Reader" TX7 8 := ⟨q752, fun _ _ _ _ h => h⟩
theorem zf_X6_56 : zFn RX6 56 TX9 0 "CoverHouse" := q848
theorem zf_X6_18 : zFl RX6 18 "CoverHouse$Wording" TX6 1 := ⟨q578, fun _ _ _ _ h => h⟩
theorem zf_X7_155 : zFn RX7 155 TX6 0 "CoverHouse" := q577
theorem zf_X7_164 : zFn RX7 164 TX9 1 "CoverHouse" := q852
theorem zf_X7_107 : zFn RX7 107 TX15 1 "CoverHouse" := q1020
theorem zf_X9_15 : zFl RX9 15 "CoverHouse$Fact" TX9 0 := ⟨q847, fun _ _ _ _ h => h⟩
theorem zf_X9_19 : zFl RX9 19 "CoverHouse$Fact" TX9 1 := ⟨q849, fun _ _ _ _ h => h⟩
theorem zf_X9_23 : zFl RX9 23 "CoverHouse$Fact" TX9 5 := ⟨q862, fun _ _ _ _ h => h⟩
theorem zf_X7_248 : zFn RX7 248 TX9 3 "CoverHouse" := q857
theorem zf_X7_250 : zFn RX7 250 TX9 2 "CoverHouse" := q854
theorem zf_X7_245 : zFn RX7 245 TX9 5 "CoverHouse" := q865
theorem zf_X7_240 : zFn RX7 240 TX9 4 "CoverHouse" := q861
theorem zf_X7_253 : zFn RX7 253 TX6 2 "CoverHouse" := q581
theorem zf_X7_256 : zFn RX7 256 TX6 8 "CoverHouse" := q598
theorem zf_X7_259 : zFn RX7 259 TX6 1 "CoverHouse" := q579
theorem zf_X7_275 : zFn RX7 275 TX6 7 "CoverHouse" := q596
theorem zf_X17_7 : zFl RX17 7 "CoverHouse$PriceRow" TX17 0 := ⟨q1118, fun _ _ _ _ h => h⟩
theorem zf_X17_13 : zFl RX17 13 "CoverHouse$PriceRow" TX17 1 := ⟨q1121, fun _ _ _ _ h => h⟩
theorem zf_X17_16 : zFl RX17 16 "CoverHouse$PriceRow" TX17 2 := ⟨q1123, fun _ _ _ _ h => h⟩
theorem zf_X7_289 : zFn RX7 289 TX6 4 "CoverHouse" := q587
theorem zf_X7_304 : zFn RX7 304 TX17 0 "CoverHouse" := q1119
theorem zf_X7_334 : zFn RX7 334 TX6 6 "CoverHouse" := q593
theorem zf_X7_326 : zFn RX7 326 TX6 5 "CoverHouse" := q590
theorem zf_X7_317 : zFn RX7 317 TX6 3 "CoverHouse" := q584
theorem zf_X6_30 : zFl RX6 30 "CoverHouse$Wording" TX6 5 := ⟨q588, fun _ _ _ _ h => h⟩
theorem zf_X6_34 : zFl RX6 34 "CoverHouse$Wording" TX6 6 := ⟨q591, fun _ _ _ _ h => h⟩
theorem zf_X6_37 : zFl RX6 37 "CoverHouse$Wording" TX6 7 := ⟨q594, fun _ _ _ _ h => h⟩
theorem zf_X0_240 : zFn RX0 240 TX6 0 "CoverHouse" := q576
theorem zf_X0_243 : zFn RX0 243 TX6 3 "CoverHouse" := q583
theorem zf_X0_246 : zFn RX0 246 TX6 4 "CoverHouse" := q586
theorem zf_X0_249 : zFn RX0 249 TX6 11 "CoverHouse" := q606
theorem zf_X0_252 : zFn RX0 252 TX6 9 "CoverHouse" := q600
theorem zf_X0_255 : zFn RX0 255 TX6 5 "CoverHouse" := q589
theorem zf_X0_258 : zFn RX0 258 TX6 6 "CoverHouse" := q592
theorem zf_X0_261 : zFn RX0 261 TX6 7 "CoverHouse" := q595
theorem zf_X0_266 : zFn RX0 266 TX9 1 "CoverHouse" := q851
theorem zf_X0_267 : zFn RX0 267 TX9 3 "CoverHouse" := q856
theorem zf_X0_270 : zFn RX0 270 TX9 4 "CoverHouse" := q860
theorem zf_X0_273 : zFn RX0 273 TX9 5 "CoverHouse" := q864
theorem zf_X0_276 : zFn RX0 276 TX6 10 "CoverHouse" := q603
theorem zf_X0_279 : zFn RX0 279 TX4 1 "CoverHouse" := q311
theorem zf_X0_283 : zFn RX0 283 TX16 0 "CoverHouse" := q1065
theorem zf_X3_53 : zFl RX3 53 "CoverHouse$Joint" TX3 1 := ⟨q404, fun _ _ _ _ h => h⟩
theorem zf_X3_89 : zFn RX3 89 TX0 13 "CoverHouse" := q457
theorem zf_X3_93 : zFn RX3 93 TX1 0 "CoverHouse" := q245
theorem zf_X3_98 : zFn RX3 98 TX4 0 "CoverHouse" := q305
theorem zf_X3_77 : zFn RX3 77 TX4 1 "CoverHouse" := q308
theorem zf_X3_101 : zFl RX3 101 "CoverHouse$Joint" TX3 5 := ⟨q410, fun _ _ _ _ h => h⟩
theorem zf_X3_56 : zFl RX3 56 "CoverHouse$Joint" TX3 2 := ⟨q405, fun _ _ _ _ h => h⟩
theorem zf_X3_107 : zFn RX3 107 TX6 12 "CoverHouse" := q608
theorem zf_X3_44 : zFn RX3 44 TX6 0 "CoverHouse" := q574
theorem zf_X9_29 : zFl RX9 29 "CoverHouse$Fact" TX9 4 := ⟨q859, fun _ _ _ _ h => h⟩
theorem zf_X0_295 : zFn RX0 295 TX3 4 "CoverHouse" := q409
theorem zf_X0_299 : zFn RX0 299 TX3 5 "CoverHouse" := q411
theorem zf_X0_302 : zFn RX0 302 TX3 3 "CoverHouse" := q407
theorem zf_X3_118 : zFl RX3 118 "CoverHouse$Joint" TX3 7 := ⟨q414, fun _ _ _ _ h => h⟩
theorem zf_X3_122 : zFl RX3 122 "CoverHouse$Joint" TX3 8 := ⟨q416, fun _ _ _ _ h => h⟩
theorem zf_X7_377 : zFn RX7 377 TX0 4 "CoverHouse" := q447
theorem zf_X0_308 : zFl RX0 308 "CoverHouse" TX0 4 := ⟨q446, fun _ _ _ _ h => h⟩
theorem zf_X0_315 : zFn RX0 315 TX3 7 "CoverHouse" := q415
theorem zf_X0_319 : zFn RX0 319 TX3 8 "CoverHouse" := q417
theorem zf_X0_322 : zFn RX0 322 TX3 6 "CoverHouse" := q413
theorem zf_X19_9 : zFl RX19 9 "CoverHouse$Known" TX19 0 := ⟨q1439, fun _ _ _ _ h => h⟩
theorem zf_X19_15 : zFl RX19 15 "CoverHouse$Known" TX19 1 := ⟨q1440, fun _ _ _ _ h => h⟩
theorem zf_X18_10 : zFl RX18 10 "CoverHouse$Event" TX18 1 := ⟨q1454, fun _ _ _ _ h => h⟩
theorem zf_X18_16 : zFl RX18 16 "CoverHouse$Event" TX18 0 := ⟨q1452, fun _ _ _ _ h => h⟩
theorem zf_X18_20 : zFn RX18 20 TX6 0 "CoverHouse" := q573
theorem zf_X0_332 : zFn RX0 332 TX18 1 "CoverHouse" := q1456
theorem zf_X19_18 : zFl RX19 18 "CoverHouse$Known" TX19 2 := ⟨q1441, fun _ _ _ _ h => h⟩
theorem zf_X0_348 : zFn RX0 348 TX19 2 "CoverHouse" := q1442
theorem zf_X0_337 : zFn RX0 337 TX18 0 "CoverHouse" := q1453
theorem zf_X2_29 : zFl RX2 29 "CoverHouse$Ways" TX2 0 := ⟨q263, fun _ _ _ _ h => h⟩
theorem zf_X2_33 : zFl RX2 33 "CoverHouse$Ways" TX2 2 := ⟨q267, fun _ _ _ _ h => h⟩
theorem zf_X2_37 : zFn RX2 37 TX6 0 "CoverHouse" := q575
theorem zf_X2_49 : zFn RX2 49 TX18 1 "CoverHouse" := q1455
theorem zf_X2_62 : zFn RX2 62 TX6 10 "CoverHouse" := q602
theorem zf_X2_71 : zFn RX2 71 TX4 1 "CoverHouse" := q309
theorem zf_X2_73 : zFn RX2 73 TX6 11 "CoverHouse" := q604
theorem zf_X2_79 : zFn RX2 79 TX6 12 "CoverHouse" := q607
theorem zf_X0_362 : zFn RX0 362 TX2 2 "CoverHouse" := q268
theorem zf_X0_373 : zFn RX0 373 TX2 0 "CoverHouse" := q264
theorem zf_X0_376 : zFn RX0 376 TX2 1 "CoverHouse" := q266
theorem zf_X0_378 : zFn RX0 378 TX2 3 "CoverHouse" := q270
theorem zf_X0_381 : zFn RX0 381 TX6 13 "CoverHouse" := q611
theorem zf_X0_388 : zFn RX0 388 TX2 4 "CoverHouse" := q272
theorem zf_X2_107 : zFn RX2 107 TX0 13 "CoverHouse" := q458
theorem zf_X0_393 : zFn RX0 393 TX17 2 "CoverHouse" := q1125
theorem zf_X0_400 : zFn RX0 400 TX17 0 "CoverHouse" := q1120
theorem zf_X0_401 : zFn RX0 401 TX17 1 "CoverHouse" := q1122
theorem zf_X20_9 : zFl RX20 9 "CoverHouse$Policy" TX20 0 := ⟨q1600, fun _ _ _ _ h => h⟩
theorem zf_X20_15 : zFl RX20 15 "CoverHouse$Policy" TX20 1 := ⟨q1602, fun _ _ _ _ h => h⟩
theorem zf_X20_18 : zFl RX20 18 "CoverHouse$Policy" TX20 2 := ⟨q1604, fun _ _ _ _ h => h⟩
theorem zf_X20_21 : zFl RX20 21 "CoverHouse$Policy" TX20 3 := ⟨q1606, fun _ _ _ _ h => h⟩
theorem zf_X0_424 : zFn RX0 424 TX20 4 "CoverHouse" := q1609
theorem zf_X0_425 : zFn RX0 425 TX20 0 "CoverHouse" := q1601
theorem zf_X0_428 : zFn RX0 428 TX20 1 "CoverHouse" := q1603
theorem zf_X0_431 : zFn RX0 431 TX20 2 "CoverHouse" := q1605
theorem zf_X0_434 : zFn RX0 434 TX20 3 "CoverHouse" := q1607
theorem zf_X20_24 : zFl RX20 24 "CoverHouse$Policy" TX20 4 := ⟨q1608, fun _ _ _ _ h => h⟩
theorem zf_X21_12 : zFl RX21 12 "CoverHouse$Claim" TX21 4 := ⟨q1658, fun _ _ _ _ h => h⟩
theorem zf_X21_18 : zFl RX21 18 "CoverHouse$Claim" TX21 0 := ⟨q1650, fun _ _ _ _ h => h⟩
theorem zf_X21_22 : zFl RX21 22 "CoverHouse$Claim" TX21 1 := ⟨q1652, fun _ _ _ _ h => h⟩
theorem zf_X21_26 : zFl RX21 26 "CoverHouse$Claim" TX21 2 := ⟨q1654, fun _ _ _ _ h => h⟩
theorem zf_X21_29 : zFl RX21 29 "CoverHouse$Claim" TX21 3 := ⟨q1656, fun _ _ _ _ h => h⟩
theorem zf_X0_448 : zFn RX0 448 TX21 4 "CoverHouse" := q1659
theorem zf_X0_452 : zFn RX0 452 TX21 0 "CoverHouse" := q1651
theorem zf_X0_455 : zFn RX0 455 TX21 3 "CoverHouse" := q1657
theorem zf_X0_456 : zFn RX0 456 TX21 2 "CoverHouse" := q1655
theorem zf_X0_469 : zFn RX0 469 TX21 1 "CoverHouse" := q1653
theorem zf_X0_486 : zFl RX0 486 "CoverHouse" TX0 12 := ⟨q455, fun _ _ _ _ h => h⟩
theorem zf_X0_497 : zFl RX0 497 "CoverHouse" TX0 22 := ⟨q467, fun _ _ _ _ h => h⟩
theorem zf_X0_500 : zFl RX0 500 "CoverHouse" TX0 23 := ⟨q468, fun _ _ _ _ h => h⟩
theorem zf_X0_503 : zFn RX0 503 TX21 5 "CoverHouse" := q1660
theorem zf_X0_506 : zFn RX0 506 TX21 6 "CoverHouse" := q1661
theorem zf_X0_519 : zFl RX0 519 "CoverHouse" TX0 26 := ⟨q471, fun _ _ _ _ h => h⟩
theorem zf_X0_522 : zFl RX0 522 "CoverHouse" TX0 31 := ⟨q476, fun _ _ _ _ h => h⟩
theorem zmk_0 : zMk 0 RX0 32 tyX0 := ⟨q172, q128, by decide +kernel⟩
theorem zmk_1 : zMk 1 RX1 2 tyX1 := ⟨q237, q132, by decide +kernel⟩
theorem zmk_2 : zMk 2 RX2 7 tyX2 := ⟨q258, q133, by decide +kernel⟩
theorem zmk_3 : zMk 3 RX3 10 tyX3 := ⟨q291, q134, by decide +kernel⟩
theorem zmk_4 : zMk 4 RX4 3 tyX4 := ⟨q299, q135, by decide +kernel⟩
theorem zmk_5 : zMk 5 RJ2 3 tyJ2 := ⟨q209, q131, by decide +kernel⟩
theorem zmk_6 : zMk 6 RX6 14 tyX6 := ⟨q565, q145, by decide +kernel⟩
theorem zmk_7 : zMk 7 RX7 11 tyX7 := ⟨q642, q146, by decide +kernel⟩
theorem zmk_8 : zMk 8 RX8 8 tyX8 := ⟨q668, q150, by decide +kernel⟩
theorem zmk_9 : zMk 9 RX9 6 tyX9 := ⟨q842, q152, by decide +kernel⟩
theorem zmk_11 : zMk 11 RX11 1 tyX11 := ⟨q932, q154, by decide +kernel⟩
theorem zmk_12 : zMk 12 RX12 1 tyX12 := ⟨q949, q155, by decide +kernel⟩
theorem zmk_13 : zMk 13 RX13 3 tyX13 := ⟨q961, q156, by decide +kernel⟩
theorem zmk_14 : zMk 14 RX14 3 tyX14 := ⟨q993, q159, by decide +kernel⟩
theorem zmk_15 : zMk 15 RX15 2 tyX15 := ⟨q1011, q160, by decide +kernel⟩
theorem zmk_16 : zMk 16 RX16 3 tyX16 := ⟨q1058, q164, by decide +kernel⟩
theorem zmk_17 : zMk 17 RX17 3 tyX17 := ⟨q1113, q165, by decide +kernel⟩
theorem zmk_18 : zMk 18 RX18 2 tyX18 := ⟨q1424, q166, by decide +kernel⟩
theorem zmk_19 : zMk 19 RX19 3 tyX19 := ⟨q1434, q167, by decide +kernel⟩
theorem zmk_20 : zMk 20 RX20 5 tyX20 := ⟨q1595, q169, by decide +kernel⟩
theorem zmk_21 : zMk 21 RX21 7 tyX21 := ⟨q1643, q170, by decide +kernel⟩
theorem zmk_28 : zMk 28 RJ15 1 tyJ15 := ⟨q1034, q162, by decide +kernel⟩
theorem fk_0 : fkd 0 = 2 := rfl
theorem fk_1 : fkd 1 = 2 := rfl
theorem fk_2 : fkd 2 = 0 := rfl
theorem fk_3 : fkd 3 = 0 := rfl
theorem fk_4 : fkd 4 = 2 := rfl
theorem fk_5 : fkd 5 = 2 := rfl
theorem fk_6 : fkd 6 = 2 := rfl
theorem fk_7 : fkd 7 = 2 := rfl
theorem fk_8 : fkd 8 = 2 := rfl
theorem fk_9 : fkd 9 = 2 := rfl
theorem fk_10 : fkd 10 = 2 := rfl
theorem fk_11 : fkd 11 = 2 := rfl
theorem fk_12 : fkd 12 = 0 := rfl
theorem fk_13 : fkd 13 = 2 := rfl
theorem fk_14 : fkd 14 = 2 := rfl
theorem fk_15 : fkd 15 = 2 := rfl
theorem fk_16 : fkd 16 = 2 := rfl
theorem fk_17 : fkd 17 = 2 := rfl
theorem fk_18 : fkd 18 = 2 := rfl
theorem fk_19 : fkd 19 = 2 := rfl
theorem fk_20 : fkd 20 = 2 := rfl
theorem fk_21 : fkd 21 = 2 := rfl
theorem fk_22 : fkd 22 = 0 := rfl
theorem fk_23 : fkd 23 = 0 := rfl
theorem fk_24 : fkd 24 = 2 := rfl
theorem fk_25 : fkd 25 = 2 := rfl
theorem fk_26 : fkd 26 = 0 := rfl
theorem fk_27 : fkd 27 = 2 := rfl
theorem fk_28 : fkd 28 = 2 := rfl
theorem fk_29 : fkd 29 = 2 := rfl
theorem fk_30 : fkd 30 = 2 := rfl
theorem fk_31 : fkd 31 = 0 := rfl
theorem fk_40 : fkd 40 = 2 := rfl
theorem fk_41 : fkd 41 = 2 := rfl
theorem fk_80 : fkd 80 = 2 := rfl
theorem fk_81 : fkd 81 = 2 := rfl
theorem fk_82 : fkd 82 = 0 := rfl
theorem fk_83 : fkd 83 = 2 := rfl
theorem fk_84 : fkd 84 = 2 := rfl
theorem fk_85 : fkd 85 = 2 := rfl
theorem fk_86 : fkd 86 = 2 := rfl
theorem fk_120 : fkd 120 = 2 := rfl
theorem fk_121 : fkd 121 = 0 := rfl
theorem fk_122 : fkd 122 = 1 := rfl
theorem fk_123 : fkd 123 = 2 := rfl
theorem fk_124 : fkd 124 = 2 := rfl
theorem fk_125 : fkd 125 = 0 := rfl
theorem fk_126 : fkd 126 = 2 := rfl
theorem fk_127 : fkd 127 = 0 := rfl
theorem fk_128 : fkd 128 = 0 := rfl
theorem fk_129 : fkd 129 = 2 := rfl
theorem fk_160 : fkd 160 = 2 := rfl
theorem fk_161 : fkd 161 = 0 := rfl
theorem fk_162 : fkd 162 = 0 := rfl
theorem fk_200 : fkd 200 = 0 := rfl
theorem fk_201 : fkd 201 = 2 := rfl
theorem fk_202 : fkd 202 = 0 := rfl
theorem fk_240 : fkd 240 = 2 := rfl
theorem fk_241 : fkd 241 = 2 := rfl
theorem fk_242 : fkd 242 = 2 := rfl
theorem fk_243 : fkd 243 = 2 := rfl
theorem fk_244 : fkd 244 = 2 := rfl
theorem fk_245 : fkd 245 = 0 := rfl
theorem fk_246 : fkd 246 = 0 := rfl
theorem fk_247 : fkd 247 = 2 := rfl
theorem fk_248 : fkd 248 = 0 := rfl
theorem fk_249 : fkd 249 = 0 := rfl
theorem fk_250 : fkd 250 = 2 := rfl
theorem fk_251 : fkd 251 = 0 := rfl
theorem fk_252 : fkd 252 = 2 := rfl
theorem fk_253 : fkd 253 = 2 := rfl
theorem fk_280 : fkd 280 = 0 := rfl
theorem fk_281 : fkd 281 = 0 := rfl
theorem fk_282 : fkd 282 = 0 := rfl
theorem fk_283 : fkd 283 = 1 := rfl
theorem fk_284 : fkd 284 = 0 := rfl
theorem fk_285 : fkd 285 = 0 := rfl
theorem fk_286 : fkd 286 = 2 := rfl
theorem fk_287 : fkd 287 = 0 := rfl
theorem fk_288 : fkd 288 = 0 := rfl
theorem fk_289 : fkd 289 = 0 := rfl
theorem fk_290 : fkd 290 = 2 := rfl
theorem fk_320 : fkd 320 = 2 := rfl
theorem fk_321 : fkd 321 = 2 := rfl
theorem fk_322 : fkd 322 = 2 := rfl
theorem fk_323 : fkd 323 = 2 := rfl
theorem fk_324 : fkd 324 = 2 := rfl
theorem fk_325 : fkd 325 = 0 := rfl
theorem fk_326 : fkd 326 = 0 := rfl
theorem fk_327 : fkd 327 = 0 := rfl
theorem fk_360 : fkd 360 = 1 := rfl
theorem fk_361 : fkd 361 = 0 := rfl
theorem fk_362 : fkd 362 = 2 := rfl
theorem fk_363 : fkd 363 = 0 := rfl
theorem fk_364 : fkd 364 = 0 := rfl
theorem fk_365 : fkd 365 = 0 := rfl
theorem fk_440 : fkd 440 = 2 := rfl
theorem fk_480 : fkd 480 = 0 := rfl
theorem fk_520 : fkd 520 = 0 := rfl
theorem fk_521 : fkd 521 = 0 := rfl
theorem fk_522 : fkd 522 = 0 := rfl
theorem fk_560 : fkd 560 = 0 := rfl
theorem fk_561 : fkd 561 = 2 := rfl
theorem fk_562 : fkd 562 = 0 := rfl
theorem fk_600 : fkd 600 = 0 := rfl
theorem fk_601 : fkd 601 = 2 := rfl
theorem fk_640 : fkd 640 = 0 := rfl
theorem fk_641 : fkd 641 = 2 := rfl
theorem fk_642 : fkd 642 = 0 := rfl
theorem fk_680 : fkd 680 = 0 := rfl
theorem fk_681 : fkd 681 = 0 := rfl
theorem fk_682 : fkd 682 = 2 := rfl
theorem fk_720 : fkd 720 = 2 := rfl
theorem fk_721 : fkd 721 = 2 := rfl
theorem fk_760 : fkd 760 = 2 := rfl
theorem fk_761 : fkd 761 = 2 := rfl
theorem fk_762 : fkd 762 = 0 := rfl
theorem fk_800 : fkd 800 = 2 := rfl
theorem fk_801 : fkd 801 = 2 := rfl
theorem fk_802 : fkd 802 = 2 := rfl
theorem fk_803 : fkd 803 = 2 := rfl
theorem fk_804 : fkd 804 = 0 := rfl
theorem fk_840 : fkd 840 = 0 := rfl
theorem fk_841 : fkd 841 = 2 := rfl
theorem fk_842 : fkd 842 = 0 := rfl
theorem fk_843 : fkd 843 = 0 := rfl
theorem fk_844 : fkd 844 = 2 := rfl
theorem fk_845 : fkd 845 = 0 := rfl
theorem fk_846 : fkd 846 = 0 := rfl
theorem fk_1120 : fkd 1120 = 1 := rfl
theorem zat_1 : zAt 1 .int := ⟨q255, by decide, by decide, rfl⟩
theorem zat_2 : zAt 2 .byte := ⟨q235, by decide, by decide, rfl⟩
theorem zat_3 : zAt 3 .boolean := ⟨q256, by decide, by decide, rfl⟩
theorem zat_4 : zAt 4 .long := ⟨q234, by decide, by decide, rfl⟩
def ix_0 : MethodName := ⟨"java/util/List", "size", "()I"⟩
theorem iF_0 : ∀ s, kC s → va_Fw RJ2 ix_0 yJ2_size s := fun s h => h.2.2 (ix_0, yJ2_size) (List.mem_of_getElem? (i := 0) rfl)
theorem df_0 : jdF ix_0 0 := ⟨by decide +kernel, by decide +kernel, by decide +kernel⟩
def ix_1 : MethodName := ⟨"java/util/List", "get", "(I)Ljava/lang/Object;"⟩
theorem iF_1 : ∀ s, kC s → va_Fw RJ2 ix_1 yJ2_get s := fun s h => h.2.2 (ix_1, yJ2_get) (List.mem_of_getElem? (i := 1) rfl)
theorem df_1 : jdF ix_1 1 := ⟨by decide +kernel, by decide +kernel, by decide +kernel⟩
def ix_2 : MethodName := ⟨"java/util/List", "add", "(Ljava/lang/Object;)Z"⟩
theorem iF_2 : ∀ s, kC s → va_Fw RJ2 ix_2 yJ2_add s := fun s h => h.2.2 (ix_2, yJ2_add) (List.mem_of_getElem? (i := 2) rfl)
theorem df_2 : jdF ix_2 1 := ⟨by decide +kernel, by decide +kernel, by decide +kernel⟩
def ix_3 : MethodName := ⟨"java/util/List", "addAll", "(Ljava/util/Collection;)Z"⟩
theorem iF_3 : ∀ s, kC s → va_Fw RJ2 ix_3 yJ2_addAll s := fun s h => h.2.2 (ix_3, yJ2_addAll) (List.mem_of_getElem? (i := 3) rfl)
theorem df_3 : jdF ix_3 1 := ⟨by decide +kernel, by decide +kernel, by decide +kernel⟩
def ix_4 : MethodName := ⟨"java/util/List", "set", "(ILjava/lang/Object;)Ljava/lang/Object;"⟩
theorem iF_4 : ∀ s, kC s → va_Fw RJ2 ix_4 yJ2_set s := fun s h => h.2.2 (ix_4, yJ2_set) (List.mem_of_getElem? (i := 4) rfl)
theorem df_4 : jdF ix_4 2 := ⟨by decide +kernel, by decide +kernel, by decide +kernel⟩
def ix_5 : MethodName := ⟨"java/util/Collection", "toArray", "()[Ljava/lang/Object;"⟩
theorem iF_5 : ∀ s, kC s → va_Fw RJ2 ix_5 yJ2_toArray s := fun s h => h.2.2 (ix_5, yJ2_toArray) (List.mem_of_getElem? (i := 5) rfl)
theorem df_5 : jdF ix_5 0 := ⟨by decide +kernel, by decide +kernel, by decide +kernel⟩
def xv_holds : MethodName := ⟨"CoverHouse$Sign", "holds", "(II)Z"⟩
theorem dxv_holds : jdO "CoverHouse$Sign" xv_holds 2 := ⟨by decide +kernel, by decide +kernel, by decide +kernel⟩
def xv_isTrue : MethodName := ⟨"CoverHouse$Cond", "isTrue", "(LCoverHouse$Full;)Z"⟩
theorem dxv_isTrue : jdO "CoverHouse$Cond" xv_isTrue 1 := ⟨by decide +kernel, by decide +kernel, by decide +kernel⟩
def xv_part : MethodName := ⟨"CoverHouse$Cond", "part", "(ILCoverHouse$Starts;)V"⟩
theorem dxv_part : jdO "CoverHouse$Cond" xv_part 2 := ⟨by decide +kernel, by decide +kernel, by decide +kernel⟩
abbrev DJ0_init : MD := (RJ0, cJ0_init, 1, none, "<init>", 1, 20)
theorem dvJ0_init : jdV yJ0_init RJ0 0 := ⟨rfl, by decide +kernel, by decide +kernel, by decide +kernel⟩
abbrev DJ1_init : MD := (RJ1, cJ1_init, 1, none, "<init>", 2, 40)
theorem dvJ1_init : jdV yJ1_init RJ1 0 := ⟨rfl, by decide +kernel, by decide +kernel, by decide +kernel⟩
abbrev DJ8_checkIndex : MD := (RJ8, cJ8_checkIndex, 3, some .int, "checkIndex", 0, 0)
theorem dvJ8_checkIndex : jdV yJ8_checkIndex RJ8 3 := ⟨rfl, by decide +kernel, by decide +kernel, by decide +kernel⟩
abbrev DJ13_checkIndex : MD := (RJ13, cJ13_checkIndex, 2, some .int, "checkIndex", 1, 22)
theorem dvJ13_checkIndex : jdV yJ13_checkIndex RJ13 2 := ⟨rfl, by decide +kernel, by decide +kernel, by decide +kernel⟩
abbrev DJ14_init : MD := (RJ14, cJ14_init, 1, none, "<init>", 1, 20)
theorem dvJ14_init : jdV yJ14_init RJ14 0 := ⟨rfl, by decide +kernel, by decide +kernel, by decide +kernel⟩
abbrev DJ15_longValue : MD := (RJ15, cJ15_longValue, 1, some .long, "longValue", 0, 0)
theorem dvJ15_longValue : jdV yJ15_longValue RJ15 0 := ⟨rfl, by decide +kernel, by decide +kernel, by decide +kernel⟩
abbrev DJ15_init : MD := (RJ15, cJ15_init, 3, none, "<init>", 2, 40)
theorem dvJ15_init : jdV yJ15_init RJ15 1 := ⟨rfl, by decide +kernel, by decide +kernel, by decide +kernel⟩
abbrev DJ15_valueOf : MD := (RJ15, cJ15_valueOf, 3, some (.object "java/lang/Long"), "valueOf", 3, 62)
theorem dvJ15_valueOf : jdV yJ15_valueOf RJ15 1 := ⟨rfl, by decide +kernel, by decide +kernel, by decide +kernel⟩
abbrev DJ16_bitCount : MD := (RJ16, cJ16_bitCount, 1, some .int, "bitCount", 0, 0)
theorem dvJ16_bitCount : jdV yJ16_bitCount RJ16 1 := ⟨rfl, by decide +kernel, by decide +kernel, by decide +kernel⟩
abbrev DJ16_lowestOneBit : MD := (RJ16, cJ16_lowestOneBit, 1, some .int, "lowestOneBit", 0, 0)
theorem dvJ16_lowestOneBit : jdV yJ16_lowestOneBit RJ16 1 := ⟨rfl, by decide +kernel, by decide +kernel, by decide +kernel⟩
abbrev DJ2_init : MD := (RJ2, cJ2_init, 1, none, "<init>", 3, 60)
theorem dvJ2_init : jdV yJ2_init RJ2 0 := ⟨rfl, by decide +kernel, by decide +kernel, by decide +kernel⟩
abbrev DJ5_copyOf_2 : MD := (RJ5, cJ5_copyOf_2, 4, some (.array (.object "java/lang/Object")), "copyOf", 1, 60)
theorem dvJ5_copyOf_2 : jdV yJ5_copyOf_2 RJ5 3 := ⟨rfl, by decide +kernel, by decide +kernel, by decide +kernel⟩
abbrev DJ5_copyOf : MD := (RJ5, cJ5_copyOf, 2, some (.array (.object "java/lang/Object")), "copyOf", 2, 83)
theorem dvJ5_copyOf : jdV yJ5_copyOf RJ5 2 := ⟨rfl, by decide +kernel, by decide +kernel, by decide +kernel⟩
abbrev DJ3_newLength : MD := (RJ3, cJ3_newLength, 4, some .int, "newLength", 1, 24)
theorem dvJ3_newLength : jdV yJ3_newLength RJ3 3 := ⟨rfl, by decide +kernel, by decide +kernel, by decide +kernel⟩
abbrev DJ2_grow_2 : MD := (RJ2, cJ2_grow_2, 4, some (.array (.object "java/lang/Object")), "grow", 3, 104)
theorem dvJ2_grow_2 : jdV yJ2_grow_2 RJ2 1 := ⟨rfl, by decide +kernel, by decide +kernel, by decide +kernel⟩
abbrev DJ2_grow : MD := (RJ2, cJ2_grow, 1, some (.array (.object "java/lang/Object")), "grow", 4, 127)
theorem dvJ2_grow : jdV yJ2_grow RJ2 0 := ⟨rfl, by decide +kernel, by decide +kernel, by decide +kernel⟩
abbrev DJ2_add_2 : MD := (RJ2, cJ2_add_2, 4, none, "add", 5, 147)
theorem dvJ2_add_2 : jdV yJ2_add_2 RJ2 3 := ⟨rfl, by decide +kernel, by decide +kernel, by decide +kernel⟩
abbrev DJ2_add : MD := (RJ2, cJ2_add, 2, some .boolean, "add", 6, 170)
theorem dvJ2_add : jdV yJ2_add RJ2 1 := ⟨rfl, by decide +kernel, by decide +kernel, by decide +kernel⟩
abbrev DJ2_size : MD := (RJ2, cJ2_size, 1, some .int, "size", 0, 0)
theorem dvJ2_size : jdV yJ2_size RJ2 0 := ⟨rfl, by decide +kernel, by decide +kernel, by decide +kernel⟩
abbrev DJ2_elementData : MD := (RJ2, cJ2_elementData, 2, some (.object "java/lang/Object"), "elementData", 0, 0)
theorem dvJ2_elementData : jdV yJ2_elementData RJ2 1 := ⟨rfl, by decide +kernel, by decide +kernel, by decide +kernel⟩
abbrev DJ2_get : MD := (RJ2, cJ2_get, 2, some (.object "java/lang/Object"), "get", 2, 43)
theorem dvJ2_get : jdV yJ2_get RJ2 1 := ⟨rfl, by decide +kernel, by decide +kernel, by decide +kernel⟩
abbrev DJ2_toArray : MD := (RJ2, cJ2_toArray, 1, some (.array (.object "java/lang/Object")), "toArray", 3, 104)
theorem dvJ2_toArray : jdV yJ2_toArray RJ2 0 := ⟨rfl, by decide +kernel, by decide +kernel, by decide +kernel⟩
abbrev DJ2_addAll : MD := (RJ2, cJ2_addAll, 6, some .boolean, "addAll", 4, 127)
theorem dvJ2_addAll : jdV yJ2_addAll RJ2 1 := ⟨rfl, by decide +kernel, by decide +kernel, by decide +kernel⟩
abbrev DJ2_init_2 : MD := (RJ2, cJ2_init_2, 3, none, "<init>", 4, 124)
theorem dvJ2_init_2 : jdV yJ2_init_2 RJ2 1 := ⟨rfl, by decide +kernel, by decide +kernel, by decide +kernel⟩
abbrev DJ2_set : MD := (RJ2, cJ2_set, 4, some (.object "java/lang/Object"), "set", 2, 43)
theorem dvJ2_set : jdV yJ2_set RJ2 2 := ⟨rfl, by decide +kernel, by decide +kernel, by decide +kernel⟩
abbrev D1_init : MD := (RX1, cX1_init, 1, none, "<init>", 1, 20)
theorem dv1_init : jdV yX1_init RX1 0 := ⟨rfl, by decide +kernel, by decide +kernel, by decide +kernel⟩
abbrev D4_init : MD := (RX4, cX4_init, 2, none, "<init>", 1, 20)
theorem dv4_init : jdV yX4_init RX4 1 := ⟨rfl, by decide +kernel, by decide +kernel, by decide +kernel⟩
abbrev D3_init : MD := (RX3, cX3_init, 3, none, "<init>", 7, 191)
theorem dv3_init : jdV yX3_init RX3 1 := ⟨rfl, by decide +kernel, by decide +kernel, by decide +kernel⟩
abbrev D2_init : MD := (RX2, cX2_init, 2, none, "<init>", 1, 20)
theorem dv2_init : jdV yX2_init RX2 1 := ⟨rfl, by decide +kernel, by decide +kernel, by decide +kernel⟩
abbrev D0_init : MD := (RX0, cX0_init, 1, none, "<init>", 8, 213)
theorem dv0_init : jdV yX0_init RX0 0 := ⟨rfl, by decide +kernel, by decide +kernel, by decide +kernel⟩
abbrev D0_type : MD := (RX0, cX0_type, 5, some .int, "type", 0, 0)
theorem dv0_type : jdV yX0_type RX0 2 := ⟨rfl, by decide +kernel, by decide +kernel, by decide +kernel⟩
abbrev D0_place : MD := (RX0, cX0_place, 1, some .int, "place", 0, 0)
theorem dv0_place : jdV yX0_place RX0 0 := ⟨rfl, by decide +kernel, by decide +kernel, by decide +kernel⟩
abbrev D0_failed : MD := (RX0, cX0_failed, 2, some .int, "failed", 0, 0)
theorem dv0_failed : jdV yX0_failed RX0 1 := ⟨rfl, by decide +kernel, by decide +kernel, by decide +kernel⟩
abbrev D8_init : MD := (RX8, cX8_init, 3, none, "<init>", 5, 100)
theorem dv8_init : jdV yX8_init RX8 2 := ⟨rfl, by decide +kernel, by decide +kernel, by decide +kernel⟩
abbrev D11_isTrue (d : Nat) : MD := (RX11, cX11_isTrue, 2, some .boolean, "isTrue", 21 + d, 300 + 40 * d)
theorem dv11_isTrue : jdV yX11_isTrue RX11 1 := ⟨rfl, by decide +kernel, by decide +kernel, by decide +kernel⟩
abbrev D12_isTrue : MD := (RX12, cX12_isTrue, 2, some .boolean, "isTrue", 0, 0)
theorem dv12_isTrue : jdV yX12_isTrue RX12 1 := ⟨rfl, by decide +kernel, by decide +kernel, by decide +kernel⟩
abbrev D13_isTrue : MD := (RX13, cX13_isTrue, 2, some .boolean, "isTrue", 0, 0)
theorem dv13_isTrue : jdV yX13_isTrue RX13 1 := ⟨rfl, by decide +kernel, by decide +kernel, by decide +kernel⟩
abbrev D22_holds : MD := (RX22, cX22_holds, 3, some .boolean, "holds", 0, 0)
theorem dv22_holds : jdV yX22_holds RX22 2 := ⟨rfl, by decide +kernel, by decide +kernel, by decide +kernel⟩
abbrev D23_holds : MD := (RX23, cX23_holds, 3, some .boolean, "holds", 0, 0)
theorem dv23_holds : jdV yX23_holds RX23 2 := ⟨rfl, by decide +kernel, by decide +kernel, by decide +kernel⟩
abbrev D24_holds : MD := (RX24, cX24_holds, 3, some .boolean, "holds", 0, 0)
theorem dv24_holds : jdV yX24_holds RX24 2 := ⟨rfl, by decide +kernel, by decide +kernel, by decide +kernel⟩
abbrev D25_holds : MD := (RX25, cX25_holds, 3, some .boolean, "holds", 0, 0)
theorem dv25_holds : jdV yX25_holds RX25 2 := ⟨rfl, by decide +kernel, by decide +kernel, by decide +kernel⟩
abbrev D26_holds : MD := (RX26, cX26_holds, 3, some .boolean, "holds", 0, 0)
theorem dv26_holds : jdV yX26_holds RX26 2 := ⟨rfl, by decide +kernel, by decide +kernel, by decide +kernel⟩
abbrev D27_holds : MD := (RX27, cX27_holds, 3, some .boolean, "holds", 0, 0)
theorem dv27_holds : jdV yX27_holds RX27 2 := ⟨rfl, by decide +kernel, by decide +kernel, by decide +kernel⟩
abbrev D14_isTrue : MD := (RX14, cX14_isTrue, 2, some .boolean, "isTrue", 21, 300)
theorem dv14_isTrue : jdV yX14_isTrue RX14 1 := ⟨rfl, by decide +kernel, by decide +kernel, by decide +kernel⟩
abbrev D15_isTrue (d : Nat) : MD := (RX15, cX15_isTrue, 3, some .boolean, "isTrue", 21 + d, 300 + 40 * d)
theorem dv15_isTrue : jdV yX15_isTrue RX15 1 := ⟨rfl, by decide +kernel, by decide +kernel, by decide +kernel⟩
abbrev D6_mean : MD := (RX6, cX6_mean, 3, none, "mean", 421, 16300)
theorem dv6_mean : jdV yX6_mean RX6 1 := ⟨rfl, by decide +kernel, by decide +kernel, by decide +kernel⟩
abbrev D6_way : MD := (RX6, cX6_way, 6, none, "way", 3, 64)
theorem dv6_way : jdV yX6_way RX6 2 := ⟨rfl, by decide +kernel, by decide +kernel, by decide +kernel⟩
abbrev D6_answerAll : MD := (RX6, cX6_answerAll, 6, none, "answerAll", 422, 16322)
theorem dv6_answerAll : jdV yX6_answerAll RX6 1 := ⟨rfl, by decide +kernel, by decide +kernel, by decide +kernel⟩
abbrev D6_countNodes : MD := (RX6, cX6_countNodes, 2, some .int, "countNodes", 3, 64)
theorem dv6_countNodes : jdV yX6_countNodes RX6 0 := ⟨rfl, by decide +kernel, by decide +kernel, by decide +kernel⟩
abbrev D4_begin : MD := (RX4, cX4_begin, 3, none, "begin", 0, 0)
theorem dv4_begin : jdV yX4_begin RX4 1 := ⟨rfl, by decide +kernel, by decide +kernel, by decide +kernel⟩
abbrev D4_cutOut : MD := (RX4, cX4_cutOut, 3, some (.object "CoverHouse$Starts"), "cutOut", 2, 41)
theorem dv4_cutOut : jdV yX4_cutOut RX4 0 := ⟨rfl, by decide +kernel, by decide +kernel, by decide +kernel⟩
abbrev D11_part (d : Nat) : MD := (RX11, cX11_part, 3, none, "part", 21 + d, 300 + 40 * d)
theorem dv11_part : jdV yX11_part RX11 2 := ⟨rfl, by decide +kernel, by decide +kernel, by decide +kernel⟩
abbrev D10_part : MD := (RX10, cX10_part, 3, none, "part", 0, 0)
theorem dv10_part : jdV yX10_part RX10 2 := ⟨rfl, by decide +kernel, by decide +kernel, by decide +kernel⟩
abbrev D4_add : MD := (RX4, cX4_add, 4, none, "add", 0, 0)
theorem dv4_add : jdV yX4_add RX4 1 := ⟨rfl, by decide +kernel, by decide +kernel, by decide +kernel⟩
abbrev D14_part : MD := (RX14, cX14_part, 3, none, "part", 1, 23)
theorem dv14_part : jdV yX14_part RX14 2 := ⟨rfl, by decide +kernel, by decide +kernel, by decide +kernel⟩
abbrev D15_part (d : Nat) : MD := (RX15, cX15_part, 4, none, "part", 21 + d, 300 + 40 * d)
theorem dv15_part : jdV yX15_part RX15 2 := ⟨rfl, by decide +kernel, by decide +kernel, by decide +kernel⟩
abbrev D6_part : MD := (RX6, cX6_part, 4, none, "part", 421, 16300)
theorem dv6_part : jdV yX6_part RX6 2 := ⟨rfl, by decide +kernel, by decide +kernel, by decide +kernel⟩
abbrev D6_isParted : MD := (RX6, cX6_isParted, 6, some .boolean, "isParted", 422, 16323)
theorem dv6_isParted : jdV yX6_isParted RX6 1 := ⟨rfl, by decide +kernel, by decide +kernel, by decide +kernel⟩
abbrev D0_finish : MD := (RX0, cX0_finish, 2, some .int, "finish", 423, 16348)
theorem dv0_finish : jdV yX0_finish RX0 1 := ⟨rfl, by decide +kernel, by decide +kernel, by decide +kernel⟩
abbrev D0_isWord : MD := (RX0, cX0_isWord, 4, some .boolean, "isWord", 0, 0)
theorem dv0_isWord : jdV yX0_isWord RX0 1 := ⟨rfl, by decide +kernel, by decide +kernel, by decide +kernel⟩
abbrev D7_isFigure : MD := (RX7, cX7_isFigure, 2, some .boolean, "isFigure", 0, 0)
theorem dv7_isFigure : jdV yX7_isFigure RX7 1 := ⟨rfl, by decide +kernel, by decide +kernel, by decide +kernel⟩
abbrev D7_isLetter : MD := (RX7, cX7_isLetter, 2, some .boolean, "isLetter", 0, 0)
theorem dv7_isLetter : jdV yX7_isLetter RX7 1 := ⟨rfl, by decide +kernel, by decide +kernel, by decide +kernel⟩
abbrev D7_octet : MD := (RX7, cX7_octet, 2, some .int, "octet", 0, 0)
theorem dv7_octet : jdV yX7_octet RX7 1 := ⟨rfl, by decide +kernel, by decide +kernel, by decide +kernel⟩
abbrev D7_pass : MD := (RX7, cX7_pass, 3, none, "pass", 1, 21)
theorem dv7_pass : jdV yX7_pass RX7 0 := ⟨rfl, by decide +kernel, by decide +kernel, by decide +kernel⟩
abbrev D7_sign : MD := (RX7, cX7_sign, 4, none, "sign", 6, 122)
theorem dv7_sign : jdV yX7_sign RX7 1 := ⟨rfl, by decide +kernel, by decide +kernel, by decide +kernel⟩
abbrev D7_next : MD := (RX7, cX7_next, 2, none, "next", 7, 145)
theorem dv7_next : jdV yX7_next RX7 0 := ⟨rfl, by decide +kernel, by decide +kernel, by decide +kernel⟩
abbrev D7_init : MD := (RX7, cX7_init, 4, none, "<init>", 8, 166)
theorem dv7_init : jdV yX7_init RX7 3 := ⟨rfl, by decide +kernel, by decide +kernel, by decide +kernel⟩
abbrev D16_init : MD := (RX16, cX16_init, 4, none, "<init>", 1, 20)
theorem dv16_init : jdV yX16_init RX16 3 := ⟨rfl, by decide +kernel, by decide +kernel, by decide +kernel⟩
abbrev D10_init : MD := (RX10, cX10_init, 1, none, "<init>", 1, 20)
theorem dv10_init : jdV yX10_init RX10 0 := ⟨rfl, by decide +kernel, by decide +kernel, by decide +kernel⟩
abbrev D11_init : MD := (RX11, cX11_init, 2, none, "<init>", 2, 40)
theorem dv11_init : jdV yX11_init RX11 1 := ⟨rfl, by decide +kernel, by decide +kernel, by decide +kernel⟩
abbrev D7_deeper : MD := (RX7, cX7_deeper, 1, none, "deeper", 8, 166)
theorem dv7_deeper : jdV yX7_deeper RX7 0 := ⟨rfl, by decide +kernel, by decide +kernel, by decide +kernel⟩
abbrev D7_is : MD := (RX7, cX7_is, 3, some .boolean, "is", 0, 0)
theorem dv7_is : jdV yX7_is RX7 1 := ⟨rfl, by decide +kernel, by decide +kernel, by decide +kernel⟩
abbrev D7_isSign : MD := (RX7, cX7_isSign, 2, some .boolean, "isSign", 0, 0)
theorem dv7_isSign : jdV yX7_isSign RX7 1 := ⟨rfl, by decide +kernel, by decide +kernel, by decide +kernel⟩
abbrev D9_choice : MD := (RX9, cX9_choice, 4, some .int, "choice", 0, 0)
theorem dv9_choice : jdV yX9_choice RX9 1 := ⟨rfl, by decide +kernel, by decide +kernel, by decide +kernel⟩
abbrev D13_init : MD := (RX13, cX13_init, 4, none, "<init>", 2, 40)
theorem dv13_init : jdV yX13_init RX13 3 := ⟨rfl, by decide +kernel, by decide +kernel, by decide +kernel⟩
abbrev D12_init : MD := (RX12, cX12_init, 2, none, "<init>", 2, 40)
theorem dv12_init : jdV yX12_init RX12 1 := ⟨rfl, by decide +kernel, by decide +kernel, by decide +kernel⟩
abbrev D14_init : MD := (RX14, cX14_init, 4, none, "<init>", 2, 40)
theorem dv14_init : jdV yX14_init RX14 3 := ⟨rfl, by decide +kernel, by decide +kernel, by decide +kernel⟩
abbrev D7_node : MD := (RX7, cX7_node, 1, none, "node", 6, 122)
theorem dv7_node : jdV yX7_node RX7 0 := ⟨rfl, by decide +kernel, by decide +kernel, by decide +kernel⟩
abbrev D7_wantKind : MD := (RX7, cX7_wantKind, 2, none, "wantKind", 6, 122)
theorem dv7_wantKind : jdV yX7_wantKind RX7 1 := ⟨rfl, by decide +kernel, by decide +kernel, by decide +kernel⟩
abbrev D7_number : MD := (RX7, cX7_number, 4, some .int, "number", 8, 166)
theorem dv7_number : jdV yX7_number RX7 2 := ⟨rfl, by decide +kernel, by decide +kernel, by decide +kernel⟩
abbrev D7_signAtHand : MD := (RX7, cX7_signAtHand, 1, some (.object "CoverHouse$Sign"), "signAtHand", 0, 0)
theorem dv7_signAtHand : jdV yX7_signAtHand RX7 0 := ⟨rfl, by decide +kernel, by decide +kernel, by decide +kernel⟩
abbrev D6_fact : MD := (RX6, cX6_fact, 4, some .int, "fact", 3, 64)
theorem dv6_fact : jdV yX6_fact RX6 1 := ⟨rfl, by decide +kernel, by decide +kernel, by decide +kernel⟩
abbrev D6_meaning : MD := (RX6, cX6_meaning, 4, some .int, "meaning", 3, 64)
theorem dv6_meaning : jdV yX6_meaning RX6 1 := ⟨rfl, by decide +kernel, by decide +kernel, by decide +kernel⟩
abbrev D7_named : MD := (RX7, cX7_named, 6, some (.object "CoverHouse$Cond"), "named", 9, 189)
theorem dv7_named : jdV yX7_named RX7 0 := ⟨rfl, by decide +kernel, by decide +kernel, by decide +kernel⟩
abbrev D7_want : MD := (RX7, cX7_want, 2, none, "want", 8, 166)
theorem dv7_want : jdV yX7_want RX7 1 := ⟨rfl, by decide +kernel, by decide +kernel, by decide +kernel⟩
abbrev D7_part (d : Nat) : MD := (RX7, cX7_part, 2, some (.object "CoverHouse$Cond"), "part", 20 + d, 300 + 60 * d)
theorem dv7_part : jdV yX7_part RX7 0 := ⟨rfl, by decide +kernel, by decide +kernel, by decide +kernel⟩
abbrev D15_init : MD := (RX15, cX15_init, 2, none, "<init>", 4, 80)
theorem dv15_init : jdV yX15_init RX15 1 := ⟨rfl, by decide +kernel, by decide +kernel, by decide +kernel⟩
abbrev D7_many (d : Nat) : MD := (RX7, cX7_many, 6, some (.object "CoverHouse$Cond"), "many", 20 + d, 300 + 60 * d)
theorem dv7_many : jdV yX7_many RX7 1 := ⟨rfl, by decide +kernel, by decide +kernel, by decide +kernel⟩
abbrev D7_cond (d : Nat) : MD := (RX7, cX7_cond, 1, some (.object "CoverHouse$Cond"), "cond", 20 + d, 300 + 60 * d)
theorem dv7_cond : jdV yX7_cond RX7 0 := ⟨rfl, by decide +kernel, by decide +kernel, by decide +kernel⟩
abbrev D7_clause : MD := (RX7, cX7_clause, 4, some (.object "CoverHouse$Clause"), "clause", 121, 6320)
theorem dv7_clause : jdV yX7_clause RX7 0 := ⟨rfl, by decide +kernel, by decide +kernel, by decide +kernel⟩
abbrev D9_init : MD := (RX9, cX9_init, 4, none, "<init>", 1, 20)
theorem dv9_init : jdV yX9_init RX9 2 := ⟨rfl, by decide +kernel, by decide +kernel, by decide +kernel⟩
abbrev D7_choices : MD := (RX7, cX7_choices, 2, none, "choices", 8, 166)
theorem dv7_choices : jdV yX7_choices RX7 1 := ⟨rfl, by decide +kernel, by decide +kernel, by decide +kernel⟩
abbrev D7_newName : MD := (RX7, cX7_newName, 1, some .long, "newName", 7, 143)
theorem dv7_newName : jdV yX7_newName RX7 0 := ⟨rfl, by decide +kernel, by decide +kernel, by decide +kernel⟩
abbrev D7_fact : MD := (RX7, cX7_fact, 4, none, "fact", 9, 191)
theorem dv7_fact : jdV yX7_fact RX7 0 := ⟨rfl, by decide +kernel, by decide +kernel, by decide +kernel⟩
abbrev D7_isClause : MD := (RX7, cX7_isClause, 1, some .boolean, "isClause", 1, 22)
theorem dv7_isClause : jdV yX7_isClause RX7 0 := ⟨rfl, by decide +kernel, by decide +kernel, by decide +kernel⟩
abbrev D7_meaning : MD := (RX7, cX7_meaning, 5, none, "meaning", 121, 6320)
theorem dv7_meaning : jdV yX7_meaning RX7 0 := ⟨rfl, by decide +kernel, by decide +kernel, by decide +kernel⟩
abbrev D7_most : MD := (RX7, cX7_most, 3, none, "most", 9, 189)
theorem dv7_most : jdV yX7_most RX7 0 := ⟨rfl, by decide +kernel, by decide +kernel, by decide +kernel⟩
abbrev D7_priceKind : MD := (RX7, cX7_priceKind, 1, some .int, "priceKind", 1, 22)
theorem dv7_priceKind : jdV yX7_priceKind RX7 0 := ⟨rfl, by decide +kernel, by decide +kernel, by decide +kernel⟩
abbrev D17_init : MD := (RX17, cX17_init, 4, none, "<init>", 1, 20)
theorem dv17_init : jdV yX17_init RX17 3 := ⟨rfl, by decide +kernel, by decide +kernel, by decide +kernel⟩
abbrev D7_timesBehind : MD := (RX7, cX7_timesBehind, 3, some .int, "timesBehind", 3, 64)
theorem dv7_timesBehind : jdV yX7_timesBehind RX7 0 := ⟨rfl, by decide +kernel, by decide +kernel, by decide +kernel⟩
abbrev D7_priceRow : MD := (RX7, cX7_priceRow, 5, none, "priceRow", 121, 6320)
theorem dv7_priceRow : jdV yX7_priceRow RX7 1 := ⟨rfl, by decide +kernel, by decide +kernel, by decide +kernel⟩
abbrev D7_sum : MD := (RX7, cX7_sum, 4, some .int, "sum", 9, 189)
theorem dv7_sum : jdV yX7_sum RX7 2 := ⟨rfl, by decide +kernel, by decide +kernel, by decide +kernel⟩
abbrev D7_item : MD := (RX7, cX7_item, 2, none, "item", 122, 6344)
theorem dv7_item : jdV yX7_item RX7 0 := ⟨rfl, by decide +kernel, by decide +kernel, by decide +kernel⟩
abbrev D7_wording : MD := (RX7, cX7_wording, 1, none, "wording", 123, 6365)
theorem dv7_wording : jdV yX7_wording RX7 0 := ⟨rfl, by decide +kernel, by decide +kernel, by decide +kernel⟩
abbrev D6_init : MD := (RX6, cX6_init, 1, none, "<init>", 4, 80)
theorem dv6_init : jdV yX6_init RX6 0 := ⟨rfl, by decide +kernel, by decide +kernel, by decide +kernel⟩
abbrev D0_wording : MD := (RX0, cX0_wording, 3, some .int, "wording", 424, 16369)
theorem dv0_wording : jdV yX0_wording RX0 0 := ⟨rfl, by decide +kernel, by decide +kernel, by decide +kernel⟩
abbrev D0_isWording : MD := (RX0, cX0_isWording, 2, some .boolean, "isWording", 1, 20)
theorem dv0_isWording : jdV yX0_isWording RX0 1 := ⟨rfl, by decide +kernel, by decide +kernel, by decide +kernel⟩
abbrev D0_the : MD := (RX0, cX0_the, 2, some (.object "CoverHouse$Wording"), "the", 3, 64)
theorem dv0_the : jdV yX0_the RX0 1 := ⟨rfl, by decide +kernel, by decide +kernel, by decide +kernel⟩
abbrev D7_endorsement : MD := (RX7, cX7_endorsement, 7, none, "endorsement", 122, 6343)
theorem dv7_endorsement : jdV yX7_endorsement RX7 1 := ⟨rfl, by decide +kernel, by decide +kernel, by decide +kernel⟩
abbrev D6_takeOver : MD := (RX6, cX6_takeOver, 3, none, "takeOver", 5, 152)
theorem dv6_takeOver : jdV yX6_takeOver RX6 1 := ⟨rfl, by decide +kernel, by decide +kernel, by decide +kernel⟩
abbrev D0_endorse : MD := (RX0, cX0_endorse, 4, some .int, "endorse", 424, 16369)
theorem dv0_endorse : jdV yX0_endorse RX0 1 := ⟨rfl, by decide +kernel, by decide +kernel, by decide +kernel⟩
abbrev D0_wordingPart : MD := (RX0, cX0_wordingPart, 4, some .int, "wordingPart", 4, 85)
theorem dv0_wordingPart : jdV yX0_wordingPart RX0 2 := ⟨rfl, by decide +kernel, by decide +kernel, by decide +kernel⟩
abbrev D0_factPart : MD := (RX0, cX0_factPart, 5, some .int, "factPart", 4, 85)
theorem dv0_factPart : jdV yX0_factPart RX0 3 := ⟨rfl, by decide +kernel, by decide +kernel, by decide +kernel⟩
abbrev D0_clause : MD := (RX0, cX0_clause, 3, some .int, "clause", 4, 85)
theorem dv0_clause : jdV yX0_clause RX0 2 := ⟨rfl, by decide +kernel, by decide +kernel, by decide +kernel⟩
abbrev D3_keep : MD := (RX3, cX3_keep, 3, none, "keep", 0, 0)
theorem dv3_keep : jdV yX3_keep RX3 1 := ⟨rfl, by decide +kernel, by decide +kernel, by decide +kernel⟩
abbrev D3_way : MD := (RX3, cX3_way, 5, none, "way", 3, 64)
theorem dv3_way : jdV yX3_way RX3 1 := ⟨rfl, by decide +kernel, by decide +kernel, by decide +kernel⟩
abbrev D4_cell : MD := (RX4, cX4_cell, 3, some .int, "cell", 0, 0)
theorem dv4_cell : jdV yX4_cell RX4 1 := ⟨rfl, by decide +kernel, by decide +kernel, by decide +kernel⟩
abbrev D6_number : MD := (RX6, cX6_number, 4, some .int, "number", 3, 64)
theorem dv6_number : jdV yX6_number RX6 1 := ⟨rfl, by decide +kernel, by decide +kernel, by decide +kernel⟩
abbrev D3_compare : MD := (RX3, cX3_compare, 6, some .int, "compare", 4, 88)
theorem dv3_compare : jdV yX3_compare RX3 2 := ⟨rfl, by decide +kernel, by decide +kernel, by decide +kernel⟩
abbrev D3_isParted : MD := (RX3, cX3_isParted, 6, some .boolean, "isParted", 422, 16323)
theorem dv3_isParted : jdV yX3_isParted RX3 3 := ⟨rfl, by decide +kernel, by decide +kernel, by decide +kernel⟩
abbrev D9_isLike : MD := (RX9, cX9_isLike, 3, some .boolean, "isLike", 0, 0)
theorem dv9_isLike : jdV yX9_isLike RX9 1 := ⟨rfl, by decide +kernel, by decide +kernel, by decide +kernel⟩
abbrev D6_isComparable : MD := (RX6, cX6_isComparable, 3, some .boolean, "isComparable", 3, 64)
theorem dv6_isComparable : jdV yX6_isComparable RX6 1 := ⟨rfl, by decide +kernel, by decide +kernel, by decide +kernel⟩
abbrev D0_compare : MD := (RX0, cX0_compare, 3, some .int, "compare", 423, 16348)
theorem dv0_compare : jdV yX0_compare RX0 2 := ⟨rfl, by decide +kernel, by decide +kernel, by decide +kernel⟩
abbrev D0_apart : MD := (RX0, cX0_apart, 3, some .int, "apart", 0, 0)
theorem dv0_apart : jdV yX0_apart RX0 2 := ⟨rfl, by decide +kernel, by decide +kernel, by decide +kernel⟩
abbrev D3_judge : MD := (RX3, cX3_judge, 6, some .int, "judge", 422, 16322)
theorem dv3_judge : jdV yX3_judge RX3 3 := ⟨rfl, by decide +kernel, by decide +kernel, by decide +kernel⟩
abbrev D7_law : MD := (RX7, cX7_law, 2, some .int, "law", 121, 6320)
theorem dv7_law : jdV yX7_law RX7 0 := ⟨rfl, by decide +kernel, by decide +kernel, by decide +kernel⟩
abbrev D0_judge : MD := (RX0, cX0_judge, 4, some .int, "judge", 423, 16348)
theorem dv0_judge : jdV yX0_judge RX0 1 := ⟨rfl, by decide +kernel, by decide +kernel, by decide +kernel⟩
abbrev D0_shown : MD := (RX0, cX0_shown, 2, some .int, "shown", 0, 0)
theorem dv0_shown : jdV yX0_shown RX0 1 := ⟨rfl, by decide +kernel, by decide +kernel, by decide +kernel⟩
abbrev D19_init : MD := (RX19, cX19_init, 2, none, "<init>", 1, 20)
theorem dv19_init : jdV yX19_init RX19 1 := ⟨rfl, by decide +kernel, by decide +kernel, by decide +kernel⟩
abbrev D18_init : MD := (RX18, cX18_init, 3, none, "<init>", 7, 191)
theorem dv18_init : jdV yX18_init RX18 1 := ⟨rfl, by decide +kernel, by decide +kernel, by decide +kernel⟩
abbrev D0_event : MD := (RX0, cX0_event, 2, some .int, "event", 8, 213)
theorem dv0_event : jdV yX0_event RX0 1 := ⟨rfl, by decide +kernel, by decide +kernel, by decide +kernel⟩
abbrev D0_isDay : MD := (RX0, cX0_isDay, 1, some .boolean, "isDay", 0, 0)
theorem dv0_isDay : jdV yX0_isDay RX0 1 := ⟨rfl, by decide +kernel, by decide +kernel, by decide +kernel⟩
abbrev D0_isEvent : MD := (RX0, cX0_isEvent, 2, some .boolean, "isEvent", 1, 20)
theorem dv0_isEvent : jdV yX0_isEvent RX0 1 := ⟨rfl, by decide +kernel, by decide +kernel, by decide +kernel⟩
abbrev D0_isFact : MD := (RX0, cX0_isFact, 3, some .boolean, "isFact", 3, 64)
theorem dv0_isFact : jdV yX0_isFact RX0 2 := ⟨rfl, by decide +kernel, by decide +kernel, by decide +kernel⟩
abbrev D9_has : MD := (RX9, cX9_has, 2, some .boolean, "has", 0, 0)
theorem dv9_has : jdV yX9_has RX9 1 := ⟨rfl, by decide +kernel, by decide +kernel, by decide +kernel⟩
abbrev D19_add : MD := (RX19, cX19_add, 3, none, "add", 0, 0)
theorem dv19_add : jdV yX19_add RX19 2 := ⟨rfl, by decide +kernel, by decide +kernel, by decide +kernel⟩
abbrev D0_tell : MD := (RX0, cX0_tell, 6, some .int, "tell", 4, 86)
theorem dv0_tell : jdV yX0_tell RX0 4 := ⟨rfl, by decide +kernel, by decide +kernel, by decide +kernel⟩
abbrev D19_on : MD := (RX19, cX19_on, 5, some .int, "on", 0, 0)
theorem dv19_on : jdV yX19_on RX19 2 := ⟨rfl, by decide +kernel, by decide +kernel, by decide +kernel⟩
abbrev D0_fact : MD := (RX0, cX0_fact, 4, some .int, "fact", 4, 86)
theorem dv0_fact : jdV yX0_fact RX0 3 := ⟨rfl, by decide +kernel, by decide +kernel, by decide +kernel⟩
abbrev D2_set : MD := (RX2, cX2_set, 7, none, "set", 3, 64)
theorem dv2_set : jdV yX2_set RX2 3 := ⟨rfl, by decide +kernel, by decide +kernel, by decide +kernel⟩
abbrev D0_look : MD := (RX0, cX0_look, 4, some .int, "look", 4, 90)
theorem dv0_look : jdV yX0_look RX0 2 := ⟨rfl, by decide +kernel, by decide +kernel, by decide +kernel⟩
abbrev D2_answer : MD := (RX2, cX2_answer, 1, some .int, "answer", 0, 0)
theorem dv2_answer : jdV yX2_answer RX2 0 := ⟨rfl, by decide +kernel, by decide +kernel, by decide +kernel⟩
abbrev D2_isOne : MD := (RX2, cX2_isOne, 4, some .boolean, "isOne", 3, 64)
theorem dv2_isOne : jdV yX2_isOne RX2 2 := ⟨rfl, by decide +kernel, by decide +kernel, by decide +kernel⟩
abbrev D2_count : MD := (RX2, cX2_count, 3, none, "count", 4, 87)
theorem dv2_count : jdV yX2_count RX2 1 := ⟨rfl, by decide +kernel, by decide +kernel, by decide +kernel⟩
abbrev D2_answerBy : MD := (RX2, cX2_answerBy, 2, some .int, "answerBy", 5, 109)
theorem dv2_answerBy : jdV yX2_answerBy RX2 1 := ⟨rfl, by decide +kernel, by decide +kernel, by decide +kernel⟩
abbrev D0_covers : MD := (RX0, cX0_covers, 4, some .int, "covers", 6, 130)
theorem dv0_covers : jdV yX0_covers RX0 2 := ⟨rfl, by decide +kernel, by decide +kernel, by decide +kernel⟩
abbrev D2_isBefore : MD := (RX2, cX2_isBefore, 4, some .boolean, "isBefore", 1, 20)
theorem dv2_isBefore : jdV yX2_isBefore RX2 2 := ⟨rfl, by decide +kernel, by decide +kernel, by decide +kernel⟩
abbrev D2_settles : MD := (RX2, cX2_settles, 5, some .boolean, "settles", 4, 87)
theorem dv2_settles : jdV yX2_settles RX2 1 := ⟨rfl, by decide +kernel, by decide +kernel, by decide +kernel⟩
abbrev D2_least : MD := (RX2, cX2_least, 6, some .int, "least", 6, 130)
theorem dv2_least : jdV yX2_least RX2 1 := ⟨rfl, by decide +kernel, by decide +kernel, by decide +kernel⟩
abbrev D0_settles : MD := (RX0, cX0_settles, 4, some .int, "settles", 7, 155)
theorem dv0_settles : jdV yX0_settles RX0 2 := ⟨rfl, by decide +kernel, by decide +kernel, by decide +kernel⟩
abbrev D0_because : MD := (RX0, cX0_because, 4, some .int, "because", 7, 155)
theorem dv0_because : jdV yX0_because RX0 2 := ⟨rfl, by decide +kernel, by decide +kernel, by decide +kernel⟩
abbrev D0_decider : MD := (RX0, cX0_decider, 7, some .int, "decider", 5, 113)
theorem dv0_decider : jdV yX0_decider RX0 2 := ⟨rfl, by decide +kernel, by decide +kernel, by decide +kernel⟩
abbrev D0_ways : MD := (RX0, cX0_ways, 4, some .int, "ways", 5, 113)
theorem dv0_ways : jdV yX0_ways RX0 3 := ⟨rfl, by decide +kernel, by decide +kernel, by decide +kernel⟩
abbrev D0_rounded : MD := (RX0, cX0_rounded, 9, some .long, "rounded", 0, 0)
theorem dv0_rounded : jdV yX0_rounded RX0 2 := ⟨rfl, by decide +kernel, by decide +kernel, by decide +kernel⟩
abbrev D2_truth : MD := (RX2, cX2_truth, 5, some .int, "truth", 422, 16322)
theorem dv2_truth : jdV yX2_truth RX2 1 := ⟨rfl, by decide +kernel, by decide +kernel, by decide +kernel⟩
abbrev D0_price : MD := (RX0, cX0_price, 12, some .int, "price", 423, 16346)
theorem dv0_price : jdV yX0_price RX0 2 := ⟨rfl, by decide +kernel, by decide +kernel, by decide +kernel⟩
abbrev D20_init : MD := (RX20, cX20_init, 1, none, "<init>", 1, 20)
theorem dv20_init : jdV yX20_init RX20 0 := ⟨rfl, by decide +kernel, by decide +kernel, by decide +kernel⟩
abbrev D0_policy : MD := (RX0, cX0_policy, 1, some .int, "policy", 7, 191)
theorem dv0_policy : jdV yX0_policy RX0 0 := ⟨rfl, by decide +kernel, by decide +kernel, by decide +kernel⟩
abbrev D0_isPolicy : MD := (RX0, cX0_isPolicy, 2, some .boolean, "isPolicy", 1, 20)
theorem dv0_isPolicy : jdV yX0_isPolicy RX0 1 := ⟨rfl, by decide +kernel, by decide +kernel, by decide +kernel⟩
abbrev D0_change : MD := (RX0, cX0_change, 7, some .int, "change", 3, 64)
theorem dv0_change : jdV yX0_change RX0 5 := ⟨rfl, by decide +kernel, by decide +kernel, by decide +kernel⟩
abbrev D20_on : MD := (RX20, cX20_on, 7, some .int, "on", 0, 0)
theorem dv20_on : jdV yX20_on RX20 3 := ⟨rfl, by decide +kernel, by decide +kernel, by decide +kernel⟩
abbrev D0_holds : MD := (RX0, cX0_holds, 5, some .int, "holds", 3, 64)
theorem dv0_holds : jdV yX0_holds RX0 4 := ⟨rfl, by decide +kernel, by decide +kernel, by decide +kernel⟩
abbrev D21_init : MD := (RX21, cX21_init, 5, none, "<init>", 2, 41)
theorem dv21_init : jdV yX21_init RX21 4 := ⟨rfl, by decide +kernel, by decide +kernel, by decide +kernel⟩
abbrev D0_claim : MD := (RX0, cX0_claim, 5, some .int, "claim", 7, 191)
theorem dv0_claim : jdV yX0_claim RX0 4 := ⟨rfl, by decide +kernel, by decide +kernel, by decide +kernel⟩
abbrev D0_isClaim : MD := (RX0, cX0_isClaim, 2, some .boolean, "isClaim", 1, 20)
theorem dv0_isClaim : jdV yX0_isClaim RX0 1 := ⟨rfl, by decide +kernel, by decide +kernel, by decide +kernel⟩
abbrev D0_loss : MD := (RX0, cX0_loss, 5, some .int, "loss", 3, 64)
theorem dv0_loss : jdV yX0_loss RX0 3 := ⟨rfl, by decide +kernel, by decide +kernel, by decide +kernel⟩
abbrev D0_walk : MD := (RX0, cX0_walk, 7, some .int, "walk", 3, 64)
theorem dv0_walk : jdV yX0_walk RX0 2 := ⟨rfl, by decide +kernel, by decide +kernel, by decide +kernel⟩
abbrev D0_bounded : MD := (RX0, cX0_bounded, 5, some .long, "bounded", 1, 24)
theorem dv0_bounded : jdV yX0_bounded RX0 3 := ⟨rfl, by decide +kernel, by decide +kernel, by decide +kernel⟩
abbrev D0_worth : MD := (RX0, cX0_worth, 12, some .long, "worth", 6, 130)
theorem dv0_worth : jdV yX0_worth RX0 5 := ⟨rfl, by decide +kernel, by decide +kernel, by decide +kernel⟩
abbrev D0_payAll : MD := (RX0, cX0_payAll, 12, none, "payAll", 7, 161)
theorem dv0_payAll : jdV yX0_payAll RX0 2 := ⟨rfl, by decide +kernel, by decide +kernel, by decide +kernel⟩
abbrev D0_pay : MD := (RX0, cX0_pay, 3, some .int, "pay", 8, 192)
theorem dv0_pay : jdV yX0_pay RX0 2 := ⟨rfl, by decide +kernel, by decide +kernel, by decide +kernel⟩
abbrev D0_used : MD := (RX0, cX0_used, 8, some .long, "used", 8, 192)
theorem dv0_used : jdV yX0_used RX0 3 := ⟨rfl, by decide +kernel, by decide +kernel, by decide +kernel⟩
abbrev D0_treaty : MD := (RX0, cX0_treaty, 4, some .int, "treaty", 0, 0)
theorem dv0_treaty : jdV yX0_treaty RX0 3 := ⟨rfl, by decide +kernel, by decide +kernel, by decide +kernel⟩
abbrev D0_taken : MD := (RX0, cX0_taken, 7, some .int, "taken", 1, 24)
theorem dv0_taken : jdV yX0_taken RX0 2 := ⟨rfl, by decide +kernel, by decide +kernel, by decide +kernel⟩
abbrev D0_ceded : MD := (RX0, cX0_ceded, 5, some .int, "ceded", 9, 214)
theorem dv0_ceded : jdV yX0_ceded RX0 3 := ⟨rfl, by decide +kernel, by decide +kernel, by decide +kernel⟩
abbrev D0_book : MD := (RX0, cX0_book, 5, none, "book", 0, 0)
theorem dv0_book : jdV yX0_book RX0 4 := ⟨rfl, by decide +kernel, by decide +kernel, by decide +kernel⟩
abbrev D0_close : MD := (RX0, cX0_close, 7, some .int, "close", 8, 192)
theorem dv0_close : jdV yX0_close RX0 1 := ⟨rfl, by decide +kernel, by decide +kernel, by decide +kernel⟩
abbrev D0_row : MD := (RX0, cX0_row, 3, some .int, "row", 0, 0)
theorem dv0_row : jdV yX0_row RX0 2 := ⟨rfl, by decide +kernel, by decide +kernel, by decide +kernel⟩
abbrev D0_balance : MD := (RX0, cX0_balance, 5, some .long, "balance", 0, 0)
theorem dv0_balance : jdV yX0_balance RX0 1 := ⟨rfl, by decide +kernel, by decide +kernel, by decide +kernel⟩
abbrev D0_gridAt : MD := (RX0, cX0_gridAt, 7, some .long, "gridAt", 8, 192)
theorem dv0_gridAt : jdV yX0_gridAt RX0 2 := ⟨rfl, by decide +kernel, by decide +kernel, by decide +kernel⟩
abbrev D0_paid : MD := (RX0, cX0_paid, 3, some .long, "paid", 9, 218)
theorem dv0_paid : jdV yX0_paid RX0 2 := ⟨rfl, by decide +kernel, by decide +kernel, by decide +kernel⟩
abbrev D0_end : MD := (RX0, cX0_end, 11, some .long, "end", 9, 218)
theorem dv0_end : jdV yX0_end RX0 2 := ⟨rfl, by decide +kernel, by decide +kernel, by decide +kernel⟩
abbrev D0_size : MD := (RX0, cX0_size, 4, some .int, "size", 0, 0)
theorem dv0_size : jdV yX0_size RX0 2 := ⟨rfl, by decide +kernel, by decide +kernel, by decide +kernel⟩
abbrev D0_count : MD := (RX0, cX0_count, 4, some .int, "count", 0, 0)
theorem dv0_count : jdV yX0_count RX0 2 := ⟨rfl, by decide +kernel, by decide +kernel, by decide +kernel⟩
abbrev D0_fold : MD := (RX0, cX0_fold, 3, none, "fold", 0, 0)
theorem dv0_fold : jdV yX0_fold RX0 0 := ⟨rfl, by decide +kernel, by decide +kernel, by decide +kernel⟩
abbrev D0_findMasses : MD := (RX0, cX0_findMasses, 5, none, "findMasses", 1, 22)
theorem dv0_findMasses : jdV yX0_findMasses RX0 0 := ⟨rfl, by decide +kernel, by decide +kernel, by decide +kernel⟩
abbrev D0_mass : MD := (RX0, cX0_mass, 5, some .long, "mass", 2, 46)
theorem dv0_mass : jdV yX0_mass RX0 1 := ⟨rfl, by decide +kernel, by decide +kernel, by decide +kernel⟩
abbrev D0_quantile : MD := (RX0, cX0_quantile, 8, some .int, "quantile", 3, 70)
theorem dv0_quantile : jdV yX0_quantile RX0 2 := ⟨rfl, by decide +kernel, by decide +kernel, by decide +kernel⟩
abbrev D0_beyond : MD := (RX0, cX0_beyond, 5, some .long, "beyond", 2, 46)
theorem dv0_beyond : jdV yX0_beyond RX0 1 := ⟨rfl, by decide +kernel, by decide +kernel, by decide +kernel⟩
abbrev D0_told : MD := (RX0, cX0_told, 2, some .int, "told", 1, 20)
theorem dv0_told : jdV yX0_told RX0 1 := ⟨rfl, by decide +kernel, by decide +kernel, by decide +kernel⟩
def HR7 (G : CG) (A : Nat → Prop) (l : Launch) (d : Nat) (rc : RC7) : Prop := (∀ (r9 : Option Nat) (u9 : Sg) (v9 : (Nat ⊕ Option Nat) × Sg) (c9 n9 : Nat), rc 0 r9 0 u9 = some (v9, c9, n9) → JMT G A l yX7_cond (D7_cond d) [pR r9] u9 (omR v9.1) v9.2 c9 n9) ∧ (∀ (r9 : Option Nat) (y9 : Int) (u9 : Sg) (v9 : (Nat ⊕ Option Nat) × Sg) (c9 n9 : Nat), rc 1 r9 y9 u9 = some (v9, c9, n9) → JMT G A l yX7_many (D7_many d) [pR r9, pI y9] u9 (omR v9.1) v9.2 c9 n9) ∧ (∀ (r9 : Option Nat) (u9 : Sg) (v9 : (Nat ⊕ Option Nat) × Sg) (c9 n9 : Nat), rc 2 r9 0 u9 = some (v9, c9, n9) → JMT G A l yX7_part (D7_part d) [pR r9] u9 (omR v9.1) v9.2 c9 n9)
