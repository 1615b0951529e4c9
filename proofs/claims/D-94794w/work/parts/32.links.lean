/-! CONSTANTS AND FIELD LINKS (written by gen/all.py). -/
set_option maxRecDepth 100000
theorem kb_10 : (Int8.ofInt (10)).toInt32 = 10 := by decide +kernel
theorem kb_100 : (Int8.ofInt (100)).toInt32 = 100 := by decide +kernel
theorem kb_104 : (Int8.ofInt (104)).toInt32 = 104 := by decide +kernel
theorem kb_105 : (Int8.ofInt (105)).toInt32 = 105 := by decide +kernel
theorem kb_108 : (Int8.ofInt (108)).toInt32 = 108 := by decide +kernel
theorem kb_11 : (Int8.ofInt (11)).toInt32 = 11 := by decide +kernel
theorem kb_110 : (Int8.ofInt (110)).toInt32 = 110 := by decide +kernel
theorem kb_111 : (Int8.ofInt (111)).toInt32 = 111 := by decide +kernel
theorem kb_112 : (Int8.ofInt (112)).toInt32 = 112 := by decide +kernel
theorem kb_115 : (Int8.ofInt (115)).toInt32 = 115 := by decide +kernel
theorem kb_116 : (Int8.ofInt (116)).toInt32 = 116 := by decide +kernel
theorem kb_12 : (Int8.ofInt (12)).toInt32 = 12 := by decide +kernel
theorem kb_120 : (Int8.ofInt (120)).toInt32 = 120 := by decide +kernel
theorem kb_14 : (Int8.ofInt (14)).toInt32 = 14 := by decide +kernel
theorem kb_15 : (Int8.ofInt (15)).toInt32 = 15 := by decide +kernel
theorem kb_16 : (Int8.ofInt (16)).toInt32 = 16 := by decide +kernel
theorem kb_20 : (Int8.ofInt (20)).toInt32 = 20 := by decide +kernel
theorem kb_21 : (Int8.ofInt (21)).toInt32 = 21 := by decide +kernel
theorem kb_24 : (Int8.ofInt (24)).toInt32 = 24 := by decide +kernel
theorem kb_28 : (Int8.ofInt (28)).toInt32 = 28 := by decide +kernel
theorem kb_30 : (Int8.ofInt (30)).toInt32 = 30 := by decide +kernel
theorem kb_31 : (Int8.ofInt (31)).toInt32 = 31 := by decide +kernel
theorem kb_40 : (Int8.ofInt (40)).toInt32 = 40 := by decide +kernel
theorem kb_41 : (Int8.ofInt (41)).toInt32 = 41 := by decide +kernel
theorem kb_42 : (Int8.ofInt (42)).toInt32 = 42 := by decide +kernel
theorem kb_43 : (Int8.ofInt (43)).toInt32 = 43 := by decide +kernel
theorem kb_44 : (Int8.ofInt (44)).toInt32 = 44 := by decide +kernel
theorem kb_45 : (Int8.ofInt (45)).toInt32 = 45 := by decide +kernel
theorem kb_47 : (Int8.ofInt (47)).toInt32 = 47 := by decide +kernel
theorem kb_48 : (Int8.ofInt (48)).toInt32 = 48 := by decide +kernel
theorem kb_49 : (Int8.ofInt (49)).toInt32 = 49 := by decide +kernel
theorem kb_57 : (Int8.ofInt (57)).toInt32 = 57 := by decide +kernel
theorem kb_59 : (Int8.ofInt (59)).toInt32 = 59 := by decide +kernel
theorem kb_6 : (Int8.ofInt (6)).toInt32 = 6 := by decide +kernel
theorem kb_60 : (Int8.ofInt (60)).toInt32 = 60 := by decide +kernel
theorem kb_61 : (Int8.ofInt (61)).toInt32 = 61 := by decide +kernel
theorem kb_62 : (Int8.ofInt (62)).toInt32 = 62 := by decide +kernel
theorem kb_63 : (Int8.ofInt (63)).toInt32 = 63 := by decide +kernel
theorem kb_7 : (Int8.ofInt (7)).toInt32 = 7 := by decide +kernel
theorem kb_70 : (Int8.ofInt (70)).toInt32 = 70 := by decide +kernel
theorem kb_71 : (Int8.ofInt (71)).toInt32 = 71 := by decide +kernel
theorem kb_76 : (Int8.ofInt (76)).toInt32 = 76 := by decide +kernel
theorem kb_8 : (Int8.ofInt (8)).toInt32 = 8 := by decide +kernel
theorem kb_80 : (Int8.ofInt (80)).toInt32 = 80 := by decide +kernel
theorem kb_9 : (Int8.ofInt (9)).toInt32 = 9 := by decide +kernel
theorem kb_96 : (Int8.ofInt (96)).toInt32 = 96 := by decide +kernel
theorem kb_97 : (Int8.ofInt (97)).toInt32 = 97 := by decide +kernel
theorem kb_98 : (Int8.ofInt (98)).toInt32 = 98 := by decide +kernel
theorem kb_99 : (Int8.ofInt (99)).toInt32 = 99 := by decide +kernel
theorem kb_m10 : (Int8.ofInt (-10)).toInt32 = (-10) := by decide +kernel
theorem kb_m2 : (Int8.ofInt (-2)).toInt32 = (-2) := by decide +kernel
theorem kb_m3 : (Int8.ofInt (-3)).toInt32 = (-3) := by decide +kernel
theorem ki_0 : Int32.ofInt (0) = 0 := by decide +kernel
theorem ki_1 : Int32.ofInt (1) = 1 := by decide +kernel
theorem ki_2 : Int32.ofInt (2) = 2 := by decide +kernel
theorem ki_3 : Int32.ofInt (3) = 3 := by decide +kernel
theorem ki_4 : Int32.ofInt (4) = 4 := by decide +kernel
theorem ki_5 : Int32.ofInt (5) = 5 := by decide +kernel
theorem ki_m1 : Int32.ofInt (-1) = (-1) := by decide +kernel
theorem kl_0 : Int64.ofNat ((0 : Fin 2) : Nat) = (0 : Int32).toInt64 := by decide +kernel
theorem kl_1 : Int64.ofNat ((1 : Fin 2) : Nat) = (1 : Int32).toInt64 := by decide +kernel
theorem ks_12345 : (Int16.ofInt (12345)).toInt32 = 12345 := by decide +kernel
theorem ks_128 : (Int16.ofInt (128)).toInt32 = 128 := by decide +kernel
theorem ks_142 : (Int16.ofInt (142)).toInt32 = 142 := by decide +kernel
theorem ks_255 : (Int16.ofInt (255)).toInt32 = 255 := by decide +kernel
theorem ks_320 : (Int16.ofInt (320)).toInt32 = 320 := by decide +kernel
theorem ks_781 : (Int16.ofInt (781)).toInt32 = 781 := by decide +kernel
theorem ks_852 : (Int16.ofInt (852)).toInt32 = 852 := by decide +kernel
theorem ks_999 : (Int16.ofInt (999)).toInt32 = 999 := by decide +kernel
theorem ks_9999 : (Int16.ofInt (9999)).toInt32 = 9999 := by decide +kernel
theorem kw_20 : (20 : Int32).toInt64 = (20 : Int64) := by decide +kernel
theorem kw_3 : (3 : Int32).toInt64 = (3 : Int64) := by decide +kernel
theorem kw_30 : (30 : Int32).toInt64 = (30 : Int64) := by decide +kernel
theorem kw_40 : (40 : Int32).toInt64 = (40 : Int64) := by decide +kernel
theorem kw_48 : (48 : Int32).toInt64 = (48 : Int64) := by decide +kernel
theorem kw_57 : (57 : Int32).toInt64 = (57 : Int64) := by decide +kernel
theorem kw_6 : (6 : Int32).toInt64 = (6 : Int64) := by decide +kernel
theorem kw_60 : (60 : Int32).toInt64 = (60 : Int64) := by decide +kernel
theorem kw_99 : (99 : Int32).toInt64 = (99 : Int64) := by decide +kernel
theorem kw_999 : (999 : Int32).toInt64 = (999 : Int64) := by decide +kernel
theorem kw_9999 : (9999 : Int32).toInt64 = (9999 : Int64) := by decide +kernel
theorem flF_X1_12 : zfldF RX1 12 0 52 0 := ⟨RX1, TX1, zcls0, (Nat.le_of_ble_eq_true rfl), rfl, q150, nmX1, rfl, rfl⟩
theorem flF_X1_16 : zfldF RX1 16 0 52 1 := ⟨RX1, TX1, zcls0, (Nat.le_of_ble_eq_true rfl), rfl, q151, nmX1, rfl, rfl⟩
theorem flF_X1_19 : zfldF RX1 19 0 52 2 := ⟨RX1, TX1, zcls0, (Nat.le_of_ble_eq_true rfl), rfl, q152, nmX1, rfl, rfl⟩
theorem flF_X1_22 : zfldF RX1 22 0 52 3 := ⟨RX1, TX1, zcls0, (Nat.le_of_ble_eq_true rfl), rfl, q153, nmX1, rfl, rfl⟩
theorem flF_X1_26 : zfldF RX1 26 0 52 4 := ⟨RX1, TX1, zcls0, (Nat.le_of_ble_eq_true rfl), rfl, q155, nmX1, rfl, rfl⟩
theorem flF_X1_29 : zfldF RX1 29 0 52 5 := ⟨RX1, TX1, zcls0, (Nat.le_of_ble_eq_true rfl), rfl, q156, nmX1, rfl, rfl⟩
theorem flF_X1_32 : zfldF RX1 32 0 52 6 := ⟨RX1, TX1, zcls0, (Nat.le_of_ble_eq_true rfl), rfl, q157, nmX1, rfl, rfl⟩
theorem flF_X1_35 : zfldF RX1 35 0 52 9 := ⟨RX1, TX1, zcls0, (Nat.le_of_ble_eq_true rfl), rfl, q160, nmX1, rfl, rfl⟩
theorem flF_X1_38 : zfldF RX1 38 0 52 14 := ⟨RX1, TX1, zcls0, (Nat.le_of_ble_eq_true rfl), rfl, q165, nmX1, rfl, rfl⟩
theorem flF_X1_41 : zfldF RX1 41 0 52 15 := ⟨RX1, TX1, zcls0, (Nat.le_of_ble_eq_true rfl), rfl, q166, nmX1, rfl, rfl⟩
theorem flF_X1_44 : zfldF RX1 44 0 52 16 := ⟨RX1, TX1, zcls0, (Nat.le_of_ble_eq_true rfl), rfl, q167, nmX1, rfl, rfl⟩
theorem flF_X1_47 : zfldF RX1 47 0 52 18 := ⟨RX1, TX1, zcls0, (Nat.le_of_ble_eq_true rfl), rfl, q169, nmX1, rfl, rfl⟩
theorem flF_X1_50 : zfldF RX1 50 0 52 27 := ⟨RX1, TX1, zcls0, (Nat.le_of_ble_eq_true rfl), rfl, q185, nmX1, rfl, rfl⟩
theorem flF_X1_54 : zfldF RX1 54 0 52 30 := ⟨RX1, TX1, zcls0, (Nat.le_of_ble_eq_true rfl), rfl, q188, nmX1, rfl, rfl⟩
theorem flF_X1_57 : zfldF RX1 57 0 52 31 := ⟨RX1, TX1, zcls0, (Nat.le_of_ble_eq_true rfl), rfl, q189, nmX1, rfl, rfl⟩
theorem flF_X1_60 : zfldF RX1 60 0 52 32 := ⟨RX1, TX1, zcls0, (Nat.le_of_ble_eq_true rfl), rfl, q190, nmX1, rfl, rfl⟩
theorem flF_X1_63 : zfldF RX1 63 0 52 33 := ⟨RX1, TX1, zcls0, (Nat.le_of_ble_eq_true rfl), rfl, q191, nmX1, rfl, rfl⟩
theorem flF_X1_66 : zfldF RX1 66 0 52 35 := ⟨RX1, TX1, zcls0, (Nat.le_of_ble_eq_true rfl), rfl, q193, nmX1, rfl, rfl⟩
theorem flF_X1_69 : zfldF RX1 69 0 52 37 := ⟨RX1, TX1, zcls0, (Nat.le_of_ble_eq_true rfl), rfl, q195, nmX1, rfl, rfl⟩
theorem flF_X1_72 : zfldF RX1 72 0 52 38 := ⟨RX1, TX1, zcls0, (Nat.le_of_ble_eq_true rfl), rfl, q196, nmX1, rfl, rfl⟩
theorem flF_X1_75 : zfldF RX1 75 0 52 39 := ⟨RX1, TX1, zcls0, (Nat.le_of_ble_eq_true rfl), rfl, q197, nmX1, rfl, rfl⟩
theorem flF_X1_78 : zfldF RX1 78 0 52 40 := ⟨RX1, TX1, zcls0, (Nat.le_of_ble_eq_true rfl), rfl, q198, nmX1, rfl, rfl⟩
theorem flF_X1_81 : zfldF RX1 81 0 52 45 := ⟨RX1, TX1, zcls0, (Nat.le_of_ble_eq_true rfl), rfl, q203, nmX1, rfl, rfl⟩
theorem flF_X1_84 : zfldF RX1 84 0 52 46 := ⟨RX1, TX1, zcls0, (Nat.le_of_ble_eq_true rfl), rfl, q204, nmX1, rfl, rfl⟩
theorem flF_X1_87 : zfldF RX1 87 0 52 48 := ⟨RX1, TX1, zcls0, (Nat.le_of_ble_eq_true rfl), rfl, q206, nmX1, rfl, rfl⟩
theorem flF_X1_90 : zfldF RX1 90 0 52 49 := ⟨RX1, TX1, zcls0, (Nat.le_of_ble_eq_true rfl), rfl, q207, nmX1, rfl, rfl⟩
theorem flF_X1_93 : zfldF RX1 93 0 52 50 := ⟨RX1, TX1, zcls0, (Nat.le_of_ble_eq_true rfl), rfl, q208, nmX1, rfl, rfl⟩
theorem flF_X2_15 : zfldF RX2 15 1 6 1 := ⟨RX2, TX2, zcls1, (Nat.le_of_ble_eq_true rfl), rfl, q125, nmX2, rfl, rfl⟩
theorem flF_X2_18 : zfldF RX2 18 1 6 2 := ⟨RX2, TX2, zcls1, (Nat.le_of_ble_eq_true rfl), rfl, q127, nmX2, rfl, rfl⟩
theorem flF_X2_21 : zfldF RX2 21 1 6 3 := ⟨RX2, TX2, zcls1, (Nat.le_of_ble_eq_true rfl), rfl, q129, nmX2, rfl, rfl⟩
theorem flF_X2_9 : zfldF RX2 9 1 6 0 := ⟨RX2, TX2, zcls1, (Nat.le_of_ble_eq_true rfl), rfl, q123, nmX2, rfl, rfl⟩
theorem flF_X3_13 : zfldF RX3 13 2 52 2 := ⟨RX3, TX3, zcls2, (Nat.le_of_ble_eq_true rfl), rfl, q1041, nmX3, rfl, rfl⟩
theorem flF_X3_16 : zfldF RX3 16 2 52 3 := ⟨RX3, TX3, zcls2, (Nat.le_of_ble_eq_true rfl), rfl, q1042, nmX3, rfl, rfl⟩
theorem flF_X3_19 : zfldF RX3 19 2 52 4 := ⟨RX3, TX3, zcls2, (Nat.le_of_ble_eq_true rfl), rfl, q1043, nmX3, rfl, rfl⟩
theorem flF_X3_22 : zfldF RX3 22 2 52 5 := ⟨RX3, TX3, zcls2, (Nat.le_of_ble_eq_true rfl), rfl, q1044, nmX3, rfl, rfl⟩
theorem flF_X3_25 : zfldF RX3 25 2 52 7 := ⟨RX3, TX3, zcls2, (Nat.le_of_ble_eq_true rfl), rfl, q1046, nmX3, rfl, rfl⟩
theorem flF_X3_29 : zfldF RX3 29 2 52 9 := ⟨RX3, TX3, zcls2, (Nat.le_of_ble_eq_true rfl), rfl, q1048, nmX3, rfl, rfl⟩
theorem flF_X3_32 : zfldF RX3 32 2 52 17 := ⟨RX3, TX3, zcls2, (Nat.le_of_ble_eq_true rfl), rfl, q1056, nmX3, rfl, rfl⟩
theorem flF_X3_35 : zfldF RX3 35 2 52 18 := ⟨RX3, TX3, zcls2, (Nat.le_of_ble_eq_true rfl), rfl, q1057, nmX3, rfl, rfl⟩
theorem flF_X3_38 : zfldF RX3 38 2 52 29 := ⟨RX3, TX3, zcls2, (Nat.le_of_ble_eq_true rfl), rfl, q1068, nmX3, rfl, rfl⟩
theorem flF_X3_41 : zfldF RX3 41 2 52 31 := ⟨RX3, TX3, zcls2, (Nat.le_of_ble_eq_true rfl), rfl, q1070, nmX3, rfl, rfl⟩
theorem flF_X3_44 : zfldF RX3 44 2 52 33 := ⟨RX3, TX3, zcls2, (Nat.le_of_ble_eq_true rfl), rfl, q1072, nmX3, rfl, rfl⟩
theorem flF_X3_47 : zfldF RX3 47 2 52 34 := ⟨RX3, TX3, zcls2, (Nat.le_of_ble_eq_true rfl), rfl, q1073, nmX3, rfl, rfl⟩
theorem flF_X3_50 : zfldF RX3 50 2 52 35 := ⟨RX3, TX3, zcls2, (Nat.le_of_ble_eq_true rfl), rfl, q1074, nmX3, rfl, rfl⟩
theorem flF_X3_53 : zfldF RX3 53 2 52 36 := ⟨RX3, TX3, zcls2, (Nat.le_of_ble_eq_true rfl), rfl, q1075, nmX3, rfl, rfl⟩
theorem flF_X3_56 : zfldF RX3 56 2 52 38 := ⟨RX3, TX3, zcls2, (Nat.le_of_ble_eq_true rfl), rfl, q1077, nmX3, rfl, rfl⟩
theorem flF_X3_59 : zfldF RX3 59 2 52 39 := ⟨RX3, TX3, zcls2, (Nat.le_of_ble_eq_true rfl), rfl, q1078, nmX3, rfl, rfl⟩
theorem flF_X3_62 : zfldF RX3 62 2 52 40 := ⟨RX3, TX3, zcls2, (Nat.le_of_ble_eq_true rfl), rfl, q1079, nmX3, rfl, rfl⟩
theorem flF_X3_65 : zfldF RX3 65 2 52 41 := ⟨RX3, TX3, zcls2, (Nat.le_of_ble_eq_true rfl), rfl, q1080, nmX3, rfl, rfl⟩
theorem flF_X3_68 : zfldF RX3 68 2 52 42 := ⟨RX3, TX3, zcls2, (Nat.le_of_ble_eq_true rfl), rfl, q1081, nmX3, rfl, rfl⟩
theorem flF_X3_71 : zfldF RX3 71 2 52 43 := ⟨RX3, TX3, zcls2, (Nat.le_of_ble_eq_true rfl), rfl, q1082, nmX3, rfl, rfl⟩
theorem flF_X3_74 : zfldF RX3 74 2 52 46 := ⟨RX3, TX3, zcls2, (Nat.le_of_ble_eq_true rfl), rfl, q1085, nmX3, rfl, rfl⟩
theorem flF_X3_77 : zfldF RX3 77 2 52 49 := ⟨RX3, TX3, zcls2, (Nat.le_of_ble_eq_true rfl), rfl, q1088, nmX3, rfl, rfl⟩
theorem flF_X3_80 : zfldF RX3 80 2 52 50 := ⟨RX3, TX3, zcls2, (Nat.le_of_ble_eq_true rfl), rfl, q1089, nmX3, rfl, rfl⟩
theorem flF_X3_84 : zfldF RX3 84 2 52 51 := ⟨RX3, TX3, zcls2, (Nat.le_of_ble_eq_true rfl), rfl, q1090, nmX3, rfl, rfl⟩
theorem flF_X3_9 : zfldF RX3 9 2 52 0 := ⟨RX3, TX3, zcls2, (Nat.le_of_ble_eq_true rfl), rfl, q1039, nmX3, rfl, rfl⟩
theorem flP_X5_1 : zfldP RX5 1 3 3 2 := ⟨RX5, TX5, zcls3, (Nat.le_of_ble_eq_true rfl), rfl, q497, by decide +kernel, by decide +kernel⟩
theorem flP_X5_13 : zfldP RX5 13 3 3 1 := ⟨RX5, TX5, zcls3, (Nat.le_of_ble_eq_true rfl), rfl, q496, by decide +kernel, by decide +kernel⟩
theorem flP_X6_1 : zfldP RX6 1 4 3 2 := ⟨RX6, TX6, zcls4, (Nat.le_of_ble_eq_true rfl), rfl, q513, by decide +kernel, by decide +kernel⟩
theorem flP_X6_13 : zfldP RX6 13 4 3 1 := ⟨RX6, TX6, zcls4, (Nat.le_of_ble_eq_true rfl), rfl, q512, by decide +kernel, by decide +kernel⟩
theorem flP_X7_1 : zfldP RX7 1 5 3 2 := ⟨RX7, TX7, zcls5, (Nat.le_of_ble_eq_true rfl), rfl, q528, by decide +kernel, by decide +kernel⟩
theorem flP_X7_13 : zfldP RX7 13 5 3 1 := ⟨RX7, TX7, zcls5, (Nat.le_of_ble_eq_true rfl), rfl, q527, by decide +kernel, by decide +kernel⟩
theorem flP_X8_1 : zfldP RX8 1 6 5 4 := ⟨RX8, TX8, zcls6, (Nat.le_of_ble_eq_true rfl), rfl, q550, by decide +kernel, by decide +kernel⟩
theorem flP_X8_13 : zfldP RX8 13 6 5 1 := ⟨RX8, TX8, zcls6, (Nat.le_of_ble_eq_true rfl), rfl, q547, by decide +kernel, by decide +kernel⟩
theorem flP_X8_17 : zfldP RX8 17 6 5 2 := ⟨RX8, TX8, zcls6, (Nat.le_of_ble_eq_true rfl), rfl, q548, by decide +kernel, by decide +kernel⟩
theorem flP_X8_21 : zfldP RX8 21 6 5 3 := ⟨RX8, TX8, zcls6, (Nat.le_of_ble_eq_true rfl), rfl, q549, by decide +kernel, by decide +kernel⟩
theorem flW_X1_108 : zfldW RX1 108 0 52 8 := ⟨RX1, TX1, zcls0, (Nat.le_of_ble_eq_true rfl), rfl, (Or.inl q159), nmX1, rfl⟩
theorem flW_X1_121 : zfldW RX1 121 0 52 10 := ⟨RX1, TX1, zcls0, (Nat.le_of_ble_eq_true rfl), rfl, (Or.inl q161), nmX1, rfl⟩
theorem flW_X1_124 : zfldW RX1 124 0 52 11 := ⟨RX1, TX1, zcls0, (Nat.le_of_ble_eq_true rfl), rfl, (Or.inl q162), nmX1, rfl⟩
theorem flW_X1_127 : zfldW RX1 127 0 52 13 := ⟨RX1, TX1, zcls0, (Nat.le_of_ble_eq_true rfl), rfl, (Or.inl q164), nmX1, rfl⟩
theorem flW_X1_133 : zfldW RX1 133 0 52 12 := ⟨RX1, TX1, zcls0, (Nat.le_of_ble_eq_true rfl), rfl, (Or.inl q163), nmX1, rfl⟩
theorem flW_X1_153 : zfldW RX1 153 0 52 17 := ⟨RX1, TX1, zcls0, (Nat.le_of_ble_eq_true rfl), rfl, (Or.inl q168), nmX1, rfl⟩
theorem flW_X1_173 : zfldW RX1 173 0 52 28 := ⟨RX1, TX1, zcls0, (Nat.le_of_ble_eq_true rfl), rfl, (Or.inl q186), nmX1, rfl⟩
theorem flW_X1_231 : zfldW RX1 231 0 52 26 := ⟨RX1, TX1, zcls0, (Nat.le_of_ble_eq_true rfl), rfl, (Or.inl q184), nmX1, rfl⟩
theorem flW_X1_264 : zfldW RX1 264 0 52 51 := ⟨RX1, TX1, zcls0, (Nat.le_of_ble_eq_true rfl), rfl, (Or.inl q209), nmX1, rfl⟩
theorem flW_X1_285 : zfldW RX1 285 1 6 5 := ⟨RX2, TX2, zcls1, (Nat.le_of_ble_eq_true rfl), rfl, (Or.inr (List.mem_of_getElem? (i := 6) rfl)), nmX2, rfl⟩
theorem flW_X1_288 : zfldW RX1 288 0 52 29 := ⟨RX1, TX1, zcls0, (Nat.le_of_ble_eq_true rfl), rfl, (Or.inl q187), nmX1, rfl⟩
theorem flW_X1_291 : zfldW RX1 291 0 52 19 := ⟨RX1, TX1, zcls0, (Nat.le_of_ble_eq_true rfl), rfl, (Or.inl q171), nmX1, rfl⟩
theorem flW_X1_294 : zfldW RX1 294 0 52 20 := ⟨RX1, TX1, zcls0, (Nat.le_of_ble_eq_true rfl), rfl, (Or.inl q173), nmX1, rfl⟩
theorem flW_X1_297 : zfldW RX1 297 1 6 4 := ⟨RX2, TX2, zcls1, (Nat.le_of_ble_eq_true rfl), rfl, (Or.inr (List.mem_of_getElem? (i := 5) rfl)), nmX2, rfl⟩
theorem flW_X1_303 : zfldW RX1 303 0 52 21 := ⟨RX1, TX1, zcls0, (Nat.le_of_ble_eq_true rfl), rfl, (Or.inl q175), nmX1, rfl⟩
theorem flW_X1_306 : zfldW RX1 306 0 52 22 := ⟨RX1, TX1, zcls0, (Nat.le_of_ble_eq_true rfl), rfl, (Or.inl q177), nmX1, rfl⟩
theorem flW_X1_309 : zfldW RX1 309 0 52 23 := ⟨RX1, TX1, zcls0, (Nat.le_of_ble_eq_true rfl), rfl, (Or.inl q179), nmX1, rfl⟩
theorem flW_X1_312 : zfldW RX1 312 0 52 24 := ⟨RX1, TX1, zcls0, (Nat.le_of_ble_eq_true rfl), rfl, (Or.inl q181), nmX1, rfl⟩
theorem flW_X1_315 : zfldW RX1 315 0 52 25 := ⟨RX1, TX1, zcls0, (Nat.le_of_ble_eq_true rfl), rfl, (Or.inl q183), nmX1, rfl⟩
theorem flW_X1_365 : zfldW RX1 365 0 52 34 := ⟨RX1, TX1, zcls0, (Nat.le_of_ble_eq_true rfl), rfl, (Or.inl q192), nmX1, rfl⟩
theorem flW_X1_381 : zfldW RX1 381 0 52 36 := ⟨RX1, TX1, zcls0, (Nat.le_of_ble_eq_true rfl), rfl, (Or.inl q194), nmX1, rfl⟩
theorem flW_X1_417 : zfldW RX1 417 0 52 41 := ⟨RX1, TX1, zcls0, (Nat.le_of_ble_eq_true rfl), rfl, (Or.inl q199), nmX1, rfl⟩
theorem flW_X1_420 : zfldW RX1 420 0 52 42 := ⟨RX1, TX1, zcls0, (Nat.le_of_ble_eq_true rfl), rfl, (Or.inl q200), nmX1, rfl⟩
theorem flW_X1_430 : zfldW RX1 430 0 52 43 := ⟨RX1, TX1, zcls0, (Nat.le_of_ble_eq_true rfl), rfl, (Or.inl q201), nmX1, rfl⟩
theorem flW_X1_433 : zfldW RX1 433 0 52 44 := ⟨RX1, TX1, zcls0, (Nat.le_of_ble_eq_true rfl), rfl, (Or.inl q202), nmX1, rfl⟩
theorem flW_X1_445 : zfldW RX1 445 0 52 47 := ⟨RX1, TX1, zcls0, (Nat.le_of_ble_eq_true rfl), rfl, (Or.inl q205), nmX1, rfl⟩
theorem flW_X1_96 : zfldW RX1 96 0 52 7 := ⟨RX1, TX1, zcls0, (Nat.le_of_ble_eq_true rfl), rfl, (Or.inl q158), nmX1, rfl⟩
theorem flW_X2_30 : zfldW RX2 30 1 6 4 := ⟨RX2, TX2, zcls1, (Nat.le_of_ble_eq_true rfl), rfl, (Or.inl q131), nmX2, rfl⟩
theorem flW_X2_37 : zfldW RX2 37 1 6 5 := ⟨RX2, TX2, zcls1, (Nat.le_of_ble_eq_true rfl), rfl, (Or.inl q133), nmX2, rfl⟩
theorem flW_X3_105 : zfldW RX3 105 2 52 8 := ⟨RX3, TX3, zcls2, (Nat.le_of_ble_eq_true rfl), rfl, (Or.inl q1047), nmX3, rfl⟩
theorem flW_X3_108 : zfldW RX3 108 2 52 12 := ⟨RX3, TX3, zcls2, (Nat.le_of_ble_eq_true rfl), rfl, (Or.inl q1051), nmX3, rfl⟩
theorem flW_X3_111 : zfldW RX3 111 2 52 13 := ⟨RX3, TX3, zcls2, (Nat.le_of_ble_eq_true rfl), rfl, (Or.inl q1052), nmX3, rfl⟩
theorem flW_X3_114 : zfldW RX3 114 2 52 14 := ⟨RX3, TX3, zcls2, (Nat.le_of_ble_eq_true rfl), rfl, (Or.inl q1053), nmX3, rfl⟩
theorem flW_X3_117 : zfldW RX3 117 2 52 15 := ⟨RX3, TX3, zcls2, (Nat.le_of_ble_eq_true rfl), rfl, (Or.inl q1054), nmX3, rfl⟩
theorem flW_X3_120 : zfldW RX3 120 2 52 16 := ⟨RX3, TX3, zcls2, (Nat.le_of_ble_eq_true rfl), rfl, (Or.inl q1055), nmX3, rfl⟩
theorem flW_X3_151 : zfldW RX3 151 2 52 32 := ⟨RX3, TX3, zcls2, (Nat.le_of_ble_eq_true rfl), rfl, (Or.inl q1071), nmX3, rfl⟩
theorem flW_X3_154 : zfldW RX3 154 2 52 48 := ⟨RX3, TX3, zcls2, (Nat.le_of_ble_eq_true rfl), rfl, (Or.inl q1087), nmX3, rfl⟩
theorem flW_X3_157 : zfldW RX3 157 2 52 6 := ⟨RX3, TX3, zcls2, (Nat.le_of_ble_eq_true rfl), rfl, (Or.inl q1045), nmX3, rfl⟩
theorem flW_X3_183 : zfldW RX3 183 2 52 20 := ⟨RX3, TX3, zcls2, (Nat.le_of_ble_eq_true rfl), rfl, (Or.inl q1059), nmX3, rfl⟩
theorem flW_X3_190 : zfldW RX3 190 2 52 21 := ⟨RX3, TX3, zcls2, (Nat.le_of_ble_eq_true rfl), rfl, (Or.inl q1060), nmX3, rfl⟩
theorem flW_X3_193 : zfldW RX3 193 2 52 22 := ⟨RX3, TX3, zcls2, (Nat.le_of_ble_eq_true rfl), rfl, (Or.inl q1061), nmX3, rfl⟩
theorem flW_X3_196 : zfldW RX3 196 2 52 23 := ⟨RX3, TX3, zcls2, (Nat.le_of_ble_eq_true rfl), rfl, (Or.inl q1062), nmX3, rfl⟩
theorem flW_X3_202 : zfldW RX3 202 2 52 24 := ⟨RX3, TX3, zcls2, (Nat.le_of_ble_eq_true rfl), rfl, (Or.inl q1063), nmX3, rfl⟩
theorem flW_X3_205 : zfldW RX3 205 2 52 26 := ⟨RX3, TX3, zcls2, (Nat.le_of_ble_eq_true rfl), rfl, (Or.inl q1065), nmX3, rfl⟩
theorem flW_X3_208 : zfldW RX3 208 2 52 25 := ⟨RX3, TX3, zcls2, (Nat.le_of_ble_eq_true rfl), rfl, (Or.inl q1064), nmX3, rfl⟩
theorem flW_X3_211 : zfldW RX3 211 2 52 19 := ⟨RX3, TX3, zcls2, (Nat.le_of_ble_eq_true rfl), rfl, (Or.inl q1058), nmX3, rfl⟩
theorem flW_X3_237 : zfldW RX3 237 2 52 27 := ⟨RX3, TX3, zcls2, (Nat.le_of_ble_eq_true rfl), rfl, (Or.inl q1066), nmX3, rfl⟩
theorem flW_X3_240 : zfldW RX3 240 2 52 28 := ⟨RX3, TX3, zcls2, (Nat.le_of_ble_eq_true rfl), rfl, (Or.inl q1067), nmX3, rfl⟩
theorem flW_X3_243 : zfldW RX3 243 2 52 30 := ⟨RX3, TX3, zcls2, (Nat.le_of_ble_eq_true rfl), rfl, (Or.inl q1069), nmX3, rfl⟩
theorem flW_X3_296 : zfldW RX3 296 2 52 37 := ⟨RX3, TX3, zcls2, (Nat.le_of_ble_eq_true rfl), rfl, (Or.inl q1076), nmX3, rfl⟩
theorem flW_X3_339 : zfldW RX3 339 2 52 44 := ⟨RX3, TX3, zcls2, (Nat.le_of_ble_eq_true rfl), rfl, (Or.inl q1083), nmX3, rfl⟩
theorem flW_X3_342 : zfldW RX3 342 2 52 45 := ⟨RX3, TX3, zcls2, (Nat.le_of_ble_eq_true rfl), rfl, (Or.inl q1084), nmX3, rfl⟩
theorem flW_X3_354 : zfldW RX3 354 2 52 47 := ⟨RX3, TX3, zcls2, (Nat.le_of_ble_eq_true rfl), rfl, (Or.inl q1086), nmX3, rfl⟩
theorem flW_X3_87 : zfldW RX3 87 2 52 11 := ⟨RX3, TX3, zcls2, (Nat.le_of_ble_eq_true rfl), rfl, (Or.inl q1050), nmX3, rfl⟩
theorem flW_X3_91 : zfldW RX3 91 2 52 10 := ⟨RX3, TX3, zcls2, (Nat.le_of_ble_eq_true rfl), rfl, (Or.inl q1049), nmX3, rfl⟩
theorem flW_X3_94 : zfldW RX3 94 2 52 1 := ⟨RX3, TX3, zcls2, (Nat.le_of_ble_eq_true rfl), rfl, (Or.inl q1040), nmX3, rfl⟩
theorem fl_X1_108 : zfld RX1 108 0 52 8 := ⟨RX1, TX1, zcls0, (Nat.le_of_ble_eq_true rfl), rfl, (Or.inl q159)⟩
theorem fl_X1_12 : zfld RX1 12 0 52 0 := ⟨RX1, TX1, zcls0, (Nat.le_of_ble_eq_true rfl), rfl, (Or.inl q150)⟩
theorem fl_X1_121 : zfld RX1 121 0 52 10 := ⟨RX1, TX1, zcls0, (Nat.le_of_ble_eq_true rfl), rfl, (Or.inl q161)⟩
theorem fl_X1_124 : zfld RX1 124 0 52 11 := ⟨RX1, TX1, zcls0, (Nat.le_of_ble_eq_true rfl), rfl, (Or.inl q162)⟩
theorem fl_X1_127 : zfld RX1 127 0 52 13 := ⟨RX1, TX1, zcls0, (Nat.le_of_ble_eq_true rfl), rfl, (Or.inl q164)⟩
theorem fl_X1_133 : zfld RX1 133 0 52 12 := ⟨RX1, TX1, zcls0, (Nat.le_of_ble_eq_true rfl), rfl, (Or.inl q163)⟩
theorem fl_X1_153 : zfld RX1 153 0 52 17 := ⟨RX1, TX1, zcls0, (Nat.le_of_ble_eq_true rfl), rfl, (Or.inl q168)⟩
theorem fl_X1_16 : zfld RX1 16 0 52 1 := ⟨RX1, TX1, zcls0, (Nat.le_of_ble_eq_true rfl), rfl, (Or.inl q151)⟩
theorem fl_X1_173 : zfld RX1 173 0 52 28 := ⟨RX1, TX1, zcls0, (Nat.le_of_ble_eq_true rfl), rfl, (Or.inl q186)⟩
theorem fl_X1_19 : zfld RX1 19 0 52 2 := ⟨RX1, TX1, zcls0, (Nat.le_of_ble_eq_true rfl), rfl, (Or.inl q152)⟩
theorem fl_X1_22 : zfld RX1 22 0 52 3 := ⟨RX1, TX1, zcls0, (Nat.le_of_ble_eq_true rfl), rfl, (Or.inl q153)⟩
theorem fl_X1_231 : zfld RX1 231 0 52 26 := ⟨RX1, TX1, zcls0, (Nat.le_of_ble_eq_true rfl), rfl, (Or.inl q184)⟩
theorem fl_X1_238 : zfld RX1 238 1 6 0 := ⟨RX2, TX2, zcls1, (Nat.le_of_ble_eq_true rfl), rfl, (Or.inr (List.mem_of_getElem? (i := 1) rfl))⟩
theorem fl_X1_241 : zfld RX1 241 1 6 1 := ⟨RX2, TX2, zcls1, (Nat.le_of_ble_eq_true rfl), rfl, (Or.inr (List.mem_of_getElem? (i := 2) rfl))⟩
theorem fl_X1_26 : zfld RX1 26 0 52 4 := ⟨RX1, TX1, zcls0, (Nat.le_of_ble_eq_true rfl), rfl, (Or.inl q155)⟩
theorem fl_X1_264 : zfld RX1 264 0 52 51 := ⟨RX1, TX1, zcls0, (Nat.le_of_ble_eq_true rfl), rfl, (Or.inl q209)⟩
theorem fl_X1_275 : zfld RX1 275 1 6 2 := ⟨RX2, TX2, zcls1, (Nat.le_of_ble_eq_true rfl), rfl, (Or.inr (List.mem_of_getElem? (i := 3) rfl))⟩
theorem fl_X1_285 : zfld RX1 285 1 6 5 := ⟨RX2, TX2, zcls1, (Nat.le_of_ble_eq_true rfl), rfl, (Or.inr (List.mem_of_getElem? (i := 6) rfl))⟩
theorem fl_X1_288 : zfld RX1 288 0 52 29 := ⟨RX1, TX1, zcls0, (Nat.le_of_ble_eq_true rfl), rfl, (Or.inl q187)⟩
theorem fl_X1_29 : zfld RX1 29 0 52 5 := ⟨RX1, TX1, zcls0, (Nat.le_of_ble_eq_true rfl), rfl, (Or.inl q156)⟩
theorem fl_X1_297 : zfld RX1 297 1 6 4 := ⟨RX2, TX2, zcls1, (Nat.le_of_ble_eq_true rfl), rfl, (Or.inr (List.mem_of_getElem? (i := 5) rfl))⟩
theorem fl_X1_32 : zfld RX1 32 0 52 6 := ⟨RX1, TX1, zcls0, (Nat.le_of_ble_eq_true rfl), rfl, (Or.inl q157)⟩
theorem fl_X1_324 : zfld RX1 324 1 6 3 := ⟨RX2, TX2, zcls1, (Nat.le_of_ble_eq_true rfl), rfl, (Or.inr (List.mem_of_getElem? (i := 4) rfl))⟩
theorem fl_X1_35 : zfld RX1 35 0 52 9 := ⟨RX1, TX1, zcls0, (Nat.le_of_ble_eq_true rfl), rfl, (Or.inl q160)⟩
theorem fl_X1_365 : zfld RX1 365 0 52 34 := ⟨RX1, TX1, zcls0, (Nat.le_of_ble_eq_true rfl), rfl, (Or.inl q192)⟩
theorem fl_X1_38 : zfld RX1 38 0 52 14 := ⟨RX1, TX1, zcls0, (Nat.le_of_ble_eq_true rfl), rfl, (Or.inl q165)⟩
theorem fl_X1_381 : zfld RX1 381 0 52 36 := ⟨RX1, TX1, zcls0, (Nat.le_of_ble_eq_true rfl), rfl, (Or.inl q194)⟩
theorem fl_X1_41 : zfld RX1 41 0 52 15 := ⟨RX1, TX1, zcls0, (Nat.le_of_ble_eq_true rfl), rfl, (Or.inl q166)⟩
theorem fl_X1_417 : zfld RX1 417 0 52 41 := ⟨RX1, TX1, zcls0, (Nat.le_of_ble_eq_true rfl), rfl, (Or.inl q199)⟩
theorem fl_X1_420 : zfld RX1 420 0 52 42 := ⟨RX1, TX1, zcls0, (Nat.le_of_ble_eq_true rfl), rfl, (Or.inl q200)⟩
theorem fl_X1_430 : zfld RX1 430 0 52 43 := ⟨RX1, TX1, zcls0, (Nat.le_of_ble_eq_true rfl), rfl, (Or.inl q201)⟩
theorem fl_X1_433 : zfld RX1 433 0 52 44 := ⟨RX1, TX1, zcls0, (Nat.le_of_ble_eq_true rfl), rfl, (Or.inl q202)⟩
theorem fl_X1_44 : zfld RX1 44 0 52 16 := ⟨RX1, TX1, zcls0, (Nat.le_of_ble_eq_true rfl), rfl, (Or.inl q167)⟩
theorem fl_X1_445 : zfld RX1 445 0 52 47 := ⟨RX1, TX1, zcls0, (Nat.le_of_ble_eq_true rfl), rfl, (Or.inl q205)⟩
theorem fl_X1_47 : zfld RX1 47 0 52 18 := ⟨RX1, TX1, zcls0, (Nat.le_of_ble_eq_true rfl), rfl, (Or.inl q169)⟩
theorem fl_X1_50 : zfld RX1 50 0 52 27 := ⟨RX1, TX1, zcls0, (Nat.le_of_ble_eq_true rfl), rfl, (Or.inl q185)⟩
theorem fl_X1_54 : zfld RX1 54 0 52 30 := ⟨RX1, TX1, zcls0, (Nat.le_of_ble_eq_true rfl), rfl, (Or.inl q188)⟩
theorem fl_X1_57 : zfld RX1 57 0 52 31 := ⟨RX1, TX1, zcls0, (Nat.le_of_ble_eq_true rfl), rfl, (Or.inl q189)⟩
theorem fl_X1_60 : zfld RX1 60 0 52 32 := ⟨RX1, TX1, zcls0, (Nat.le_of_ble_eq_true rfl), rfl, (Or.inl q190)⟩
theorem fl_X1_63 : zfld RX1 63 0 52 33 := ⟨RX1, TX1, zcls0, (Nat.le_of_ble_eq_true rfl), rfl, (Or.inl q191)⟩
theorem fl_X1_66 : zfld RX1 66 0 52 35 := ⟨RX1, TX1, zcls0, (Nat.le_of_ble_eq_true rfl), rfl, (Or.inl q193)⟩
theorem fl_X1_69 : zfld RX1 69 0 52 37 := ⟨RX1, TX1, zcls0, (Nat.le_of_ble_eq_true rfl), rfl, (Or.inl q195)⟩
theorem fl_X1_72 : zfld RX1 72 0 52 38 := ⟨RX1, TX1, zcls0, (Nat.le_of_ble_eq_true rfl), rfl, (Or.inl q196)⟩
theorem fl_X1_75 : zfld RX1 75 0 52 39 := ⟨RX1, TX1, zcls0, (Nat.le_of_ble_eq_true rfl), rfl, (Or.inl q197)⟩
theorem fl_X1_78 : zfld RX1 78 0 52 40 := ⟨RX1, TX1, zcls0, (Nat.le_of_ble_eq_true rfl), rfl, (Or.inl q198)⟩
theorem fl_X1_81 : zfld RX1 81 0 52 45 := ⟨RX1, TX1, zcls0, (Nat.le_of_ble_eq_true rfl), rfl, (Or.inl q203)⟩
theorem fl_X1_84 : zfld RX1 84 0 52 46 := ⟨RX1, TX1, zcls0, (Nat.le_of_ble_eq_true rfl), rfl, (Or.inl q204)⟩
theorem fl_X1_87 : zfld RX1 87 0 52 48 := ⟨RX1, TX1, zcls0, (Nat.le_of_ble_eq_true rfl), rfl, (Or.inl q206)⟩
theorem fl_X1_90 : zfld RX1 90 0 52 49 := ⟨RX1, TX1, zcls0, (Nat.le_of_ble_eq_true rfl), rfl, (Or.inl q207)⟩
theorem fl_X1_93 : zfld RX1 93 0 52 50 := ⟨RX1, TX1, zcls0, (Nat.le_of_ble_eq_true rfl), rfl, (Or.inl q208)⟩
theorem fl_X1_96 : zfld RX1 96 0 52 7 := ⟨RX1, TX1, zcls0, (Nat.le_of_ble_eq_true rfl), rfl, (Or.inl q158)⟩
theorem fl_X2_15 : zfld RX2 15 1 6 1 := ⟨RX2, TX2, zcls1, (Nat.le_of_ble_eq_true rfl), rfl, (Or.inl q125)⟩
theorem fl_X2_18 : zfld RX2 18 1 6 2 := ⟨RX2, TX2, zcls1, (Nat.le_of_ble_eq_true rfl), rfl, (Or.inl q127)⟩
theorem fl_X2_21 : zfld RX2 21 1 6 3 := ⟨RX2, TX2, zcls1, (Nat.le_of_ble_eq_true rfl), rfl, (Or.inl q129)⟩
theorem fl_X2_30 : zfld RX2 30 1 6 4 := ⟨RX2, TX2, zcls1, (Nat.le_of_ble_eq_true rfl), rfl, (Or.inl q131)⟩
theorem fl_X2_9 : zfld RX2 9 1 6 0 := ⟨RX2, TX2, zcls1, (Nat.le_of_ble_eq_true rfl), rfl, (Or.inl q123)⟩
theorem fl_X3_105 : zfld RX3 105 2 52 8 := ⟨RX3, TX3, zcls2, (Nat.le_of_ble_eq_true rfl), rfl, (Or.inl q1047)⟩
theorem fl_X3_108 : zfld RX3 108 2 52 12 := ⟨RX3, TX3, zcls2, (Nat.le_of_ble_eq_true rfl), rfl, (Or.inl q1051)⟩
theorem fl_X3_111 : zfld RX3 111 2 52 13 := ⟨RX3, TX3, zcls2, (Nat.le_of_ble_eq_true rfl), rfl, (Or.inl q1052)⟩
theorem fl_X3_114 : zfld RX3 114 2 52 14 := ⟨RX3, TX3, zcls2, (Nat.le_of_ble_eq_true rfl), rfl, (Or.inl q1053)⟩
theorem fl_X3_117 : zfld RX3 117 2 52 15 := ⟨RX3, TX3, zcls2, (Nat.le_of_ble_eq_true rfl), rfl, (Or.inl q1054)⟩
theorem fl_X3_120 : zfld RX3 120 2 52 16 := ⟨RX3, TX3, zcls2, (Nat.le_of_ble_eq_true rfl), rfl, (Or.inl q1055)⟩
theorem fl_X3_13 : zfld RX3 13 2 52 2 := ⟨RX3, TX3, zcls2, (Nat.le_of_ble_eq_true rfl), rfl, (Or.inl q1041)⟩
theorem fl_X3_151 : zfld RX3 151 2 52 32 := ⟨RX3, TX3, zcls2, (Nat.le_of_ble_eq_true rfl), rfl, (Or.inl q1071)⟩
theorem fl_X3_154 : zfld RX3 154 2 52 48 := ⟨RX3, TX3, zcls2, (Nat.le_of_ble_eq_true rfl), rfl, (Or.inl q1087)⟩
theorem fl_X3_157 : zfld RX3 157 2 52 6 := ⟨RX3, TX3, zcls2, (Nat.le_of_ble_eq_true rfl), rfl, (Or.inl q1045)⟩
theorem fl_X3_16 : zfld RX3 16 2 52 3 := ⟨RX3, TX3, zcls2, (Nat.le_of_ble_eq_true rfl), rfl, (Or.inl q1042)⟩
theorem fl_X3_183 : zfld RX3 183 2 52 20 := ⟨RX3, TX3, zcls2, (Nat.le_of_ble_eq_true rfl), rfl, (Or.inl q1059)⟩
theorem fl_X3_19 : zfld RX3 19 2 52 4 := ⟨RX3, TX3, zcls2, (Nat.le_of_ble_eq_true rfl), rfl, (Or.inl q1043)⟩
theorem fl_X3_190 : zfld RX3 190 2 52 21 := ⟨RX3, TX3, zcls2, (Nat.le_of_ble_eq_true rfl), rfl, (Or.inl q1060)⟩
theorem fl_X3_193 : zfld RX3 193 2 52 22 := ⟨RX3, TX3, zcls2, (Nat.le_of_ble_eq_true rfl), rfl, (Or.inl q1061)⟩
theorem fl_X3_196 : zfld RX3 196 2 52 23 := ⟨RX3, TX3, zcls2, (Nat.le_of_ble_eq_true rfl), rfl, (Or.inl q1062)⟩
theorem fl_X3_202 : zfld RX3 202 2 52 24 := ⟨RX3, TX3, zcls2, (Nat.le_of_ble_eq_true rfl), rfl, (Or.inl q1063)⟩
theorem fl_X3_205 : zfld RX3 205 2 52 26 := ⟨RX3, TX3, zcls2, (Nat.le_of_ble_eq_true rfl), rfl, (Or.inl q1065)⟩
theorem fl_X3_208 : zfld RX3 208 2 52 25 := ⟨RX3, TX3, zcls2, (Nat.le_of_ble_eq_true rfl), rfl, (Or.inl q1064)⟩
theorem fl_X3_211 : zfld RX3 211 2 52 19 := ⟨RX3, TX3, zcls2, (Nat.le_of_ble_eq_true rfl), rfl, (Or.inl q1058)⟩
theorem fl_X3_22 : zfld RX3 22 2 52 5 := ⟨RX3, TX3, zcls2, (Nat.le_of_ble_eq_true rfl), rfl, (Or.inl q1044)⟩
theorem fl_X3_237 : zfld RX3 237 2 52 27 := ⟨RX3, TX3, zcls2, (Nat.le_of_ble_eq_true rfl), rfl, (Or.inl q1066)⟩
theorem fl_X3_240 : zfld RX3 240 2 52 28 := ⟨RX3, TX3, zcls2, (Nat.le_of_ble_eq_true rfl), rfl, (Or.inl q1067)⟩
theorem fl_X3_243 : zfld RX3 243 2 52 30 := ⟨RX3, TX3, zcls2, (Nat.le_of_ble_eq_true rfl), rfl, (Or.inl q1069)⟩
theorem fl_X3_25 : zfld RX3 25 2 52 7 := ⟨RX3, TX3, zcls2, (Nat.le_of_ble_eq_true rfl), rfl, (Or.inl q1046)⟩
theorem fl_X3_29 : zfld RX3 29 2 52 9 := ⟨RX3, TX3, zcls2, (Nat.le_of_ble_eq_true rfl), rfl, (Or.inl q1048)⟩
theorem fl_X3_296 : zfld RX3 296 2 52 37 := ⟨RX3, TX3, zcls2, (Nat.le_of_ble_eq_true rfl), rfl, (Or.inl q1076)⟩
theorem fl_X3_32 : zfld RX3 32 2 52 17 := ⟨RX3, TX3, zcls2, (Nat.le_of_ble_eq_true rfl), rfl, (Or.inl q1056)⟩
theorem fl_X3_339 : zfld RX3 339 2 52 44 := ⟨RX3, TX3, zcls2, (Nat.le_of_ble_eq_true rfl), rfl, (Or.inl q1083)⟩
theorem fl_X3_342 : zfld RX3 342 2 52 45 := ⟨RX3, TX3, zcls2, (Nat.le_of_ble_eq_true rfl), rfl, (Or.inl q1084)⟩
theorem fl_X3_35 : zfld RX3 35 2 52 18 := ⟨RX3, TX3, zcls2, (Nat.le_of_ble_eq_true rfl), rfl, (Or.inl q1057)⟩
theorem fl_X3_354 : zfld RX3 354 2 52 47 := ⟨RX3, TX3, zcls2, (Nat.le_of_ble_eq_true rfl), rfl, (Or.inl q1086)⟩
theorem fl_X3_38 : zfld RX3 38 2 52 29 := ⟨RX3, TX3, zcls2, (Nat.le_of_ble_eq_true rfl), rfl, (Or.inl q1068)⟩
theorem fl_X3_41 : zfld RX3 41 2 52 31 := ⟨RX3, TX3, zcls2, (Nat.le_of_ble_eq_true rfl), rfl, (Or.inl q1070)⟩
theorem fl_X3_44 : zfld RX3 44 2 52 33 := ⟨RX3, TX3, zcls2, (Nat.le_of_ble_eq_true rfl), rfl, (Or.inl q1072)⟩
theorem fl_X3_47 : zfld RX3 47 2 52 34 := ⟨RX3, TX3, zcls2, (Nat.le_of_ble_eq_true rfl), rfl, (Or.inl q1073)⟩
theorem fl_X3_50 : zfld RX3 50 2 52 35 := ⟨RX3, TX3, zcls2, (Nat.le_of_ble_eq_true rfl), rfl, (Or.inl q1074)⟩
theorem fl_X3_53 : zfld RX3 53 2 52 36 := ⟨RX3, TX3, zcls2, (Nat.le_of_ble_eq_true rfl), rfl, (Or.inl q1075)⟩
theorem fl_X3_56 : zfld RX3 56 2 52 38 := ⟨RX3, TX3, zcls2, (Nat.le_of_ble_eq_true rfl), rfl, (Or.inl q1077)⟩
theorem fl_X3_59 : zfld RX3 59 2 52 39 := ⟨RX3, TX3, zcls2, (Nat.le_of_ble_eq_true rfl), rfl, (Or.inl q1078)⟩
theorem fl_X3_62 : zfld RX3 62 2 52 40 := ⟨RX3, TX3, zcls2, (Nat.le_of_ble_eq_true rfl), rfl, (Or.inl q1079)⟩
theorem fl_X3_65 : zfld RX3 65 2 52 41 := ⟨RX3, TX3, zcls2, (Nat.le_of_ble_eq_true rfl), rfl, (Or.inl q1080)⟩
theorem fl_X3_68 : zfld RX3 68 2 52 42 := ⟨RX3, TX3, zcls2, (Nat.le_of_ble_eq_true rfl), rfl, (Or.inl q1081)⟩
theorem fl_X3_71 : zfld RX3 71 2 52 43 := ⟨RX3, TX3, zcls2, (Nat.le_of_ble_eq_true rfl), rfl, (Or.inl q1082)⟩
theorem fl_X3_74 : zfld RX3 74 2 52 46 := ⟨RX3, TX3, zcls2, (Nat.le_of_ble_eq_true rfl), rfl, (Or.inl q1085)⟩
theorem fl_X3_77 : zfld RX3 77 2 52 49 := ⟨RX3, TX3, zcls2, (Nat.le_of_ble_eq_true rfl), rfl, (Or.inl q1088)⟩
theorem fl_X3_80 : zfld RX3 80 2 52 50 := ⟨RX3, TX3, zcls2, (Nat.le_of_ble_eq_true rfl), rfl, (Or.inl q1089)⟩
theorem fl_X3_84 : zfld RX3 84 2 52 51 := ⟨RX3, TX3, zcls2, (Nat.le_of_ble_eq_true rfl), rfl, (Or.inl q1090)⟩
theorem fl_X3_87 : zfld RX3 87 2 52 11 := ⟨RX3, TX3, zcls2, (Nat.le_of_ble_eq_true rfl), rfl, (Or.inl q1050)⟩
theorem fl_X3_9 : zfld RX3 9 2 52 0 := ⟨RX3, TX3, zcls2, (Nat.le_of_ble_eq_true rfl), rfl, (Or.inl q1039)⟩
theorem fl_X3_91 : zfld RX3 91 2 52 10 := ⟨RX3, TX3, zcls2, (Nat.le_of_ble_eq_true rfl), rfl, (Or.inl q1049)⟩
theorem fl_X3_94 : zfld RX3 94 2 52 1 := ⟨RX3, TX3, zcls2, (Nat.le_of_ble_eq_true rfl), rfl, (Or.inl q1040)⟩
theorem fl_X5_13 : zfld RX5 13 3 3 1 := ⟨RX5, TX5, zcls3, (Nat.le_of_ble_eq_true rfl), rfl, (Or.inl q496)⟩
theorem fl_X6_13 : zfld RX6 13 4 3 1 := ⟨RX6, TX6, zcls4, (Nat.le_of_ble_eq_true rfl), rfl, (Or.inl q512)⟩
theorem fl_X7_1 : zfld RX7 1 5 3 2 := ⟨RX7, TX7, zcls5, (Nat.le_of_ble_eq_true rfl), rfl, (Or.inl q528)⟩
theorem fl_X7_13 : zfld RX7 13 5 3 1 := ⟨RX7, TX7, zcls5, (Nat.le_of_ble_eq_true rfl), rfl, (Or.inl q527)⟩
theorem fl_X7_17 : zfld RX7 17 0 52 19 := ⟨RX1, TX1, zcls0, (Nat.le_of_ble_eq_true rfl), rfl, (Or.inr (List.mem_of_getElem? (i := 12) rfl))⟩
theorem fl_X7_22 : zfld RX7 22 0 52 20 := ⟨RX1, TX1, zcls0, (Nat.le_of_ble_eq_true rfl), rfl, (Or.inr (List.mem_of_getElem? (i := 13) rfl))⟩
theorem fl_X7_25 : zfld RX7 25 0 52 21 := ⟨RX1, TX1, zcls0, (Nat.le_of_ble_eq_true rfl), rfl, (Or.inr (List.mem_of_getElem? (i := 14) rfl))⟩
theorem fl_X7_28 : zfld RX7 28 0 52 3 := ⟨RX1, TX1, zcls0, (Nat.le_of_ble_eq_true rfl), rfl, (Or.inr (List.mem_of_getElem? (i := 11) rfl))⟩
theorem fl_X7_32 : zfld RX7 32 0 52 24 := ⟨RX1, TX1, zcls0, (Nat.le_of_ble_eq_true rfl), rfl, (Or.inr (List.mem_of_getElem? (i := 17) rfl))⟩
theorem fl_X7_35 : zfld RX7 35 0 52 22 := ⟨RX1, TX1, zcls0, (Nat.le_of_ble_eq_true rfl), rfl, (Or.inr (List.mem_of_getElem? (i := 15) rfl))⟩
theorem fl_X7_38 : zfld RX7 38 0 52 23 := ⟨RX1, TX1, zcls0, (Nat.le_of_ble_eq_true rfl), rfl, (Or.inr (List.mem_of_getElem? (i := 16) rfl))⟩
theorem fl_X7_41 : zfld RX7 41 0 52 25 := ⟨RX1, TX1, zcls0, (Nat.le_of_ble_eq_true rfl), rfl, (Or.inr (List.mem_of_getElem? (i := 18) rfl))⟩
theorem fl_X8_13 : zfld RX8 13 6 5 1 := ⟨RX8, TX8, zcls6, (Nat.le_of_ble_eq_true rfl), rfl, (Or.inl q547)⟩
theorem fl_X8_17 : zfld RX8 17 6 5 2 := ⟨RX8, TX8, zcls6, (Nat.le_of_ble_eq_true rfl), rfl, (Or.inl q548)⟩
theorem fl_X8_21 : zfld RX8 21 6 5 3 := ⟨RX8, TX8, zcls6, (Nat.le_of_ble_eq_true rfl), rfl, (Or.inl q549)⟩
theorem nl_X1_197 : zlkN RX1 197 3 3 := ⟨RX5, TX5, zcls3, by decide +kernel, q487, q488, q100⟩
theorem nl_X1_202 : zlkN RX1 202 4 3 := ⟨RX6, TX6, zcls4, by decide +kernel, q506, q507, q101⟩
theorem nl_X1_209 : zlkN RX1 209 5 3 := ⟨RX7, TX7, zcls5, by decide +kernel, q521, q522, q102⟩
theorem nl_X1_226 : zlkN RX1 226 6 5 := ⟨RX8, TX8, zcls6, by decide +kernel, q541, q542, q103⟩
theorem nl_X1_9 : zlkN RX1 9 1 6 := ⟨RX2, TX2, zcls1, by decide +kernel, q117, q118, q90⟩
theorem zMet_none {y : MethodName} {co : ByteArray} {mL : Nat} {ret : Option FieldType} {rk d : Nat} : zMet y co mL ret rk d (fun _ _ => none) := ⟨fun _ _ _ _ e => (by cases e), fun _ _ _ _ _ _ _ _ e => (by cases e)⟩
theorem zrcv_none {c n : Nat} : zrcv c n (fun _ _ => none) := fun _ _ _ e => by cases e
/-- entry ix of class own is Node.value -/
def zvl (own : String) (ix dF : Nat) (F : Mth) : Prop := ∀ (cc : ByteArray) (nL d : Nat) (ini : Bool) (pc : Nat), dF + 1 ≤ d → decode cc pc = .ok (.invokevirtual ix, 3) → zinv own cc nL d ini pc 1 0 F
